/-! THE COMPONENT's methods, walked: what each computes (gv_ of a village, gh_), that its code computes it (kv_x.., kh_). Printed by wip/D-73134w/gen/comp.py -/
set_option maxRecDepth 100000
theorem wh_isLower : zs_mV RX0 yX0_isLower cX0_isLower 3 (some .boolean) 1 := ⟨q1408, qs48, q134, q1409, by decide, by decide +kernel⟩
def gh_isLower_L2 (a1 : Int32) (M : cs_S) : (Int32) → Option ((Int32) ⊕ ((Int32) ⊕ (Bool))) := fun t2 =>
if t2 < a1 then ((zs_ald 6 (M.2 0 18) t2).bind fun x1 =>
(zs_ald 6 (M.2 0 17) t2).bind fun x2 =>
if x1 = x2 then (some (Sum.inl (t2 + 1)))
else (some (Sum.inr (Sum.inl t2))))
else (some (Sum.inr (Sum.inr false)))
def gh_isLower (T : zt_T) (M : cs_S) (a1 : Int32) : Option (Bool) :=
(zs_loop 5000 (gh_isLower_L2 a1 M) 0).bind (Sum.elim (fun (r3 : Int32) =>
(zs_ald 6 (M.2 0 18) r3).bind fun x4 =>
(zs_ald 6 (M.2 0 17) r3).bind fun x5 =>
if x4 < x5 then (some true)
else (some false))
 (fun z => some z))
set_option maxHeartbeats 4000000 in
theorem kh_isLower (D : zs_D) (W : cs_W) (P : Nat → Bool) (h0 : zs_AH) (c : Nat) (M : cs_S) (a1 : Int32) : zs_Con D (cs_R W P h0 c) cs_bd zs_eB yX0_isLower cX0_isLower 3 (some .boolean) 0 [.ref (c + 0), .int a1] M ((gh_isLower W.2.1 M a1).map fun x => (x, M)) := by
  unfold gh_isLower
  refine zs_conR (own := RX0) (nm := "isLower") pl_X0 rfl rfl (Nat.le_of_ble_eq_true rfl) ?_
  refine zs_lv (lv' := [(0, .ref (c + 0)), (1, .int a1)]) rfl ?_
  refine zs_iconst (pc := 0) (v := 0) dX0_isLower_0 rfl ?_
  refine zs_istore_n (pc := 1) (lv' := [(0, .ref (c + 0)), (1, .int a1), (2, .int 0)]) [1, 2, 0] dX0_isLower_1 rfl (by decide) rfl ?_
  refine zs_whileR (pc := 2) (fun (t2 : Int32) => M) (fun (t2 : Int32) => [(0, .ref (c + 0)), (1, .int a1), (2, .int t2)]) 5000 0 (fun (r3 : Int32) => M) 22 (fun (r3 : Int32) => [(0, .ref (c + 0)), (2, .int r3)]) [] (fun r3 => ?_) (fun X2 hL2 hE2 hR2 t2 => ?_)
  · refine zs_aload_n (pc := 22) 0 dX0_isLower_22 rfl rfl ?_
    refine cs_getr (pc := 23) 0 0 18 (v := .ref (c + 149)) ⟨⟨by decide, by decide⟩, rfl⟩ zc_X0 ⟨rfl, rfl⟩ (by decide) rfl rfl q547 dX0_isLower_23 ?_
    refine zs_iload_n (pc := 26) 1 dX0_isLower_26 rfl rfl ?_
    refine cs_iald (pc := 27) 149 0 18 ⟨⟨by decide, by decide⟩, rfl, rfl, rfl⟩ dX0_isLower_27 (fun x4 => ?_)
    refine zs_aload_n (pc := 28) 0 dX0_isLower_28 rfl rfl ?_
    refine cs_getr (pc := 29) 0 0 17 (v := .ref (c + 148)) ⟨⟨by decide, by decide⟩, rfl⟩ zc_X0 ⟨rfl, rfl⟩ (by decide) rfl rfl q546 dX0_isLower_29 ?_
    refine zs_iload_n (pc := 32) 1 dX0_isLower_32 rfl rfl ?_
    refine cs_iald (pc := 33) 148 0 17 ⟨⟨by decide, by decide⟩, rfl, rfl, rfl⟩ dX0_isLower_33 (fun x5 => ?_)
    refine zs_icmp_ge (pc := 34) (tgt := 41) dX0_isLower_34 (by decide) ?_ ?_
    · refine zs_iconst (pc := 37) (v := 1) dX0_isLower_37 rfl ?_
      refine zs_goto (pc := 38) (tgt := 42) dX0_isLower_38 (by decide) ?_
      exact zs_iret (pc := 42) dX0_isLower_42 rfl rfl rfl
    · refine zs_iconst (pc := 41) (v := 0) dX0_isLower_41 rfl ?_
      exact zs_iret (pc := 42) dX0_isLower_42 rfl rfl rfl
  · unfold gh_isLower_L2
    refine zs_iload_n (pc := 2) 2 dX0_isLower_2 rfl rfl ?_
    refine zs_iload_n (pc := 3) 1 dX0_isLower_3 rfl rfl ?_
    refine zs_icmp_ge (pc := 4) (tgt := 49) dX0_isLower_4 (by decide) ?_ ?_
    · refine zs_aload_n (pc := 7) 0 dX0_isLower_7 rfl rfl ?_
      refine cs_getr (pc := 8) 0 0 18 (v := .ref (c + 149)) ⟨⟨by decide, by decide⟩, rfl⟩ zc_X0 ⟨rfl, rfl⟩ (by decide) rfl rfl q547 dX0_isLower_8 ?_
      refine zs_iload_n (pc := 11) 2 dX0_isLower_11 rfl rfl ?_
      refine cs_iald (pc := 12) 149 0 18 ⟨⟨by decide, by decide⟩, rfl, rfl, rfl⟩ dX0_isLower_12 (fun x1 => ?_)
      refine zs_aload_n (pc := 13) 0 dX0_isLower_13 rfl rfl ?_
      refine cs_getr (pc := 14) 0 0 17 (v := .ref (c + 148)) ⟨⟨by decide, by decide⟩, rfl⟩ zc_X0 ⟨rfl, rfl⟩ (by decide) rfl rfl q546 dX0_isLower_14 ?_
      refine zs_iload_n (pc := 17) 2 dX0_isLower_17 rfl rfl ?_
      refine cs_iald (pc := 18) 148 0 17 ⟨⟨by decide, by decide⟩, rfl, rfl, rfl⟩ dX0_isLower_18 (fun x2 => ?_)
      refine zs_icmp_eq (pc := 19) (tgt := 43) dX0_isLower_19 (by decide) ?_ ?_
      · refine zs_iinc (pc := 43) (lv' := [(0, .ref (c + 0)), (1, .int a1), (2, .int (t2 + 1))]) 2 [1, 2, 0] dX0_isLower_43 rfl rfl (by decide) rfl ?_
        refine zs_goto (pc := 46) (tgt := 2) dX0_isLower_46 (by decide) ?_
        exact hL2 (t2 + 1)
      · refine zs_sub (lv' := [(0, .ref (c + 0)), (2, .int t2)]) [0, 2] rfl ?_
        exact hE2 t2
    · refine zs_iconst (pc := 49) (v := 0) dX0_isLower_49 rfl ?_
      exact zs_iret (pc := 50) dX0_isLower_50 ((hR2 _).trans rfl) rfl rfl
theorem wh_fewest : zs_mV RX0 yX0_fewest cX0_fewest 7 (some .int) 2 := ⟨q1392, q1393, q134, q1394, by decide, by decide +kernel⟩
def gh_fewest_L103 (x5 : Int32) : (Int32 × cs_S) → Option ((Int32 × cs_S) ⊕ (Int32 × cs_S)) := fun t103 =>
if t103.1 < x5 then ((zs_ald 6 (t103.2.2 0 18) t103.1).bind fun x11 =>
(zs_ast 6 t103.1 (cs_sA t103.2 0 17 t103.1 x11)).bind fun M12 =>
some (Sum.inl ((t103.1 + 1), M12)))
else (some (Sum.inr (x5, t103.2)))
def gh_fewest_L38 (T : zt_T) (a1 : Int32) : (Int32 × Int32 × cs_S) → Option ((Int32 × Int32 × cs_S) ⊕ (Int32 × cs_S)) := fun t38 =>
(gh_allHouses T t38.2.2).bind fun x4 =>
if t38.2.1 < x4 then ((g_J16_bitCount t38.2.1).bind fun x5 =>
(if t38.1 < x5 then (some (t38.1, t38.2.2))
else ((gh_reaching T t38.2.2 t38.2.1).bind fun x8 =>
if x8 = 0 then (some (t38.1, t38.2.2))
else ((gh_laysRow T t38.2.2 t38.2.1 a1).bind fun M9 =>
zs_let (fun (p10 : Unit) => (zs_loop 5000 (gh_fewest_L103 x5) (0, M9)).bind fun (r13 : Int32 × cs_S) =>
some (r13.1, r13.2)) fun J97 =>
if x5 = t38.1 then ((gh_isLower T M9 x5).bind fun b14 =>
if b14 = true then (J97 ())
else (some (t38.1, M9)))
else (J97 ())))).bind fun (p6 : Int32 × cs_S) =>
(some p6.2).bind fun M7 =>
some (Sum.inl (p6.1, (t38.2.1 + 1), M7)))
else (some (Sum.inr (t38.1, t38.2.2)))
def gh_fewest (T : zt_T) (M : cs_S) (a1 : Int32) (a2 : Int32) : Option (Int32 × cs_S) :=
(gh_isHaul a1).bind fun b1 =>
if b1 = true then (if a2 < (-1) then (some ((-1), M))
else ((gh_laysJoins T M 0).bind fun M2 =>
(gh_laysWays T M2 0 a1).bind fun M3 =>
(zs_loop 5000 (gh_fewest_L38 T a1) (1000000, 1, M3)).bind fun (r15 : Int32 × cs_S) =>
if r15.1 = 1000000 then (some ((-2), r15.2))
else (if a2 = (-1) then (some (r15.1, r15.2))
else (if a2 < r15.1 then ((zs_ald 6 (r15.2.2 0 17) a2).bind fun x16 =>
some (x16, r15.2))
else (some ((-1), r15.2))))))
else (some ((-1), M))
set_option maxHeartbeats 4000000 in
theorem kh_fewest (D : zs_D) (W : cs_W) (P : Nat → Bool) (h0 : zs_AH) (c : Nat) (M : cs_S) (a1 : Int32) (a2 : Int32) : zs_Con D (cs_R W P h0 c) cs_bd zs_eI yX0_fewest cX0_fewest 7 (some .int) 425 [.ref (c + 0), .int a1, .int a2] M (gh_fewest W.2.1 M a1 a2) := by
  unfold gh_fewest
  refine zs_con (own := RX0) (nm := "fewest") pl_X0 rfl rfl (Nat.le_of_ble_eq_true rfl) ?_
  refine zs_lv (lv' := [(0, .ref (c + 0)), (1, .int a1), (2, .int a2)]) rfl ?_
  refine zs_iload_n (pc := 0) 1 dX0_fewest_0 rfl rfl ?_
  refine zs_callSrB (pc := 1) [.int a1] [] (kh_isHaul D _ _ M a1) wh_isHaul q1245 dX0_fewest_1 rfl rfl (Nat.le_of_ble_eq_true rfl) (Nat.le_of_ble_eq_true rfl) (fun b1 => ?_)
  refine zs_if_f (pc := 4) (tgt := 12) dX0_fewest_4 (by decide) ?_ ?_
  · refine zs_iload_n (pc := 7) 2 dX0_fewest_7 rfl rfl ?_
    refine zs_iconst (pc := 8) (v := (-1)) dX0_fewest_8 rfl ?_
    refine zs_icmp_ge (pc := 9) (tgt := 14) dX0_fewest_9 (by decide) ?_ ?_
    · refine zs_iconst (pc := 12) (v := (-1)) dX0_fewest_12 rfl ?_
      exact zs_iret (pc := 13) dX0_fewest_13 rfl rfl rfl
    · refine zs_ldcw (pc := 14) (v := 1000000) q1395 dX0_fewest_14 ?_
      refine zs_istore_n (pc := 17) (lv' := [(0, .ref (c + 0)), (1, .int a1), (2, .int a2), (3, .int 1000000)]) [1, 2, 3, 0] dX0_fewest_17 rfl (by decide) rfl ?_
      refine zs_aload_n (pc := 18) 0 dX0_fewest_18 rfl rfl ?_
      refine zs_aload_n (pc := 19) 0 dX0_fewest_19 rfl rfl ?_
      refine cs_getr (pc := 20) 0 0 7 (v := .ref (c + cs_va 0)) ⟨⟨by decide, by decide⟩, rfl⟩ zc_X0 ⟨rfl, rfl⟩ (by decide) rfl rfl q536 dX0_fewest_20 ?_
      refine zs_callVv (pc := 23) [.ref (c + cs_va 0)] [] (kh_laysJoins D W P h0 c M 0 (by omega)) wh_laysJoins q1354 zc_X0 cs_rcv0 dX0_fewest_23 rfl rfl (Nat.le_of_ble_eq_true rfl) (Nat.le_of_ble_eq_true rfl) (fun M2 => ?_)
      refine zs_aload_n (pc := 26) 0 dX0_fewest_26 rfl rfl ?_
      refine zs_aload_n (pc := 27) 0 dX0_fewest_27 rfl rfl ?_
      refine cs_getr (pc := 28) 0 0 7 (v := .ref (c + cs_va 0)) ⟨⟨by decide, by decide⟩, rfl⟩ zc_X0 ⟨rfl, rfl⟩ (by decide) rfl rfl q536 dX0_fewest_28 ?_
      refine zs_iload_n (pc := 31) 1 dX0_fewest_31 rfl rfl ?_
      refine zs_callVv (pc := 32) [.ref (c + cs_va 0), .int a1] [] (kh_laysWays D W P h0 c M2 0 (by omega) a1) wh_laysWays q1362 zc_X0 cs_rcv0 dX0_fewest_32 rfl rfl (Nat.le_of_ble_eq_true rfl) (Nat.le_of_ble_eq_true rfl) (fun M3 => ?_)
      refine zs_iconst (pc := 35) (v := 1) dX0_fewest_35 rfl ?_
      refine zs_istore (pc := 36) (lv' := [(0, .ref (c + 0)), (1, .int a1), (2, .int a2), (3, .int 1000000), (4, .int 1)]) [1, 2, 3, 4, 0] dX0_fewest_36 (by decide) rfl ?_
      refine zs_whileJ (pc := 38) (fun (t38 : Int32 × Int32 × cs_S) => t38.2.2) (fun (t38 : Int32 × Int32 × cs_S) => [(0, .ref (c + 0)), (1, .int a1), (2, .int a2), (3, .int t38.1), (4, .int t38.2.1)]) 5000 (1000000, 1, M3) (fun (r15 : Int32 × cs_S) => r15.2) 136 (fun (r15 : Int32 × cs_S) => [(0, .ref (c + 0)), (2, .int a2), (3, .int r15.1)]) [] (fun r15 => ?_) (fun X38 hL38 hE38 t38 => ?_)
      · refine zs_iload_n (pc := 136) 2 dX0_fewest_136 rfl rfl ?_
        refine zs_ldcw (pc := 137) (v := 1000000) q1395 dX0_fewest_137 ?_
        refine zs_icmp_ne (pc := 140) (tgt := 148) dX0_fewest_140 (by decide) ?_ ?_
        · refine zs_bipush (pc := 143) (v := (-2)) dX0_fewest_143 (by decide) ?_
          refine zs_goto (pc := 145) (tgt := 172) dX0_fewest_145 (by decide) ?_
          exact zs_iret (pc := 172) dX0_fewest_172 rfl rfl rfl
        · refine zs_iload_n (pc := 148) 1 dX0_fewest_148 rfl rfl ?_
          refine zs_iconst (pc := 149) (v := (-1)) dX0_fewest_149 rfl ?_
          refine zs_icmp_ne (pc := 150) (tgt := 157) dX0_fewest_150 (by decide) ?_ ?_
          · refine zs_iload_n (pc := 153) 2 dX0_fewest_153 rfl rfl ?_
            refine zs_goto (pc := 154) (tgt := 172) dX0_fewest_154 (by decide) ?_
            exact zs_iret (pc := 172) dX0_fewest_172 rfl rfl rfl
          · refine zs_iload_n (pc := 157) 1 dX0_fewest_157 rfl rfl ?_
            refine zs_iload_n (pc := 158) 2 dX0_fewest_158 rfl rfl ?_
            refine zs_icmp_ge (pc := 159) (tgt := 171) dX0_fewest_159 (by decide) ?_ ?_
            · refine zs_aload_n (pc := 162) 0 dX0_fewest_162 rfl rfl ?_
              refine cs_getr (pc := 163) 0 0 17 (v := .ref (c + 148)) ⟨⟨by decide, by decide⟩, rfl⟩ zc_X0 ⟨rfl, rfl⟩ (by decide) rfl rfl q546 dX0_fewest_163 ?_
              refine zs_iload_n (pc := 166) 1 dX0_fewest_166 rfl rfl ?_
              refine cs_iald (pc := 167) 148 0 17 ⟨⟨by decide, by decide⟩, rfl, rfl, rfl⟩ dX0_fewest_167 (fun x16 => ?_)
              refine zs_goto (pc := 168) (tgt := 172) dX0_fewest_168 (by decide) ?_
              exact zs_iret (pc := 172) dX0_fewest_172 rfl rfl rfl
            · refine zs_iconst (pc := 171) (v := (-1)) dX0_fewest_171 rfl ?_
              exact zs_iret (pc := 172) dX0_fewest_172 rfl rfl rfl
      · unfold gh_fewest_L38
        refine zs_iload (pc := 38) 4 dX0_fewest_38 rfl ?_
        refine zs_aload_n (pc := 40) 0 dX0_fewest_40 rfl rfl ?_
        refine zs_callVrI (pc := 41) [] [.int t38.2.1] (kh_allHouses D W P h0 c t38.2.2) wh_allHouses q1366 zc_X0 cs_rcv0 dX0_fewest_41 rfl rfl (Nat.le_of_ble_eq_true rfl) (Nat.le_of_ble_eq_true rfl) (fun x4 => ?_)
        refine zs_icmp_ge (pc := 44) (tgt := 136) dX0_fewest_44 (by decide) ?_ ?_
        · refine zs_iload (pc := 47) 4 dX0_fewest_47 rfl ?_
          refine zs_callSrI (pc := 49) [.int t38.2.1] [] (k_J16_bitCount D _ _ t38.2.2 t38.2.1) kv_J16_bitCount q1396 dX0_fewest_49 rfl rfl (Nat.le_of_ble_eq_true rfl) (Nat.le_of_ble_eq_true rfl) (fun x5 => ?_)
          refine zs_istore (pc := 52) (lv' := [(0, .ref (c + 0)), (1, .int a1), (2, .int a2), (3, .int t38.1), (4, .int t38.2.1), (5, .int x5)]) [1, 2, 3, 4, 5, 0] dX0_fewest_52 (by decide) rfl ?_
          refine zs_iload (pc := 54) 5 dX0_fewest_54 rfl ?_
          refine zs_iload_n (pc := 56) 3 dX0_fewest_56 rfl rfl ?_
          refine zs_join (pc := 57) (fun (p6 : Int32 × cs_S) => p6.2) 130 (fun (p6 : Int32 × cs_S) => [(0, .ref (c + 0)), (1, .int a1), (2, .int a2), (3, .int p6.1), (4, .int t38.2.1)]) (fun (p6 : Int32 × cs_S) => []) (fun p6 => ?_) (fun h130 => ?_)
          · refine zs_iinc (pc := 130) (lv' := [(0, .ref (c + 0)), (1, .int a1), (2, .int a2), (3, .int p6.1), (4, .int (t38.2.1 + 1))]) 4 [1, 2, 3, 4, 0] dX0_fewest_130 rfl rfl (by decide) rfl ?_
            refine zs_goto (pc := 133) (tgt := 38) dX0_fewest_133 (by decide) ?_
            refine zs_nmM (fun M7 => ?_)
            exact hL38 (p6.1, (t38.2.1 + 1), M7)
          · refine zs_icmp_gt (pc := 57) (tgt := 130) dX0_fewest_57 (by decide) ?_ ?_
            · refine zs_sub (lv' := [(0, .ref (c + 0)), (1, .int a1), (2, .int a2), (3, .int t38.1), (4, .int t38.2.1)]) [0, 1, 2, 3, 4] rfl ?_
              exact h130 (t38.1, t38.2.2)
            · refine zs_aload_n (pc := 60) 0 dX0_fewest_60 rfl rfl ?_
              refine zs_iload (pc := 61) 4 dX0_fewest_61 rfl ?_
              refine zs_callVrI (pc := 63) [.int t38.2.1] [] (kh_reaching D W P h0 c t38.2.2 t38.2.1) wh_reaching q1383 zc_X0 cs_rcv0 dX0_fewest_63 rfl rfl (Nat.le_of_ble_eq_true rfl) (Nat.le_of_ble_eq_true rfl) (fun x8 => ?_)
              refine zs_if_ne (pc := 66) (tgt := 72) dX0_fewest_66 (by decide) ?_ ?_
              · refine zs_goto (pc := 69) (tgt := 130) dX0_fewest_69 (by decide) ?_
                refine zs_sub (lv' := [(0, .ref (c + 0)), (1, .int a1), (2, .int a2), (3, .int t38.1), (4, .int t38.2.1)]) [0, 1, 2, 3, 4] rfl ?_
                exact h130 (t38.1, t38.2.2)
              · refine zs_aload_n (pc := 72) 0 dX0_fewest_72 rfl rfl ?_
                refine zs_iload (pc := 73) 4 dX0_fewest_73 rfl ?_
                refine zs_iload_n (pc := 75) 1 dX0_fewest_75 rfl rfl ?_
                refine zs_callVv (pc := 76) [.int t38.2.1, .int a1] [] (kh_laysRow D W P h0 c t38.2.2 t38.2.1 a1) wh_laysRow q1402 zc_X0 cs_rcv0 dX0_fewest_76 rfl rfl (Nat.le_of_ble_eq_true rfl) (Nat.le_of_ble_eq_true rfl) (fun M9 => ?_)
                refine zs_iload (pc := 79) 5 dX0_fewest_79 rfl ?_
                refine zs_iload_n (pc := 81) 3 dX0_fewest_81 rfl rfl ?_
                refine zs_letJ (pc := 82) (fun (p10 : Unit) => M9) 97 (fun (p10 : Unit) => [(0, .ref (c + 0)), (1, .int a1), (2, .int a2), (4, .int t38.2.1), (5, .int x5)]) (fun (p10 : Unit) => []) (fun p10 => ?_) (fun J97 h97 => ?_)
                · refine zs_iload (pc := 97) 4 dX0_fewest_97 rfl ?_
                  refine zs_istore_n (pc := 99) (lv' := [(0, .ref (c + 0)), (1, .int a1), (2, .int a2), (3, .int x5), (4, .int t38.2.1), (5, .int x5)]) [1, 2, 3, 0, 4, 5] dX0_fewest_99 rfl (by decide) rfl ?_
                  refine zs_iconst (pc := 100) (v := 0) dX0_fewest_100 rfl ?_
                  refine zs_istore (pc := 101) (lv' := [(0, .ref (c + 0)), (1, .int a1), (2, .int a2), (3, .int x5), (4, .int t38.2.1), (5, .int x5), (6, .int 0)]) [1, 2, 3, 4, 5, 6, 0] dX0_fewest_101 (by decide) rfl ?_
                  refine zs_whileJ (pc := 103) (fun (t103 : Int32 × cs_S) => t103.2) (fun (t103 : Int32 × cs_S) => [(0, .ref (c + 0)), (1, .int a1), (2, .int a2), (3, .int x5), (4, .int t38.2.1), (5, .int x5), (6, .int t103.1)]) 5000 (0, M9) (fun (r13 : Int32 × cs_S) => r13.2) 130 (fun (r13 : Int32 × cs_S) => [(0, .ref (c + 0)), (1, .int a1), (2, .int a2), (3, .int r13.1), (4, .int t38.2.1)]) [] (fun r13 => ?_) (fun X103 hL103 hE103 t103 => ?_)
                  · exact h130 (r13.1, r13.2)
                  · unfold gh_fewest_L103
                    refine zs_iload (pc := 103) 6 dX0_fewest_103 rfl ?_
                    refine zs_iload (pc := 105) 5 dX0_fewest_105 rfl ?_
                    refine zs_icmp_ge (pc := 107) (tgt := 130) dX0_fewest_107 (by decide) ?_ ?_
                    · refine zs_aload_n (pc := 110) 0 dX0_fewest_110 rfl rfl ?_
                      refine cs_getr (pc := 111) 0 0 17 (v := .ref (c + 148)) ⟨⟨by decide, by decide⟩, rfl⟩ zc_X0 ⟨rfl, rfl⟩ (by decide) rfl rfl q546 dX0_fewest_111 ?_
                      refine zs_iload (pc := 114) 6 dX0_fewest_114 rfl ?_
                      refine zs_aload_n (pc := 116) 0 dX0_fewest_116 rfl rfl ?_
                      refine cs_getr (pc := 117) 0 0 18 (v := .ref (c + 149)) ⟨⟨by decide, by decide⟩, rfl⟩ zc_X0 ⟨rfl, rfl⟩ (by decide) rfl rfl q547 dX0_fewest_117 ?_
                      refine zs_iload (pc := 120) 6 dX0_fewest_120 rfl ?_
                      refine cs_iald (pc := 122) 149 0 18 ⟨⟨by decide, by decide⟩, rfl, rfl, rfl⟩ dX0_fewest_122 (fun x11 => ?_)
                      refine cs_iast (pc := 123) 148 0 17 ⟨⟨by decide, by decide⟩, rfl, rfl, rfl⟩ dX0_fewest_123 (fun M12 => ?_)
                      refine zs_iinc (pc := 124) (lv' := [(0, .ref (c + 0)), (1, .int a1), (2, .int a2), (3, .int x5), (4, .int t38.2.1), (5, .int x5), (6, .int (t103.1 + 1))]) 6 [1, 2, 3, 4, 5, 6, 0] dX0_fewest_124 rfl rfl (by decide) rfl ?_
                      refine zs_goto (pc := 127) (tgt := 103) dX0_fewest_127 (by decide) ?_
                      exact hL103 ((t103.1 + 1), M12)
                    · refine zs_sub (lv' := [(0, .ref (c + 0)), (1, .int a1), (2, .int a2), (3, .int x5), (4, .int t38.2.1)]) [0, 1, 2, 3, 4] rfl ?_
                      exact hE103 (x5, t103.2)
                · refine zs_icmp_ne (pc := 82) (tgt := 97) dX0_fewest_82 (by decide) ?_ ?_
                  · refine zs_aload_n (pc := 85) 0 dX0_fewest_85 rfl rfl ?_
                    refine zs_iload (pc := 86) 5 dX0_fewest_86 rfl ?_
                    refine zs_callVrB (pc := 88) [.int x5] [] (kh_isLower D W P h0 c M9 x5) wh_isLower q1406 zc_X0 cs_rcv0 dX0_fewest_88 rfl rfl (Nat.le_of_ble_eq_true rfl) (Nat.le_of_ble_eq_true rfl) (fun b14 => ?_)
                    refine zs_if_t (pc := 91) (tgt := 97) dX0_fewest_91 (by decide) ?_ ?_
                    · refine zs_sub (lv' := [(0, .ref (c + 0)), (1, .int a1), (2, .int a2), (4, .int t38.2.1), (5, .int x5)]) [0, 1, 2, 4, 5] rfl ?_
                      exact h97 ()
                    · refine zs_goto (pc := 94) (tgt := 130) dX0_fewest_94 (by decide) ?_
                      refine zs_sub (lv' := [(0, .ref (c + 0)), (1, .int a1), (2, .int a2), (3, .int t38.1), (4, .int t38.2.1)]) [0, 1, 2, 3, 4] rfl ?_
                      exact h130 (t38.1, M9)
                  · refine zs_sub (lv' := [(0, .ref (c + 0)), (1, .int a1), (2, .int a2), (4, .int t38.2.1), (5, .int x5)]) [0, 1, 2, 4, 5] rfl ?_
                    exact h97 ()
        · refine zs_sub (lv' := [(0, .ref (c + 0)), (2, .int a2), (3, .int t38.1)]) [0, 2, 3] rfl ?_
          exact hE38 (t38.1, t38.2.2)
  · refine zs_iconst (pc := 12) (v := (-1)) dX0_fewest_12 rfl ?_
    exact zs_iret (pc := 13) dX0_fewest_13 rfl rfl rfl
theorem wh_needed : zs_mV RX0 yX0_needed cX0_needed 5 (some .int) 1 := ⟨q1411, q1412, q134, q1413, by decide, by decide +kernel⟩
def gh_needed_L38 (T : zt_T) (M5 : cs_S) : (Int32 × Int32 × Int32) → Option ((Int32 × Int32 × Int32) ⊕ (Int32 × Int32)) := fun t38 =>
(gh_allHouses T M5).bind fun x6 =>
if t38.2.2 < x6 then ((gh_reaching T M5 t38.2.2).bind fun x7 =>
(if x7 = 0 then (some (t38.1, t38.2.1))
else ((some (t38.1 &&& t38.2.2)).bind fun x9 =>
some (x9, 1))).bind fun (p8 : Int32 × Int32) =>
some (Sum.inl (p8.1, p8.2, (t38.2.2 + 1))))
else (some (Sum.inr (t38.1, t38.2.1)))
def gh_needed (T : zt_T) (M : cs_S) (a1 : Int32) : Option (Int32 × cs_S) :=
(gh_isHaul a1).bind fun b1 =>
if b1 = true then ((gh_allHouses T M).bind fun x2 =>
(some (x2 - 1)).bind fun x3 =>
(gh_laysJoins T M 0).bind fun M4 =>
(gh_laysWays T M4 0 a1).bind fun M5 =>
(zs_loop 5000 (gh_needed_L38 T M5) (x3, 0, 1)).bind fun (r10 : Int32 × Int32) =>
if r10.2 = 0 then (some ((-2), M5))
else (some (r10.1, M5)))
else (some ((-1), M))
set_option maxHeartbeats 4000000 in
theorem kh_needed (D : zs_D) (W : cs_W) (P : Nat → Bool) (h0 : zs_AH) (c : Nat) (M : cs_S) (a1 : Int32) : zs_Con D (cs_R W P h0 c) cs_bd zs_eI yX0_needed cX0_needed 5 (some .int) 425 [.ref (c + 0), .int a1] M (gh_needed W.2.1 M a1) := by
  unfold gh_needed
  refine zs_con (own := RX0) (nm := "needed") pl_X0 rfl rfl (Nat.le_of_ble_eq_true rfl) ?_
  refine zs_lv (lv' := [(0, .ref (c + 0)), (1, .int a1)]) rfl ?_
  refine zs_iload_n (pc := 0) 1 dX0_needed_0 rfl rfl ?_
  refine zs_callSrB (pc := 1) [.int a1] [] (kh_isHaul D _ _ M a1) wh_isHaul q1245 dX0_needed_1 rfl rfl (Nat.le_of_ble_eq_true rfl) (Nat.le_of_ble_eq_true rfl) (fun b1 => ?_)
  refine zs_if_t (pc := 4) (tgt := 9) dX0_needed_4 (by decide) ?_ ?_
  · refine zs_aload_n (pc := 9) 0 dX0_needed_9 rfl rfl ?_
    refine zs_callVrI (pc := 10) [] [] (kh_allHouses D W P h0 c M) wh_allHouses q1366 zc_X0 cs_rcv0 dX0_needed_10 rfl rfl (Nat.le_of_ble_eq_true rfl) (Nat.le_of_ble_eq_true rfl) (fun x2 => ?_)
    refine zs_iconst (pc := 13) (v := 1) dX0_needed_13 rfl ?_
    refine zs_isub (pc := 14) dX0_needed_14 ?_
    refine zs_nm (fun x3 => ?_)
    refine zs_istore_n (pc := 15) (lv' := [(0, .ref (c + 0)), (1, .int a1), (2, .int x3)]) [1, 2, 0] dX0_needed_15 rfl (by decide) rfl ?_
    refine zs_iconst (pc := 16) (v := 0) dX0_needed_16 rfl ?_
    refine zs_istore_n (pc := 17) (lv' := [(0, .ref (c + 0)), (1, .int a1), (2, .int x3), (3, .int 0)]) [1, 2, 3, 0] dX0_needed_17 rfl (by decide) rfl ?_
    refine zs_aload_n (pc := 18) 0 dX0_needed_18 rfl rfl ?_
    refine zs_aload_n (pc := 19) 0 dX0_needed_19 rfl rfl ?_
    refine cs_getr (pc := 20) 0 0 7 (v := .ref (c + cs_va 0)) ⟨⟨by decide, by decide⟩, rfl⟩ zc_X0 ⟨rfl, rfl⟩ (by decide) rfl rfl q536 dX0_needed_20 ?_
    refine zs_callVv (pc := 23) [.ref (c + cs_va 0)] [] (kh_laysJoins D W P h0 c M 0 (by omega)) wh_laysJoins q1354 zc_X0 cs_rcv0 dX0_needed_23 rfl rfl (Nat.le_of_ble_eq_true rfl) (Nat.le_of_ble_eq_true rfl) (fun M4 => ?_)
    refine zs_aload_n (pc := 26) 0 dX0_needed_26 rfl rfl ?_
    refine zs_aload_n (pc := 27) 0 dX0_needed_27 rfl rfl ?_
    refine cs_getr (pc := 28) 0 0 7 (v := .ref (c + cs_va 0)) ⟨⟨by decide, by decide⟩, rfl⟩ zc_X0 ⟨rfl, rfl⟩ (by decide) rfl rfl q536 dX0_needed_28 ?_
    refine zs_iload_n (pc := 31) 1 dX0_needed_31 rfl rfl ?_
    refine zs_callVv (pc := 32) [.ref (c + cs_va 0), .int a1] [] (kh_laysWays D W P h0 c M4 0 (by omega) a1) wh_laysWays q1362 zc_X0 cs_rcv0 dX0_needed_32 rfl rfl (Nat.le_of_ble_eq_true rfl) (Nat.le_of_ble_eq_true rfl) (fun M5 => ?_)
    refine zs_iconst (pc := 35) (v := 1) dX0_needed_35 rfl ?_
    refine zs_istore (pc := 36) (lv' := [(0, .ref (c + 0)), (1, .int a1), (2, .int x3), (3, .int 0), (4, .int 1)]) [1, 2, 3, 4, 0] dX0_needed_36 (by decide) rfl ?_
    refine zs_sub (pc := 38) (lv' := [(0, .ref (c + 0)), (2, .int x3), (3, .int 0), (4, .int 1)]) [0, 2, 3, 4] rfl ?_
    refine zs_whileJ (pc := 38) (fun (t38 : Int32 × Int32 × Int32) => M5) (fun (t38 : Int32 × Int32 × Int32) => [(0, .ref (c + 0)), (2, .int t38.1), (3, .int t38.2.1), (4, .int t38.2.2)]) 5000 (x3, 0, 1) (fun (r10 : Int32 × Int32) => M5) 72 (fun (r10 : Int32 × Int32) => [(2, .int r10.1), (3, .int r10.2)]) [] (fun r10 => ?_) (fun X38 hL38 hE38 t38 => ?_)
    · refine zs_iload_n (pc := 72) 1 dX0_needed_72 rfl rfl ?_
      refine zs_if_eq (pc := 73) (tgt := 80) dX0_needed_73 (by decide) ?_ ?_
      · refine zs_bipush (pc := 80) (v := (-2)) dX0_needed_80 (by decide) ?_
        exact zs_iret (pc := 82) dX0_needed_82 rfl rfl rfl
      · refine zs_iload_n (pc := 76) 0 dX0_needed_76 rfl rfl ?_
        refine zs_goto (pc := 77) (tgt := 82) dX0_needed_77 (by decide) ?_
        exact zs_iret (pc := 82) dX0_needed_82 rfl rfl rfl
    · unfold gh_needed_L38
      refine zs_iload (pc := 38) 3 dX0_needed_38 rfl ?_
      refine zs_aload_n (pc := 40) 0 dX0_needed_40 rfl rfl ?_
      refine zs_callVrI (pc := 41) [] [.int t38.2.2] (kh_allHouses D W P h0 c M5) wh_allHouses q1366 zc_X0 cs_rcv0 dX0_needed_41 rfl rfl (Nat.le_of_ble_eq_true rfl) (Nat.le_of_ble_eq_true rfl) (fun x6 => ?_)
      refine zs_icmp_ge (pc := 44) (tgt := 72) dX0_needed_44 (by decide) ?_ ?_
      · refine zs_aload_n (pc := 47) 0 dX0_needed_47 rfl rfl ?_
        refine zs_iload (pc := 48) 3 dX0_needed_48 rfl ?_
        refine zs_callVrI (pc := 50) [.int t38.2.2] [] (kh_reaching D W P h0 c M5 t38.2.2) wh_reaching q1383 zc_X0 cs_rcv0 dX0_needed_50 rfl rfl (Nat.le_of_ble_eq_true rfl) (Nat.le_of_ble_eq_true rfl) (fun x7 => ?_)
        refine zs_join (pc := 53) (fun (p8 : Int32 × Int32) => M5) 66 (fun (p8 : Int32 × Int32) => [(0, .ref (c + 0)), (2, .int p8.1), (3, .int p8.2), (4, .int t38.2.2)]) (fun (p8 : Int32 × Int32) => []) (fun p8 => ?_) (fun h66 => ?_)
        · refine zs_iinc (pc := 66) (lv' := [(0, .ref (c + 0)), (2, .int p8.1), (3, .int p8.2), (4, .int (t38.2.2 + 1))]) 3 [1, 2, 3, 0] dX0_needed_66 rfl rfl (by decide) rfl ?_
          refine zs_goto (pc := 69) (tgt := 38) dX0_needed_69 (by decide) ?_
          exact hL38 (p8.1, p8.2, (t38.2.2 + 1))
        · refine zs_if_ne (pc := 53) (tgt := 59) dX0_needed_53 (by decide) ?_ ?_
          · refine zs_goto (pc := 56) (tgt := 66) dX0_needed_56 (by decide) ?_
            exact h66 (t38.1, t38.2.1)
          · refine zs_iload_n (pc := 59) 1 dX0_needed_59 rfl rfl ?_
            refine zs_iload (pc := 60) 3 dX0_needed_60 rfl ?_
            refine zs_iand (pc := 62) dX0_needed_62 ?_
            refine zs_nm (fun x9 => ?_)
            refine zs_istore_n (pc := 63) (lv' := [(0, .ref (c + 0)), (2, .int x9), (3, .int t38.2.1), (4, .int t38.2.2)]) [1, 0, 2, 3] dX0_needed_63 rfl (by decide) rfl ?_
            refine zs_iconst (pc := 64) (v := 1) dX0_needed_64 rfl ?_
            refine zs_istore_n (pc := 65) (lv' := [(0, .ref (c + 0)), (2, .int x9), (3, .int 1), (4, .int t38.2.2)]) [1, 2, 0, 3] dX0_needed_65 rfl (by decide) rfl ?_
            exact h66 (x9, 1)
      · refine zs_sub (lv' := [(2, .int t38.1), (3, .int t38.2.1)]) [1, 2] rfl ?_
        exact hE38 (t38.1, t38.2.1)
  · refine zs_iconst (pc := 7) (v := (-1)) dX0_needed_7 rfl ?_
    exact zs_iret (pc := 8) dX0_needed_8 rfl rfl rfl
theorem wh_soon : zs_mV RX0 yX0_soon cX0_soon 3 (some .int) 1 := ⟨q1415, q1416, q134, q1417, by decide, by decide +kernel⟩
def gh_soon_L22 (T : zt_T) (a1 : Int32) : (Int32 × cs_S) → Option ((Int32 × cs_S) ⊕ (Int32 × cs_S)) := fun t22 =>
if 60 < t22.1 then (some (Sum.inr ((-2), t22.2)))
else ((gh_laysJoins T t22.2 1).bind fun M3 =>
(gh_laysOrders T M3 1 a1).bind fun p4 =>
if 0 < p4.1 then (some (Sum.inr (t22.1, p4.2)))
else ((gv_goesBy T p4.2 1 true).bind fun M5 =>
some (Sum.inl ((t22.1 + 1), M5))))
def gh_soon (T : zt_T) (M : cs_S) (a1 : Int32) : Option (Int32 × cs_S) :=
(gh_isHaul a1).bind fun b1 =>
if b1 = true then ((gv_becomes T M 1 0).bind fun M2 =>
(zs_loop 5000 (gh_soon_L22 T a1) (0, M2)).bind fun z => some z)
else (some ((-1), M))
set_option maxHeartbeats 4000000 in
theorem kh_soon (D : zs_D) (W : cs_W) (P : Nat → Bool) (h0 : zs_AH) (c : Nat) (M : cs_S) (a1 : Int32) : zs_Con D (cs_R W P h0 c) cs_bd zs_eI yX0_soon cX0_soon 3 (some .int) 425 [.ref (c + 0), .int a1] M (gh_soon W.2.1 M a1) := by
  unfold gh_soon
  refine zs_con (own := RX0) (nm := "soon") pl_X0 rfl rfl (Nat.le_of_ble_eq_true rfl) ?_
  refine zs_lv (lv' := [(0, .ref (c + 0)), (1, .int a1)]) rfl ?_
  refine zs_iload_n (pc := 0) 1 dX0_soon_0 rfl rfl ?_
  refine zs_callSrB (pc := 1) [.int a1] [] (kh_isHaul D _ _ M a1) wh_isHaul q1245 dX0_soon_1 rfl rfl (Nat.le_of_ble_eq_true rfl) (Nat.le_of_ble_eq_true rfl) (fun b1 => ?_)
  refine zs_if_t (pc := 4) (tgt := 9) dX0_soon_4 (by decide) ?_ ?_
  · refine zs_aload_n (pc := 9) 0 dX0_soon_9 rfl rfl ?_
    refine cs_getr (pc := 10) 0 0 8 (v := .ref (c + cs_va 1)) ⟨⟨by decide, by decide⟩, rfl⟩ zc_X0 ⟨rfl, rfl⟩ (by decide) rfl rfl q537 dX0_soon_10 ?_
    refine zs_aload_n (pc := 13) 0 dX0_soon_13 rfl rfl ?_
    refine cs_getr (pc := 14) 0 0 7 (v := .ref (c + cs_va 0)) ⟨⟨by decide, by decide⟩, rfl⟩ zc_X0 ⟨rfl, rfl⟩ (by decide) rfl rfl q536 dX0_soon_14 ?_
    refine zs_callVv (pc := 17) [.ref (c + cs_va 0)] [] (kv_xbecomes D W P h0 c M 1 (by omega) 0 (by omega)) wv_becomes q1216 zc_X5 (cs_rcvv (by omega)) dX0_soon_17 rfl rfl (Nat.le_of_ble_eq_true rfl) (Nat.le_of_ble_eq_true rfl) (fun M2 => ?_)
    refine zs_iconst (pc := 20) (v := 0) dX0_soon_20 rfl ?_
    refine zs_istore_n (pc := 21) (lv' := [(0, .ref (c + 0)), (1, .int a1), (2, .int 0)]) [1, 2, 0] dX0_soon_21 rfl (by decide) rfl ?_
    refine zs_whileX (pc := 22) (fun (t22 : Int32 × cs_S) => t22.2) (fun (t22 : Int32 × cs_S) => [(0, .ref (c + 0)), (1, .int a1), (2, .int t22.1)]) 5000 (0, M2) (fun X22 hL22 hR22 t22 => ?_)
    unfold gh_soon_L22
    refine zs_iload_n (pc := 22) 2 dX0_soon_22 rfl rfl ?_
    refine zs_bipush (pc := 23) (v := 60) dX0_soon_23 (by decide) ?_
    refine zs_icmp_gt (pc := 25) (tgt := 71) dX0_soon_25 (by decide) ?_ ?_
    · refine zs_bipush (pc := 71) (v := (-2)) dX0_soon_71 (by decide) ?_
      exact zs_iret (pc := 73) dX0_soon_73 ((hR22 _).trans rfl) rfl rfl
    · refine zs_aload_n (pc := 28) 0 dX0_soon_28 rfl rfl ?_
      refine zs_aload_n (pc := 29) 0 dX0_soon_29 rfl rfl ?_
      refine cs_getr (pc := 30) 0 0 8 (v := .ref (c + cs_va 1)) ⟨⟨by decide, by decide⟩, rfl⟩ zc_X0 ⟨rfl, rfl⟩ (by decide) rfl rfl q537 dX0_soon_30 ?_
      refine zs_callVv (pc := 33) [.ref (c + cs_va 1)] [] (kh_laysJoins D W P h0 c t22.2 1 (by omega)) wh_laysJoins q1354 zc_X0 cs_rcv0 dX0_soon_33 rfl rfl (Nat.le_of_ble_eq_true rfl) (Nat.le_of_ble_eq_true rfl) (fun M3 => ?_)
      refine zs_aload_n (pc := 36) 0 dX0_soon_36 rfl rfl ?_
      refine zs_aload_n (pc := 37) 0 dX0_soon_37 rfl rfl ?_
      refine cs_getr (pc := 38) 0 0 8 (v := .ref (c + cs_va 1)) ⟨⟨by decide, by decide⟩, rfl⟩ zc_X0 ⟨rfl, rfl⟩ (by decide) rfl rfl q537 dX0_soon_38 ?_
      refine zs_iload_n (pc := 41) 1 dX0_soon_41 rfl rfl ?_
      refine zs_callVwI (pc := 42) [.ref (c + cs_va 1), .int a1] [] (kh_laysOrders D W P h0 c M3 1 (by omega) a1) wh_laysOrders q1358 zc_X0 cs_rcv0 dX0_soon_42 rfl rfl (Nat.le_of_ble_eq_true rfl) (Nat.le_of_ble_eq_true rfl) (fun p4 => ?_)
      refine zs_if_le (pc := 45) (tgt := 50) dX0_soon_45 (by decide) ?_ ?_
      · refine zs_iload_n (pc := 48) 2 dX0_soon_48 rfl rfl ?_
        exact zs_iret (pc := 49) dX0_soon_49 ((hR22 _).trans rfl) rfl rfl
      · refine zs_aload_n (pc := 50) 0 dX0_soon_50 rfl rfl ?_
        refine cs_getr (pc := 51) 0 0 8 (v := .ref (c + cs_va 1)) ⟨⟨by decide, by decide⟩, rfl⟩ zc_X0 ⟨rfl, rfl⟩ (by decide) rfl rfl q537 dX0_soon_51 ?_
        refine zs_aload_n (pc := 54) 0 dX0_soon_54 rfl rfl ?_
        refine cs_getr (pc := 55) 0 0 3 (v := .ref (zt_ad W.2.1 0)) ⟨⟨by decide, by decide⟩, rfl⟩ zc_X0 ⟨rfl, rfl⟩ (by decide) rfl rfl q532 dX0_soon_55 ?_
        refine zs_aload_n (pc := 58) 0 dX0_soon_58 rfl rfl ?_
        refine cs_getr (pc := 59) 0 0 12 (v := .ref (c + cs_sk true)) ⟨⟨by decide, by decide⟩, rfl⟩ zc_X0 ⟨rfl, rfl⟩ (by decide) rfl rfl q541 dX0_soon_59 ?_
        refine zs_callVv (pc := 62) [.ref (zt_ad W.2.1 0), .ref (c + cs_sk true)] [] (kv_xgoesBy D W P h0 c p4.2 1 (by omega) true) wv_goesBy q1272 zc_X5 (cs_rcvv (by omega)) dX0_soon_62 rfl rfl (Nat.le_of_ble_eq_true rfl) (Nat.le_of_ble_eq_true rfl) (fun M5 => ?_)
        refine zs_iinc (pc := 65) (lv' := [(0, .ref (c + 0)), (1, .int a1), (2, .int (t22.1 + 1))]) 2 [1, 2, 0] dX0_soon_65 rfl rfl (by decide) rfl ?_
        refine zs_goto (pc := 68) (tgt := 22) dX0_soon_68 (by decide) ?_
        exact hL22 ((t22.1 + 1), M5)
  · refine zs_iconst (pc := 7) (v := (-1)) dX0_soon_7 rfl ?_
    exact zs_iret (pc := 8) dX0_soon_8 rfl rfl rfl
theorem wh_befriends : zs_mV RX0 yX0_befriends cX0_befriends 4 none 1 := ⟨q1428, qs50, q134, q1429, by decide, by decide +kernel⟩
def gh_befriends (T : zt_T) (M : cs_S) (a1 : Int32) : Option (cs_S) :=
(some (a1 / 10)).bind fun x1 =>
(some (zs_rem a1 10)).bind fun x2 =>
(zs_ix 6 x1).bind fun k3 =>
(gv_joins T M 0 x1 x2 9).bind fun p4 =>
(zs_ast 6 x2 (cs_sA p4.2 61 k3 x2 p4.1)).bind fun M5 =>
(zs_ix 6 x2).bind fun k6 =>
(gv_joins T M5 0 x2 x1 9).bind fun p7 =>
(zs_ast 6 x1 (cs_sA p7.2 61 k6 x1 p7.1)).bind fun M8 =>
some M8
set_option maxHeartbeats 4000000 in
theorem kh_befriends (D : zs_D) (W : cs_W) (P : Nat → Bool) (h0 : zs_AH) (c : Nat) (M : cs_S) (a1 : Int32) : zs_Con D (cs_R W P h0 c) cs_bd zs_eV yX0_befriends cX0_befriends 4 none 424 [.ref (c + 0), .int a1] M ((gh_befriends W.2.1 M a1).map fun x => ((), x)) := by
  unfold gh_befriends
  refine zs_conV (own := RX0) (nm := "befriends") pl_X0 rfl rfl (Nat.le_of_ble_eq_true rfl) ?_
  refine zs_lv (lv' := [(0, .ref (c + 0)), (1, .int a1)]) rfl ?_
  refine zs_iload_n (pc := 0) 1 dX0_befriends_0 rfl rfl ?_
  refine zs_bipush (pc := 1) (v := 10) dX0_befriends_1 (by decide) ?_
  refine zs_idivK (pc := 3) dX0_befriends_3 (by decide) ?_
  refine zs_nm (fun x1 => ?_)
  refine zs_istore_n (pc := 4) (lv' := [(0, .ref (c + 0)), (1, .int a1), (2, .int x1)]) [1, 2, 0] dX0_befriends_4 rfl (by decide) rfl ?_
  refine zs_iload_n (pc := 5) 1 dX0_befriends_5 rfl rfl ?_
  refine zs_bipush (pc := 6) (v := 10) dX0_befriends_6 (by decide) ?_
  refine zs_iremK (pc := 8) dX0_befriends_8 (by decide) ?_
  refine zs_nm (fun x2 => ?_)
  refine zs_istore_n (pc := 9) (lv' := [(0, .ref (c + 0)), (1, .int a1), (2, .int x1), (3, .int x2)]) [1, 2, 3, 0] dX0_befriends_9 rfl (by decide) rfl ?_
  refine zs_aload_n (pc := 10) 0 dX0_befriends_10 rfl rfl ?_
  refine cs_getr (pc := 11) 0 0 15 (v := .ref (c + 140)) ⟨⟨by decide, by decide⟩, rfl⟩ zc_X0 ⟨rfl, rfl⟩ (by decide) rfl rfl q544 dX0_befriends_11 ?_
  refine zs_iload_n (pc := 14) 2 dX0_befriends_14 rfl rfl ?_
  refine cs_join (pc := 15) dX0_befriends_15 (fun k3 hk3 => ?_)
  refine zs_iload_n (pc := 16) 3 dX0_befriends_16 rfl rfl ?_
  refine zs_aload_n (pc := 17) 0 dX0_befriends_17 rfl rfl ?_
  refine cs_getr (pc := 18) 0 0 7 (v := .ref (c + cs_va 0)) ⟨⟨by decide, by decide⟩, rfl⟩ zc_X0 ⟨rfl, rfl⟩ (by decide) rfl rfl q536 dX0_befriends_18 ?_
  refine zs_aload_n (pc := 21) 0 dX0_befriends_21 rfl rfl ?_
  refine cs_getr (pc := 22) 0 0 3 (v := .ref (zt_ad W.2.1 0)) ⟨⟨by decide, by decide⟩, rfl⟩ zc_X0 ⟨rfl, rfl⟩ (by decide) rfl rfl q532 dX0_befriends_22 ?_
  refine zs_iload_n (pc := 25) 2 dX0_befriends_25 rfl rfl ?_
  refine zs_iload_n (pc := 26) 3 dX0_befriends_26 rfl rfl ?_
  refine zs_bipush (pc := 27) (v := 9) dX0_befriends_27 (by decide) ?_
  refine zs_callVwI (pc := 29) [.ref (zt_ad W.2.1 0), .int x1, .int x2, .int 9] [.int x2, .ref (c + (141 + k3))] (kv_xjoins D W P h0 c M 0 (by omega) x1 x2 9) wv_joins q1195 zc_X5 (cs_rcvv (by omega)) dX0_befriends_29 rfl rfl (Nat.le_of_ble_eq_true rfl) (Nat.le_of_ble_eq_true rfl) (fun p4 => ?_)
  refine cs_iast (pc := 32) (141 + k3) 61 k3 (cs_pjoin hk3) dX0_befriends_32 (fun M5 => ?_)
  refine zs_aload_n (pc := 33) 0 dX0_befriends_33 rfl rfl ?_
  refine cs_getr (pc := 34) 0 0 15 (v := .ref (c + 140)) ⟨⟨by decide, by decide⟩, rfl⟩ zc_X0 ⟨rfl, rfl⟩ (by decide) rfl rfl q544 dX0_befriends_34 ?_
  refine zs_iload_n (pc := 37) 3 dX0_befriends_37 rfl rfl ?_
  refine cs_join (pc := 38) dX0_befriends_38 (fun k6 hk6 => ?_)
  refine zs_iload_n (pc := 39) 2 dX0_befriends_39 rfl rfl ?_
  refine zs_aload_n (pc := 40) 0 dX0_befriends_40 rfl rfl ?_
  refine cs_getr (pc := 41) 0 0 7 (v := .ref (c + cs_va 0)) ⟨⟨by decide, by decide⟩, rfl⟩ zc_X0 ⟨rfl, rfl⟩ (by decide) rfl rfl q536 dX0_befriends_41 ?_
  refine zs_aload_n (pc := 44) 0 dX0_befriends_44 rfl rfl ?_
  refine cs_getr (pc := 45) 0 0 3 (v := .ref (zt_ad W.2.1 0)) ⟨⟨by decide, by decide⟩, rfl⟩ zc_X0 ⟨rfl, rfl⟩ (by decide) rfl rfl q532 dX0_befriends_45 ?_
  refine zs_iload_n (pc := 48) 3 dX0_befriends_48 rfl rfl ?_
  refine zs_iload_n (pc := 49) 2 dX0_befriends_49 rfl rfl ?_
  refine zs_bipush (pc := 50) (v := 9) dX0_befriends_50 (by decide) ?_
  refine zs_callVwI (pc := 52) [.ref (zt_ad W.2.1 0), .int x2, .int x1, .int 9] [.int x1, .ref (c + (141 + k6))] (kv_xjoins D W P h0 c M5 0 (by omega) x2 x1 9) wv_joins q1195 zc_X5 (cs_rcvv (by omega)) dX0_befriends_52 rfl rfl (Nat.le_of_ble_eq_true rfl) (Nat.le_of_ble_eq_true rfl) (fun p7 => ?_)
  refine cs_iast (pc := 55) (141 + k6) 61 k6 (cs_pjoin hk6) dX0_befriends_55 (fun M8 => ?_)
  exact zs_vret (pc := 56) dX0_befriends_56 rfl rfl
theorem wh_isPeace : zs_mV RX0 yX0_isPeace cX0_isPeace 4 (some .boolean) 3 := ⟨q1424, qs49, q134, q1425, by decide, by decide +kernel⟩
def gh_isPeace (T : zt_T) (M : cs_S) (a1 : Int32) (a2 : Int32) (a3 : Int32) : Option (Bool × cs_S) :=
(gh_laysJoins T M 0).bind fun M1 =>
(if a2 < 0 then (some M1)
else ((gh_befriends T M1 a2).bind fun M6 =>
some M6)).bind fun (p2 : cs_S) =>
(if a3 < 0 then (some p2)
else ((gh_befriends T p2 a3).bind fun M5 =>
some M5)).bind fun (p3 : cs_S) =>
(gh_laysOrders T p3 0 a1).bind fun p4 =>
if 0 < p4.1 then (some (true, p4.2))
else (some (false, p4.2))
set_option maxHeartbeats 4000000 in
theorem kh_isPeace (D : zs_D) (W : cs_W) (P : Nat → Bool) (h0 : zs_AH) (c : Nat) (M : cs_S) (a1 : Int32) (a2 : Int32) (a3 : Int32) : zs_Con D (cs_R W P h0 c) cs_bd zs_eB yX0_isPeace cX0_isPeace 4 (some .boolean) 425 [.ref (c + 0), .int a1, .int a2, .int a3] M (gh_isPeace W.2.1 M a1 a2 a3) := by
  unfold gh_isPeace
  refine zs_con (own := RX0) (nm := "isPeace") pl_X0 rfl rfl (Nat.le_of_ble_eq_true rfl) ?_
  refine zs_lv (lv' := [(0, .ref (c + 0)), (1, .int a1), (2, .int a2), (3, .int a3)]) rfl ?_
  refine zs_aload_n (pc := 0) 0 dX0_isPeace_0 rfl rfl ?_
  refine zs_aload_n (pc := 1) 0 dX0_isPeace_1 rfl rfl ?_
  refine cs_getr (pc := 2) 0 0 7 (v := .ref (c + cs_va 0)) ⟨⟨by decide, by decide⟩, rfl⟩ zc_X0 ⟨rfl, rfl⟩ (by decide) rfl rfl q536 dX0_isPeace_2 ?_
  refine zs_callVv (pc := 5) [.ref (c + cs_va 0)] [] (kh_laysJoins D W P h0 c M 0 (by omega)) wh_laysJoins q1354 zc_X0 cs_rcv0 dX0_isPeace_5 rfl rfl (Nat.le_of_ble_eq_true rfl) (Nat.le_of_ble_eq_true rfl) (fun M1 => ?_)
  refine zs_iload_n (pc := 8) 2 dX0_isPeace_8 rfl rfl ?_
  refine zs_join (pc := 9) (fun (p2 : cs_S) => p2) 17 (fun (p2 : cs_S) => [(0, .ref (c + 0)), (1, .int a1), (3, .int a3)]) (fun (p2 : cs_S) => []) (fun p2 => ?_) (fun h17 => ?_)
  · refine zs_iload_n (pc := 17) 2 dX0_isPeace_17 rfl rfl ?_
    refine zs_join (pc := 18) (fun (p3 : cs_S) => p3) 26 (fun (p3 : cs_S) => [(0, .ref (c + 0)), (1, .int a1)]) (fun (p3 : cs_S) => []) (fun p3 => ?_) (fun h26 => ?_)
    · refine zs_aload_n (pc := 26) 0 dX0_isPeace_26 rfl rfl ?_
      refine zs_aload_n (pc := 27) 0 dX0_isPeace_27 rfl rfl ?_
      refine cs_getr (pc := 28) 0 0 7 (v := .ref (c + cs_va 0)) ⟨⟨by decide, by decide⟩, rfl⟩ zc_X0 ⟨rfl, rfl⟩ (by decide) rfl rfl q536 dX0_isPeace_28 ?_
      refine zs_iload_n (pc := 31) 1 dX0_isPeace_31 rfl rfl ?_
      refine zs_callVwI (pc := 32) [.ref (c + cs_va 0), .int a1] [] (kh_laysOrders D W P h0 c p3 0 (by omega) a1) wh_laysOrders q1358 zc_X0 cs_rcv0 dX0_isPeace_32 rfl rfl (Nat.le_of_ble_eq_true rfl) (Nat.le_of_ble_eq_true rfl) (fun p4 => ?_)
      refine zs_if_le (pc := 35) (tgt := 42) dX0_isPeace_35 (by decide) ?_ ?_
      · refine zs_iconst (pc := 38) (v := 1) dX0_isPeace_38 rfl ?_
        refine zs_goto (pc := 39) (tgt := 43) dX0_isPeace_39 (by decide) ?_
        exact zs_iret (pc := 43) dX0_isPeace_43 rfl rfl rfl
      · refine zs_iconst (pc := 42) (v := 0) dX0_isPeace_42 rfl ?_
        exact zs_iret (pc := 43) dX0_isPeace_43 rfl rfl rfl
    · refine zs_if_lt (pc := 18) (tgt := 26) dX0_isPeace_18 (by decide) ?_ ?_
      · refine zs_sub (lv' := [(0, .ref (c + 0)), (1, .int a1)]) [0, 1] rfl ?_
        exact h26 p2
      · refine zs_aload_n (pc := 21) 0 dX0_isPeace_21 rfl rfl ?_
        refine zs_iload_n (pc := 22) 2 dX0_isPeace_22 rfl rfl ?_
        refine zs_callVv (pc := 23) [.int a3] [] (kh_befriends D W P h0 c p2 a3) wh_befriends q1426 zc_X0 cs_rcv0 dX0_isPeace_23 rfl rfl (Nat.le_of_ble_eq_true rfl) (Nat.le_of_ble_eq_true rfl) (fun M5 => ?_)
        refine zs_sub (lv' := [(0, .ref (c + 0)), (1, .int a1)]) [0, 1] rfl ?_
        exact h26 M5
  · refine zs_if_lt (pc := 9) (tgt := 17) dX0_isPeace_9 (by decide) ?_ ?_
    · refine zs_sub (lv' := [(0, .ref (c + 0)), (1, .int a1), (3, .int a3)]) [0, 1, 3] rfl ?_
      exact h17 M1
    · refine zs_aload_n (pc := 12) 0 dX0_isPeace_12 rfl rfl ?_
      refine zs_iload_n (pc := 13) 2 dX0_isPeace_13 rfl rfl ?_
      refine zs_callVv (pc := 14) [.int a2] [] (kh_befriends D W P h0 c M1 a2) wh_befriends q1426 zc_X0 cs_rcv0 dX0_isPeace_14 rfl rfl (Nat.le_of_ble_eq_true rfl) (Nat.le_of_ble_eq_true rfl) (fun M6 => ?_)
      refine zs_sub (lv' := [(0, .ref (c + 0)), (1, .int a1), (3, .int a3)]) [0, 1, 3] rfl ?_
      exact h17 M6
theorem wh_peaceBy : zs_mS yX0_peaceBy cX0_peaceBy 4 (some .int) 4 := ⟨q1431, q134, q1432, by decide, by decide +kernel⟩
def gh_peaceBy (a0 : Int32) (a1 : Int32) (a2 : Int32) (a3 : Int32) : Option (Int32) :=
if a0 = 0 then (some a1)
else (if a0 = 1 then (some a2)
else (some a3))
set_option maxHeartbeats 4000000 in
theorem kh_peaceBy {σ : Type} (D : zs_D) (Rl : σ → zs_AH → Prop) (bd : σ → Nat × Nat) (M : σ) (a0 : Int32) (a1 : Int32) (a2 : Int32) (a3 : Int32) : zs_Con D Rl bd zs_eI yX0_peaceBy cX0_peaceBy 4 (some .int) 0 [.int a0, .int a1, .int a2, .int a3] M ((gh_peaceBy a0 a1 a2 a3).map fun x => (x, M)) := by
  unfold gh_peaceBy
  refine zs_conR (own := RX0) (nm := "peaceBy") pl_X0 rfl rfl (Nat.le_of_ble_eq_true rfl) ?_
  refine zs_lv (lv' := [(0, .int a0), (1, .int a1), (2, .int a2), (3, .int a3)]) rfl ?_
  refine zs_iload_n (pc := 0) 0 dX0_peaceBy_0 rfl rfl ?_
  refine zs_if_ne (pc := 1) (tgt := 8) dX0_peaceBy_1 (by decide) ?_ ?_
  · refine zs_iload_n (pc := 4) 1 dX0_peaceBy_4 rfl rfl ?_
    refine zs_goto (pc := 5) (tgt := 18) dX0_peaceBy_5 (by decide) ?_
    exact zs_iret (pc := 18) dX0_peaceBy_18 rfl rfl rfl
  · refine zs_iload_n (pc := 8) 0 dX0_peaceBy_8 rfl rfl ?_
    refine zs_iconst (pc := 9) (v := 1) dX0_peaceBy_9 rfl ?_
    refine zs_icmp_ne (pc := 10) (tgt := 17) dX0_peaceBy_10 (by decide) ?_ ?_
    · refine zs_iload_n (pc := 13) 2 dX0_peaceBy_13 rfl rfl ?_
      refine zs_goto (pc := 14) (tgt := 18) dX0_peaceBy_14 (by decide) ?_
      exact zs_iret (pc := 18) dX0_peaceBy_18 rfl rfl rfl
    · refine zs_iload_n (pc := 17) 3 dX0_peaceBy_17 rfl rfl ?_
      exact zs_iret (pc := 18) dX0_peaceBy_18 rfl rfl rfl
theorem wh_twoOf : zs_mV RX0 yX0_twoOf cX0_twoOf 5 (some .int) 1 := ⟨q1435, qs51, q134, q1436, by decide, by decide +kernel⟩
def gh_twoOf_L17 (T : zt_T) (M : cs_S) (a1 : Int32) (t4 : Int32 × Int32) : (Int32 × Int32) → Option ((Int32 × Int32) ⊕ ((Int32) ⊕ (Int32))) := fun t17 =>
(gh_houses T M).bind fun x3 =>
if t17.2 < x3 then (if t17.1 = a1 then (some (Sum.inr (Sum.inr ((10 * t4.2) + t17.2))))
else (some (Sum.inl ((t17.1 + 1), (t17.2 + 1)))))
else (some (Sum.inr (Sum.inl t17.1)))
def gh_twoOf_L4 (T : zt_T) (M : cs_S) (a1 : Int32) : (Int32 × Int32) → Option ((Int32 × Int32) ⊕ ((Int32 × Int32) ⊕ (Int32))) := fun t4 =>
(gh_houses T M).bind fun x1 =>
if t4.2 < x1 then ((some (t4.2 + 1)).bind fun x2 =>
(zs_loop 5000 (gh_twoOf_L17 T M a1 t4) (t4.1, x2)).bind (Sum.elim (fun (r4 : Int32) =>
some (Sum.inl (r4, (t4.2 + 1))))
 (fun z => some (Sum.inr (Sum.inr z)))))
else (some (Sum.inr (Sum.inr (-1))))
def gh_twoOf (T : zt_T) (M : cs_S) (a1 : Int32) : Option (Int32) :=
(zs_loop 5000 (gh_twoOf_L4 T M a1) (0, 0)).bind (Sum.elim (fun (r5 : Int32 × Int32) =>
some ((10 * r5.1) + r5.2))
 (fun z => some z))
set_option maxHeartbeats 4000000 in
theorem kh_twoOf (D : zs_D) (W : cs_W) (P : Nat → Bool) (h0 : zs_AH) (c : Nat) (M : cs_S) (a1 : Int32) : zs_Con D (cs_R W P h0 c) cs_bd zs_eI yX0_twoOf cX0_twoOf 5 (some .int) 2 [.ref (c + 0), .int a1] M ((gh_twoOf W.2.1 M a1).map fun x => (x, M)) := by
  unfold gh_twoOf
  refine zs_conR (own := RX0) (nm := "twoOf") pl_X0 rfl rfl (Nat.le_of_ble_eq_true rfl) ?_
  refine zs_lv (lv' := [(0, .ref (c + 0)), (1, .int a1)]) rfl ?_
  refine zs_iconst (pc := 0) (v := 0) dX0_twoOf_0 rfl ?_
  refine zs_istore_n (pc := 1) (lv' := [(0, .ref (c + 0)), (1, .int a1), (2, .int 0)]) [1, 2, 0] dX0_twoOf_1 rfl (by decide) rfl ?_
  refine zs_iconst (pc := 2) (v := 0) dX0_twoOf_2 rfl ?_
  refine zs_istore_n (pc := 3) (lv' := [(0, .ref (c + 0)), (1, .int a1), (2, .int 0), (3, .int 0)]) [1, 2, 3, 0] dX0_twoOf_3 rfl (by decide) rfl ?_
  refine zs_whileR (pc := 4) (fun (t4 : Int32 × Int32) => M) (fun (t4 : Int32 × Int32) => [(0, .ref (c + 0)), (1, .int a1), (2, .int t4.1), (3, .int t4.2)]) 5000 (0, 0) (fun (r5 : Int32 × Int32) => M) 31 (fun (r5 : Int32 × Int32) => [(3, .int r5.1), (4, .int r5.2)]) [] (fun r5 => ?_) (fun X4 hL4 hE4 hR4 t4 => ?_)
  · refine zs_bipush (pc := 31) (v := 10) dX0_twoOf_31 (by decide) ?_
    refine zs_iload_n (pc := 33) 0 dX0_twoOf_33 rfl rfl ?_
    refine zs_imul (pc := 34) dX0_twoOf_34 ?_
    refine zs_iload (pc := 35) 1 dX0_twoOf_35 rfl ?_
    refine zs_iadd (pc := 37) dX0_twoOf_37 ?_
    exact zs_iret (pc := 38) dX0_twoOf_38 rfl rfl rfl
  · unfold gh_twoOf_L4
    refine zs_iload_n (pc := 4) 3 dX0_twoOf_4 rfl rfl ?_
    refine zs_aload_n (pc := 5) 0 dX0_twoOf_5 rfl rfl ?_
    refine zs_callVrI (pc := 6) [] [.int t4.2] (kh_houses D W P h0 c M) wh_houses q1124 zc_X0 cs_rcv0 dX0_twoOf_6 rfl rfl (Nat.le_of_ble_eq_true rfl) (Nat.le_of_ble_eq_true rfl) (fun x1 => ?_)
    refine zs_icmp_ge (pc := 9) (tgt := 54) dX0_twoOf_9 (by decide) ?_ ?_
    · refine zs_iload_n (pc := 12) 3 dX0_twoOf_12 rfl rfl ?_
      refine zs_iconst (pc := 13) (v := 1) dX0_twoOf_13 rfl ?_
      refine zs_iadd (pc := 14) dX0_twoOf_14 ?_
      refine zs_nm (fun x2 => ?_)
      refine zs_istore (pc := 15) (lv' := [(0, .ref (c + 0)), (1, .int a1), (2, .int t4.1), (3, .int t4.2), (4, .int x2)]) [1, 2, 3, 4, 0] dX0_twoOf_15 (by decide) rfl ?_
      refine zs_whileR (pc := 17) (fun (t17 : Int32 × Int32) => M) (fun (t17 : Int32 × Int32) => [(0, .ref (c + 0)), (1, .int a1), (2, .int t17.1), (3, .int t4.2), (4, .int t17.2)]) 5000 (t4.1, x2) (fun (r4 : Int32) => M) 48 (fun (r4 : Int32) => [(0, .ref (c + 0)), (1, .int a1), (2, .int r4), (3, .int t4.2)]) [] (fun r4 => ?_) (fun X17 hL17 hE17 hR17 t17 => ?_)
      · refine zs_iinc (pc := 48) (lv' := [(0, .ref (c + 0)), (1, .int a1), (2, .int r4), (3, .int (t4.2 + 1))]) 3 [1, 2, 3, 0] dX0_twoOf_48 rfl rfl (by decide) rfl ?_
        refine zs_goto (pc := 51) (tgt := 4) dX0_twoOf_51 (by decide) ?_
        exact hL4 (r4, (t4.2 + 1))
      · unfold gh_twoOf_L17
        refine zs_iload (pc := 17) 4 dX0_twoOf_17 rfl ?_
        refine zs_aload_n (pc := 19) 0 dX0_twoOf_19 rfl rfl ?_
        refine zs_callVrI (pc := 20) [] [.int t17.2] (kh_houses D W P h0 c M) wh_houses q1124 zc_X0 cs_rcv0 dX0_twoOf_20 rfl rfl (Nat.le_of_ble_eq_true rfl) (Nat.le_of_ble_eq_true rfl) (fun x3 => ?_)
        refine zs_icmp_ge (pc := 23) (tgt := 48) dX0_twoOf_23 (by decide) ?_ ?_
        · refine zs_iload_n (pc := 26) 2 dX0_twoOf_26 rfl rfl ?_
          refine zs_iload_n (pc := 27) 1 dX0_twoOf_27 rfl rfl ?_
          refine zs_icmp_ne (pc := 28) (tgt := 39) dX0_twoOf_28 (by decide) ?_ ?_
          · refine zs_bipush (pc := 31) (v := 10) dX0_twoOf_31 (by decide) ?_
            refine zs_iload_n (pc := 33) 3 dX0_twoOf_33 rfl rfl ?_
            refine zs_imul (pc := 34) dX0_twoOf_34 ?_
            refine zs_iload (pc := 35) 4 dX0_twoOf_35 rfl ?_
            refine zs_iadd (pc := 37) dX0_twoOf_37 ?_
            exact zs_iret (pc := 38) dX0_twoOf_38 ((hR17 _).trans ((hR4 _).trans rfl)) rfl rfl
          · refine zs_iinc (pc := 39) (lv' := [(0, .ref (c + 0)), (1, .int a1), (2, .int (t17.1 + 1)), (3, .int t4.2), (4, .int t17.2)]) 2 [1, 2, 0, 3, 4] dX0_twoOf_39 rfl rfl (by decide) rfl ?_
            refine zs_iinc (pc := 42) (lv' := [(0, .ref (c + 0)), (1, .int a1), (2, .int (t17.1 + 1)), (3, .int t4.2), (4, .int (t17.2 + 1))]) 4 [1, 2, 3, 4, 0] dX0_twoOf_42 rfl rfl (by decide) rfl ?_
            refine zs_goto (pc := 45) (tgt := 17) dX0_twoOf_45 (by decide) ?_
            exact hL17 ((t17.1 + 1), (t17.2 + 1))
        · refine zs_sub (lv' := [(0, .ref (c + 0)), (1, .int a1), (2, .int t17.1), (3, .int t4.2)]) [0, 1, 2, 3] rfl ?_
          exact hE17 t17.1
    · refine zs_iconst (pc := 54) (v := (-1)) dX0_twoOf_54 rfl ?_
      exact zs_iret (pc := 55) dX0_twoOf_55 ((hR4 _).trans rfl) rfl rfl
theorem wh_peace : zs_mV RX0 yX0_peace cX0_peace 6 (some .int) 2 := ⟨q1419, q1420, q134, q1421, by decide, by decide +kernel⟩
def gh_peace_L53 (x5 : Int32) (T : zt_T) (a1 : Int32) (a2 : Int32) : (Int32 × cs_S) → Option ((Int32 × cs_S) ⊕ ((cs_S) ⊕ (Int32 × cs_S))) := fun t53 =>
if t53.1 < x5 then ((gh_twoOf T t53.2 t53.1).bind fun x7 =>
(gh_isPeace T t53.2 a1 x7 (-1)).bind fun p8 =>
if p8.1 = true then ((gh_twoOf T p8.2 t53.1).bind fun x10 =>
(gh_peaceBy a2 1 x10 (-1)).bind fun x11 =>
some (Sum.inr (Sum.inr (x11, p8.2))))
else ((some p8.2).bind fun M9 =>
some (Sum.inl ((t53.1 + 1), M9))))
else (some (Sum.inr (Sum.inl t53.2)))
def gh_peace_L108 (x5 : Int32) (T : zt_T) (t96 : Int32 × cs_S) (a1 : Int32) (a2 : Int32) : (Int32 × cs_S) → Option ((Int32 × cs_S) ⊕ ((cs_S) ⊕ (Int32 × cs_S))) := fun t108 =>
if t108.1 < x5 then ((gh_twoOf T t108.2 t96.1).bind fun x14 =>
(gh_twoOf T t108.2 t108.1).bind fun x15 =>
(gh_isPeace T t108.2 a1 x14 x15).bind fun p16 =>
if p16.1 = true then ((gh_twoOf T p16.2 t96.1).bind fun x18 =>
(gh_twoOf T p16.2 t108.1).bind fun x19 =>
(gh_peaceBy a2 2 x18 x19).bind fun x20 =>
some (Sum.inr (Sum.inr (x20, p16.2))))
else ((some p16.2).bind fun M17 =>
some (Sum.inl ((t108.1 + 1), M17))))
else (some (Sum.inr (Sum.inl t108.2)))
def gh_peace_L96 (x5 : Int32) (T : zt_T) (a1 : Int32) (a2 : Int32) : (Int32 × cs_S) → Option ((Int32 × cs_S) ⊕ ((Int32 × Int32 × cs_S) ⊕ (Int32 × cs_S))) := fun t96 =>
if t96.1 < x5 then ((some (t96.1 + 1)).bind fun x13 =>
(zs_loop 5000 (gh_peace_L108 x5 T t96 a1 a2) (x13, t96.2)).bind (Sum.elim (fun (r21 : cs_S) =>
some (Sum.inl ((t96.1 + 1), r21)))
 (fun z => some (Sum.inr (Sum.inr z)))))
else (some (Sum.inr (Sum.inr ((-2), t96.2))))
def gh_peace (T : zt_T) (M : cs_S) (a1 : Int32) (a2 : Int32) : Option (Int32 × cs_S) :=
(gh_isHaul a1).bind fun b1 =>
if b1 = true then ((gh_isIn a2 0 2).bind fun b2 =>
if b2 = true then ((gh_houses T M).bind fun x3 =>
(gh_houses T M).bind fun x4 =>
(some ((x3 * (x4 - 1)) / 2)).bind fun x5 =>
(gh_isPeace T M a1 (-1) (-1)).bind fun p6 =>
if p6.1 = true then ((gh_peaceBy a2 0 (-1) (-1)).bind fun x26 =>
some (x26, p6.2))
else ((zs_loop 5000 (gh_peace_L53 x5 T a1 a2) (0, p6.2)).bind (Sum.elim (fun (r12 : cs_S) =>
(zs_loop 5000 (gh_peace_L96 x5 T a1 a2) (0, r12)).bind (Sum.elim (fun (r22 : Int32 × Int32 × cs_S) =>
(gh_twoOf T r22.2.2 r22.1).bind fun x23 =>
(gh_twoOf T r22.2.2 r22.2.1).bind fun x24 =>
(gh_peaceBy a2 2 x23 x24).bind fun x25 =>
some (x25, r22.2.2))
 (fun z => some z)))
 (fun z => some z))))
else (some ((-1), M)))
else (some ((-1), M))
set_option maxHeartbeats 4000000 in
theorem kh_peace (D : zs_D) (W : cs_W) (P : Nat → Bool) (h0 : zs_AH) (c : Nat) (M : cs_S) (a1 : Int32) (a2 : Int32) : zs_Con D (cs_R W P h0 c) cs_bd zs_eI yX0_peace cX0_peace 6 (some .int) 426 [.ref (c + 0), .int a1, .int a2] M (gh_peace W.2.1 M a1 a2) := by
  unfold gh_peace
  refine zs_con (own := RX0) (nm := "peace") pl_X0 rfl rfl (Nat.le_of_ble_eq_true rfl) ?_
  refine zs_lv (lv' := [(0, .ref (c + 0)), (1, .int a1), (2, .int a2)]) rfl ?_
  refine zs_iload_n (pc := 0) 1 dX0_peace_0 rfl rfl ?_
  refine zs_callSrB (pc := 1) [.int a1] [] (kh_isHaul D _ _ M a1) wh_isHaul q1245 dX0_peace_1 rfl rfl (Nat.le_of_ble_eq_true rfl) (Nat.le_of_ble_eq_true rfl) (fun b1 => ?_)
  refine zs_if_f (pc := 4) (tgt := 16) dX0_peace_4 (by decide) ?_ ?_
  · refine zs_iload_n (pc := 7) 2 dX0_peace_7 rfl rfl ?_
    refine zs_iconst (pc := 8) (v := 0) dX0_peace_8 rfl ?_
    refine zs_iconst (pc := 9) (v := 2) dX0_peace_9 rfl ?_
    refine zs_callSrB (pc := 10) [.int a2, .int 0, .int 2] [] (kh_isIn D _ _ M a2 0 2) wh_isIn q1129 dX0_peace_10 rfl rfl (Nat.le_of_ble_eq_true rfl) (Nat.le_of_ble_eq_true rfl) (fun b2 => ?_)
    refine zs_if_t (pc := 13) (tgt := 18) dX0_peace_13 (by decide) ?_ ?_
    · refine zs_aload_n (pc := 18) 0 dX0_peace_18 rfl rfl ?_
      refine zs_callVrI (pc := 19) [] [] (kh_houses D W P h0 c M) wh_houses q1124 zc_X0 cs_rcv0 dX0_peace_19 rfl rfl (Nat.le_of_ble_eq_true rfl) (Nat.le_of_ble_eq_true rfl) (fun x3 => ?_)
      refine zs_aload_n (pc := 22) 0 dX0_peace_22 rfl rfl ?_
      refine zs_callVrI (pc := 23) [] [.int x3] (kh_houses D W P h0 c M) wh_houses q1124 zc_X0 cs_rcv0 dX0_peace_23 rfl rfl (Nat.le_of_ble_eq_true rfl) (Nat.le_of_ble_eq_true rfl) (fun x4 => ?_)
      refine zs_iconst (pc := 26) (v := 1) dX0_peace_26 rfl ?_
      refine zs_isub (pc := 27) dX0_peace_27 ?_
      refine zs_imul (pc := 28) dX0_peace_28 ?_
      refine zs_iconst (pc := 29) (v := 2) dX0_peace_29 rfl ?_
      refine zs_idivK (pc := 30) dX0_peace_30 (by decide) ?_
      refine zs_nm (fun x5 => ?_)
      refine zs_istore_n (pc := 31) (lv' := [(0, .ref (c + 0)), (1, .int a1), (2, .int a2), (3, .int x5)]) [1, 2, 3, 0] dX0_peace_31 rfl (by decide) rfl ?_
      refine zs_aload_n (pc := 32) 0 dX0_peace_32 rfl rfl ?_
      refine zs_iload_n (pc := 33) 1 dX0_peace_33 rfl rfl ?_
      refine zs_iconst (pc := 34) (v := (-1)) dX0_peace_34 rfl ?_
      refine zs_iconst (pc := 35) (v := (-1)) dX0_peace_35 rfl ?_
      refine zs_callVwB (pc := 36) [.int a1, .int (-1), .int (-1)] [] (kh_isPeace D W P h0 c M a1 (-1) (-1)) wh_isPeace q1422 zc_X0 cs_rcv0 dX0_peace_36 rfl rfl (Nat.le_of_ble_eq_true rfl) (Nat.le_of_ble_eq_true rfl) (fun p6 => ?_)
      refine zs_if_f (pc := 39) (tgt := 50) dX0_peace_39 (by decide) ?_ ?_
      · refine zs_iload_n (pc := 42) 2 dX0_peace_42 rfl rfl ?_
        refine zs_iconst (pc := 43) (v := 0) dX0_peace_43 rfl ?_
        refine zs_iconst (pc := 44) (v := (-1)) dX0_peace_44 rfl ?_
        refine zs_iconst (pc := 45) (v := (-1)) dX0_peace_45 rfl ?_
        refine zs_callSrI (pc := 46) [.int a2, .int 0, .int (-1), .int (-1)] [] (kh_peaceBy D _ _ p6.2 a2 0 (-1) (-1)) wh_peaceBy q1430 dX0_peace_46 rfl rfl (Nat.le_of_ble_eq_true rfl) (Nat.le_of_ble_eq_true rfl) (fun x26 => ?_)
        exact zs_iret (pc := 49) dX0_peace_49 rfl rfl rfl
      · refine zs_iconst (pc := 50) (v := 0) dX0_peace_50 rfl ?_
        refine zs_istore (pc := 51) (lv' := [(0, .ref (c + 0)), (1, .int a1), (2, .int a2), (3, .int x5), (4, .int 0)]) [1, 2, 3, 4, 0] dX0_peace_51 (by decide) rfl ?_
        refine zs_whileR (pc := 53) (fun (t53 : Int32 × cs_S) => t53.2) (fun (t53 : Int32 × cs_S) => [(0, .ref (c + 0)), (1, .int a1), (2, .int a2), (3, .int x5), (4, .int t53.1)]) 5000 (0, p6.2) (fun (r12 : cs_S) => r12) 93 (fun (r12 : cs_S) => [(0, .ref (c + 0)), (1, .int a1), (2, .int a2), (3, .int x5)]) [] (fun r12 => ?_) (fun X53 hL53 hE53 hR53 t53 => ?_)
        · refine zs_iconst (pc := 93) (v := 0) dX0_peace_93 rfl ?_
          refine zs_istore (pc := 94) (lv' := [(0, .ref (c + 0)), (1, .int a1), (2, .int a2), (3, .int x5), (4, .int 0)]) [1, 2, 3, 4, 0] dX0_peace_94 (by decide) rfl ?_
          refine zs_whileR (pc := 96) (fun (t96 : Int32 × cs_S) => t96.2) (fun (t96 : Int32 × cs_S) => [(0, .ref (c + 0)), (1, .int a1), (2, .int a2), (3, .int x5), (4, .int t96.1)]) 5000 (0, r12) (fun (r22 : Int32 × Int32 × cs_S) => r22.2.2) 134 (fun (r22 : Int32 × Int32 × cs_S) => [(0, .ref (c + 0)), (2, .int a2), (4, .int r22.1), (5, .int r22.2.1)]) [] (fun r22 => ?_) (fun X96 hL96 hE96 hR96 t96 => ?_)
          · refine zs_iload_n (pc := 134) 1 dX0_peace_134 rfl rfl ?_
            refine zs_iconst (pc := 135) (v := 2) dX0_peace_135 rfl ?_
            refine zs_aload_n (pc := 136) 0 dX0_peace_136 rfl rfl ?_
            refine zs_iload (pc := 137) 2 dX0_peace_137 rfl ?_
            refine zs_callVrI (pc := 139) [.int r22.1] [.int 2, .int a2] (kh_twoOf D W P h0 c r22.2.2 r22.1) wh_twoOf q1433 zc_X0 cs_rcv0 dX0_peace_139 rfl rfl (Nat.le_of_ble_eq_true rfl) (Nat.le_of_ble_eq_true rfl) (fun x23 => ?_)
            refine zs_aload_n (pc := 142) 0 dX0_peace_142 rfl rfl ?_
            refine zs_iload (pc := 143) 3 dX0_peace_143 rfl ?_
            refine zs_callVrI (pc := 145) [.int r22.2.1] [.int x23, .int 2, .int a2] (kh_twoOf D W P h0 c r22.2.2 r22.2.1) wh_twoOf q1433 zc_X0 cs_rcv0 dX0_peace_145 rfl rfl (Nat.le_of_ble_eq_true rfl) (Nat.le_of_ble_eq_true rfl) (fun x24 => ?_)
            refine zs_callSrI (pc := 148) [.int a2, .int 2, .int x23, .int x24] [] (kh_peaceBy D _ _ r22.2.2 a2 2 x23 x24) wh_peaceBy q1430 dX0_peace_148 rfl rfl (Nat.le_of_ble_eq_true rfl) (Nat.le_of_ble_eq_true rfl) (fun x25 => ?_)
            exact zs_iret (pc := 151) dX0_peace_151 rfl rfl rfl
          · unfold gh_peace_L96
            refine zs_iload (pc := 96) 4 dX0_peace_96 rfl ?_
            refine zs_iload_n (pc := 98) 3 dX0_peace_98 rfl rfl ?_
            refine zs_icmp_ge (pc := 99) (tgt := 164) dX0_peace_99 (by decide) ?_ ?_
            · refine zs_iload (pc := 102) 4 dX0_peace_102 rfl ?_
              refine zs_iconst (pc := 104) (v := 1) dX0_peace_104 rfl ?_
              refine zs_iadd (pc := 105) dX0_peace_105 ?_
              refine zs_nm (fun x13 => ?_)
              refine zs_istore (pc := 106) (lv' := [(0, .ref (c + 0)), (1, .int a1), (2, .int a2), (3, .int x5), (4, .int t96.1), (5, .int x13)]) [1, 2, 3, 4, 5, 0] dX0_peace_106 (by decide) rfl ?_
              refine zs_whileR (pc := 108) (fun (t108 : Int32 × cs_S) => t108.2) (fun (t108 : Int32 × cs_S) => [(0, .ref (c + 0)), (1, .int a1), (2, .int a2), (3, .int x5), (4, .int t96.1), (5, .int t108.1)]) 5000 (x13, t96.2) (fun (r21 : cs_S) => r21) 158 (fun (r21 : cs_S) => [(0, .ref (c + 0)), (1, .int a1), (2, .int a2), (3, .int x5), (4, .int t96.1)]) [] (fun r21 => ?_) (fun X108 hL108 hE108 hR108 t108 => ?_)
              · refine zs_iinc (pc := 158) (lv' := [(0, .ref (c + 0)), (1, .int a1), (2, .int a2), (3, .int x5), (4, .int (t96.1 + 1))]) 4 [1, 2, 3, 4, 0] dX0_peace_158 rfl rfl (by decide) rfl ?_
                refine zs_goto (pc := 161) (tgt := 96) dX0_peace_161 (by decide) ?_
                exact hL96 ((t96.1 + 1), r21)
              · unfold gh_peace_L108
                refine zs_iload (pc := 108) 5 dX0_peace_108 rfl ?_
                refine zs_iload_n (pc := 110) 3 dX0_peace_110 rfl rfl ?_
                refine zs_icmp_ge (pc := 111) (tgt := 158) dX0_peace_111 (by decide) ?_ ?_
                · refine zs_aload_n (pc := 114) 0 dX0_peace_114 rfl rfl ?_
                  refine zs_iload_n (pc := 115) 1 dX0_peace_115 rfl rfl ?_
                  refine zs_aload_n (pc := 116) 0 dX0_peace_116 rfl rfl ?_
                  refine zs_iload (pc := 117) 4 dX0_peace_117 rfl ?_
                  refine zs_callVrI (pc := 119) [.int t96.1] [.int a1, .ref (c + 0)] (kh_twoOf D W P h0 c t108.2 t96.1) wh_twoOf q1433 zc_X0 cs_rcv0 dX0_peace_119 rfl rfl (Nat.le_of_ble_eq_true rfl) (Nat.le_of_ble_eq_true rfl) (fun x14 => ?_)
                  refine zs_aload_n (pc := 122) 0 dX0_peace_122 rfl rfl ?_
                  refine zs_iload (pc := 123) 5 dX0_peace_123 rfl ?_
                  refine zs_callVrI (pc := 125) [.int t108.1] [.int x14, .int a1, .ref (c + 0)] (kh_twoOf D W P h0 c t108.2 t108.1) wh_twoOf q1433 zc_X0 cs_rcv0 dX0_peace_125 rfl rfl (Nat.le_of_ble_eq_true rfl) (Nat.le_of_ble_eq_true rfl) (fun x15 => ?_)
                  refine zs_callVwB (pc := 128) [.int a1, .int x14, .int x15] [] (kh_isPeace D W P h0 c t108.2 a1 x14 x15) wh_isPeace q1422 zc_X0 cs_rcv0 dX0_peace_128 rfl rfl (Nat.le_of_ble_eq_true rfl) (Nat.le_of_ble_eq_true rfl) (fun p16 => ?_)
                  refine zs_if_f (pc := 131) (tgt := 152) dX0_peace_131 (by decide) ?_ ?_
                  · refine zs_iload_n (pc := 134) 2 dX0_peace_134 rfl rfl ?_
                    refine zs_iconst (pc := 135) (v := 2) dX0_peace_135 rfl ?_
                    refine zs_aload_n (pc := 136) 0 dX0_peace_136 rfl rfl ?_
                    refine zs_iload (pc := 137) 4 dX0_peace_137 rfl ?_
                    refine zs_callVrI (pc := 139) [.int t96.1] [.int 2, .int a2] (kh_twoOf D W P h0 c p16.2 t96.1) wh_twoOf q1433 zc_X0 cs_rcv0 dX0_peace_139 rfl rfl (Nat.le_of_ble_eq_true rfl) (Nat.le_of_ble_eq_true rfl) (fun x18 => ?_)
                    refine zs_aload_n (pc := 142) 0 dX0_peace_142 rfl rfl ?_
                    refine zs_iload (pc := 143) 5 dX0_peace_143 rfl ?_
                    refine zs_callVrI (pc := 145) [.int t108.1] [.int x18, .int 2, .int a2] (kh_twoOf D W P h0 c p16.2 t108.1) wh_twoOf q1433 zc_X0 cs_rcv0 dX0_peace_145 rfl rfl (Nat.le_of_ble_eq_true rfl) (Nat.le_of_ble_eq_true rfl) (fun x19 => ?_)
                    refine zs_callSrI (pc := 148) [.int a2, .int 2, .int x18, .int x19] [] (kh_peaceBy D _ _ p16.2 a2 2 x18 x19) wh_peaceBy q1430 dX0_peace_148 rfl rfl (Nat.le_of_ble_eq_true rfl) (Nat.le_of_ble_eq_true rfl) (fun x20 => ?_)
                    exact zs_iret (pc := 151) dX0_peace_151 ((hR108 _).trans ((hR96 _).trans rfl)) rfl rfl
                  · refine zs_iinc (pc := 152) (lv' := [(0, .ref (c + 0)), (1, .int a1), (2, .int a2), (3, .int x5), (4, .int t96.1), (5, .int (t108.1 + 1))]) 5 [1, 2, 3, 4, 5, 0] dX0_peace_152 rfl rfl (by decide) rfl ?_
                    refine zs_goto (pc := 155) (tgt := 108) dX0_peace_155 (by decide) ?_
                    refine zs_nmM (fun M17 => ?_)
                    exact hL108 ((t108.1 + 1), M17)
                · refine zs_sub (lv' := [(0, .ref (c + 0)), (1, .int a1), (2, .int a2), (3, .int x5), (4, .int t96.1)]) [0, 1, 2, 3, 4] rfl ?_
                  exact hE108 t108.2
            · refine zs_bipush (pc := 164) (v := (-2)) dX0_peace_164 (by decide) ?_
              exact zs_iret (pc := 166) dX0_peace_166 ((hR96 _).trans rfl) rfl rfl
        · unfold gh_peace_L53
          refine zs_iload (pc := 53) 4 dX0_peace_53 rfl ?_
          refine zs_iload_n (pc := 55) 3 dX0_peace_55 rfl rfl ?_
          refine zs_icmp_ge (pc := 56) (tgt := 93) dX0_peace_56 (by decide) ?_ ?_
          · refine zs_aload_n (pc := 59) 0 dX0_peace_59 rfl rfl ?_
            refine zs_iload_n (pc := 60) 1 dX0_peace_60 rfl rfl ?_
            refine zs_aload_n (pc := 61) 0 dX0_peace_61 rfl rfl ?_
            refine zs_iload (pc := 62) 4 dX0_peace_62 rfl ?_
            refine zs_callVrI (pc := 64) [.int t53.1] [.int a1, .ref (c + 0)] (kh_twoOf D W P h0 c t53.2 t53.1) wh_twoOf q1433 zc_X0 cs_rcv0 dX0_peace_64 rfl rfl (Nat.le_of_ble_eq_true rfl) (Nat.le_of_ble_eq_true rfl) (fun x7 => ?_)
            refine zs_iconst (pc := 67) (v := (-1)) dX0_peace_67 rfl ?_
            refine zs_callVwB (pc := 68) [.int a1, .int x7, .int (-1)] [] (kh_isPeace D W P h0 c t53.2 a1 x7 (-1)) wh_isPeace q1422 zc_X0 cs_rcv0 dX0_peace_68 rfl rfl (Nat.le_of_ble_eq_true rfl) (Nat.le_of_ble_eq_true rfl) (fun p8 => ?_)
            refine zs_if_f (pc := 71) (tgt := 87) dX0_peace_71 (by decide) ?_ ?_
            · refine zs_iload_n (pc := 74) 2 dX0_peace_74 rfl rfl ?_
              refine zs_iconst (pc := 75) (v := 1) dX0_peace_75 rfl ?_
              refine zs_aload_n (pc := 76) 0 dX0_peace_76 rfl rfl ?_
              refine zs_iload (pc := 77) 4 dX0_peace_77 rfl ?_
              refine zs_callVrI (pc := 79) [.int t53.1] [.int 1, .int a2] (kh_twoOf D W P h0 c p8.2 t53.1) wh_twoOf q1433 zc_X0 cs_rcv0 dX0_peace_79 rfl rfl (Nat.le_of_ble_eq_true rfl) (Nat.le_of_ble_eq_true rfl) (fun x10 => ?_)
              refine zs_iconst (pc := 82) (v := (-1)) dX0_peace_82 rfl ?_
              refine zs_callSrI (pc := 83) [.int a2, .int 1, .int x10, .int (-1)] [] (kh_peaceBy D _ _ p8.2 a2 1 x10 (-1)) wh_peaceBy q1430 dX0_peace_83 rfl rfl (Nat.le_of_ble_eq_true rfl) (Nat.le_of_ble_eq_true rfl) (fun x11 => ?_)
              exact zs_iret (pc := 86) dX0_peace_86 ((hR53 _).trans rfl) rfl rfl
            · refine zs_iinc (pc := 87) (lv' := [(0, .ref (c + 0)), (1, .int a1), (2, .int a2), (3, .int x5), (4, .int (t53.1 + 1))]) 4 [1, 2, 3, 4, 0] dX0_peace_87 rfl rfl (by decide) rfl ?_
              refine zs_goto (pc := 90) (tgt := 53) dX0_peace_90 (by decide) ?_
              refine zs_nmM (fun M9 => ?_)
              exact hL53 ((t53.1 + 1), M9)
          · refine zs_sub (lv' := [(0, .ref (c + 0)), (1, .int a1), (2, .int a2), (3, .int x5)]) [0, 1, 2, 3] rfl ?_
            exact hE53 t53.2
    · refine zs_iconst (pc := 16) (v := (-1)) dX0_peace_16 rfl ?_
      exact zs_iret (pc := 17) dX0_peace_17 rfl rfl rfl
  · refine zs_iconst (pc := 16) (v := (-1)) dX0_peace_16 rfl ?_
    exact zs_iret (pc := 17) dX0_peace_17 rfl rfl rfl
theorem wh_givers : zs_mV RX0 yX0_givers cX0_givers 3 (some .int) 0 := ⟨q1443, qs52, q134, q1444, by decide, by decide +kernel⟩
def gh_givers_L4 (T : zt_T) (M : cs_S) : (Int32 × Int32) → Option ((Int32 × Int32) ⊕ (Int32)) := fun t4 =>
(gh_houses T M).bind fun x1 =>
if t4.2 < x1 then ((gv_longOf T M 0 t4.2).bind fun x2 =>
(if 0 < x2 then (some (zs_shl 1 t4.2))
else (some 0)).bind fun (p3 : Int32) =>
(some (t4.1 ||| p3)).bind fun x4 =>
some (Sum.inl (x4, (t4.2 + 1))))
else (some (Sum.inr t4.1))
def gh_givers (T : zt_T) (M : cs_S) : Option (Int32) :=
(zs_loop 5000 (gh_givers_L4 T M) (0, 0)).bind fun z => some z
set_option maxHeartbeats 4000000 in
theorem kh_givers (D : zs_D) (W : cs_W) (P : Nat → Bool) (h0 : zs_AH) (c : Nat) (M : cs_S) : zs_Con D (cs_R W P h0 c) cs_bd zs_eI yX0_givers cX0_givers 3 (some .int) 2 [.ref (c + 0)] M ((gh_givers W.2.1 M).map fun x => (x, M)) := by
  unfold gh_givers
  refine zs_conR (own := RX0) (nm := "givers") pl_X0 rfl rfl (Nat.le_of_ble_eq_true rfl) ?_
  refine zs_lv (lv' := [(0, .ref (c + 0))]) rfl ?_
  refine zs_iconst (pc := 0) (v := 0) dX0_givers_0 rfl ?_
  refine zs_istore_n (pc := 1) (lv' := [(0, .ref (c + 0)), (1, .int 0)]) [1, 0] dX0_givers_1 rfl (by decide) rfl ?_
  refine zs_iconst (pc := 2) (v := 0) dX0_givers_2 rfl ?_
  refine zs_istore_n (pc := 3) (lv' := [(0, .ref (c + 0)), (1, .int 0), (2, .int 0)]) [1, 2, 0] dX0_givers_3 rfl (by decide) rfl ?_
  refine zs_whileX (pc := 4) (fun (t4 : Int32 × Int32) => M) (fun (t4 : Int32 × Int32) => [(0, .ref (c + 0)), (1, .int t4.1), (2, .int t4.2)]) 5000 (0, 0) (fun X4 hL4 hR4 t4 => ?_)
  unfold gh_givers_L4
  refine zs_iload_n (pc := 4) 2 dX0_givers_4 rfl rfl ?_
  refine zs_aload_n (pc := 5) 0 dX0_givers_5 rfl rfl ?_
  refine zs_callVrI (pc := 6) [] [.int t4.2] (kh_houses D W P h0 c M) wh_houses q1124 zc_X0 cs_rcv0 dX0_givers_6 rfl rfl (Nat.le_of_ble_eq_true rfl) (Nat.le_of_ble_eq_true rfl) (fun x1 => ?_)
  refine zs_icmp_ge (pc := 9) (tgt := 39) dX0_givers_9 (by decide) ?_ ?_
  · refine zs_iload_n (pc := 12) 1 dX0_givers_12 rfl rfl ?_
    refine zs_aload_n (pc := 13) 0 dX0_givers_13 rfl rfl ?_
    refine cs_getr (pc := 14) 0 0 7 (v := .ref (c + cs_va 0)) ⟨⟨by decide, by decide⟩, rfl⟩ zc_X0 ⟨rfl, rfl⟩ (by decide) rfl rfl q536 dX0_givers_14 ?_
    refine zs_iload_n (pc := 17) 2 dX0_givers_17 rfl rfl ?_
    refine zs_callVrI (pc := 18) [.int t4.2] [.int t4.1] (kv_xlongOf D W P h0 c M 0 (by omega) t4.2) wv_longOf q1374 zc_X5 (cs_rcvv (by omega)) dX0_givers_18 rfl rfl (Nat.le_of_ble_eq_true rfl) (Nat.le_of_ble_eq_true rfl) (fun x2 => ?_)
    refine zs_join (pc := 21) (fun (p3 : Int32) => M) 31 (fun (p3 : Int32) => [(0, .ref (c + 0)), (2, .int t4.2)]) (fun (p3 : Int32) => [.int p3, .int t4.1]) (fun p3 => ?_) (fun h31 => ?_)
    · refine zs_ior (pc := 31) dX0_givers_31 ?_
      refine zs_nm (fun x4 => ?_)
      refine zs_istore_n (pc := 32) (lv' := [(0, .ref (c + 0)), (1, .int x4), (2, .int t4.2)]) [1, 0, 2] dX0_givers_32 rfl (by decide) rfl ?_
      refine zs_iinc (pc := 33) (lv' := [(0, .ref (c + 0)), (1, .int x4), (2, .int (t4.2 + 1))]) 2 [1, 2, 0] dX0_givers_33 rfl rfl (by decide) rfl ?_
      refine zs_goto (pc := 36) (tgt := 4) dX0_givers_36 (by decide) ?_
      exact hL4 (x4, (t4.2 + 1))
    · refine zs_if_le (pc := 21) (tgt := 30) dX0_givers_21 (by decide) ?_ ?_
      · refine zs_iconst (pc := 24) (v := 1) dX0_givers_24 rfl ?_
        refine zs_iload_n (pc := 25) 2 dX0_givers_25 rfl rfl ?_
        refine zs_ishl (pc := 26) dX0_givers_26 ?_
        refine zs_goto (pc := 27) (tgt := 31) dX0_givers_27 (by decide) ?_
        refine zs_sub (lv' := [(0, .ref (c + 0)), (2, .int t4.2)]) [0, 2] rfl ?_
        exact h31 (zs_shl 1 t4.2)
      · refine zs_iconst (pc := 30) (v := 0) dX0_givers_30 rfl ?_
        refine zs_sub (lv' := [(0, .ref (c + 0)), (2, .int t4.2)]) [0, 2] rfl ?_
        exact h31 0
  · refine zs_iload_n (pc := 39) 1 dX0_givers_39 rfl rfl ?_
    exact zs_iret (pc := 40) dX0_givers_40 ((hR4 _).trans rfl) rfl rfl
theorem wh_isEnough : zs_mV RX0 yX0_isEnough cX0_isEnough 4 (some .boolean) 1 := ⟨q1455, qs55, q134, q1456, by decide, by decide +kernel⟩
def gh_isEnough_L4 (T : zt_T) (M : cs_S) (a1 : Int32) : (Int32 × Int32) → Option ((Int32 × Int32) ⊕ (Int32)) := fun t4 =>
(gh_houses T M).bind fun x1 =>
if t4.2 < x1 then ((if ((zs_shr a1 t4.2) &&& 1) = 1 then ((gv_longOf T M 0 t4.2).bind fun x4 =>
some x4)
else (some 0)).bind fun (p2 : Int32) =>
(some (t4.1 + p2)).bind fun x3 =>
some (Sum.inl (x3, (t4.2 + 1))))
else (some (Sum.inr t4.1))
def gh_isEnough (T : zt_T) (M : cs_S) (a1 : Int32) : Option (Bool) :=
(zs_loop 5000 (gh_isEnough_L4 T M a1) (0, 0)).bind fun (r5 : Int32) =>
if r5 < (zt_f T 4) then (some false)
else (some true)
set_option maxHeartbeats 4000000 in
theorem kh_isEnough (D : zs_D) (W : cs_W) (P : Nat → Bool) (h0 : zs_AH) (c : Nat) (M : cs_S) (a1 : Int32) : zs_Con D (cs_R W P h0 c) cs_bd zs_eB yX0_isEnough cX0_isEnough 4 (some .boolean) 2 [.ref (c + 0), .int a1] M ((gh_isEnough W.2.1 M a1).map fun x => (x, M)) := by
  unfold gh_isEnough
  refine zs_conR (own := RX0) (nm := "isEnough") pl_X0 rfl rfl (Nat.le_of_ble_eq_true rfl) ?_
  refine zs_lv (lv' := [(0, .ref (c + 0)), (1, .int a1)]) rfl ?_
  refine zs_iconst (pc := 0) (v := 0) dX0_isEnough_0 rfl ?_
  refine zs_istore_n (pc := 1) (lv' := [(0, .ref (c + 0)), (1, .int a1), (2, .int 0)]) [1, 2, 0] dX0_isEnough_1 rfl (by decide) rfl ?_
  refine zs_iconst (pc := 2) (v := 0) dX0_isEnough_2 rfl ?_
  refine zs_istore_n (pc := 3) (lv' := [(0, .ref (c + 0)), (1, .int a1), (2, .int 0), (3, .int 0)]) [1, 2, 3, 0] dX0_isEnough_3 rfl (by decide) rfl ?_
  refine zs_whileJ (pc := 4) (fun (t4 : Int32 × Int32) => M) (fun (t4 : Int32 × Int32) => [(0, .ref (c + 0)), (1, .int a1), (2, .int t4.1), (3, .int t4.2)]) 5000 (0, 0) (fun (r5 : Int32) => M) 42 (fun (r5 : Int32) => [(0, .ref (c + 0)), (2, .int r5)]) [] (fun r5 => ?_) (fun X4 hL4 hE4 t4 => ?_)
  · refine zs_iload_n (pc := 42) 1 dX0_isEnough_42 rfl rfl ?_
    refine zs_aload_n (pc := 43) 0 dX0_isEnough_43 rfl rfl ?_
    refine cs_getr (pc := 44) 0 0 3 (v := .ref (zt_ad W.2.1 0)) ⟨⟨by decide, by decide⟩, rfl⟩ zc_X0 ⟨rfl, rfl⟩ (by decide) rfl rfl q532 dX0_isEnough_44 ?_
    refine ct_num (pc := 47) 4 (by decide) q390 dX0_isEnough_47 ?_
    refine zs_icmp_lt (pc := 50) (tgt := 57) dX0_isEnough_50 (by decide) ?_ ?_
    · refine zs_iconst (pc := 57) (v := 0) dX0_isEnough_57 rfl ?_
      exact zs_iret (pc := 58) dX0_isEnough_58 rfl rfl rfl
    · refine zs_iconst (pc := 53) (v := 1) dX0_isEnough_53 rfl ?_
      refine zs_goto (pc := 54) (tgt := 58) dX0_isEnough_54 (by decide) ?_
      exact zs_iret (pc := 58) dX0_isEnough_58 rfl rfl rfl
  · unfold gh_isEnough_L4
    refine zs_iload_n (pc := 4) 3 dX0_isEnough_4 rfl rfl ?_
    refine zs_aload_n (pc := 5) 0 dX0_isEnough_5 rfl rfl ?_
    refine zs_callVrI (pc := 6) [] [.int t4.2] (kh_houses D W P h0 c M) wh_houses q1124 zc_X0 cs_rcv0 dX0_isEnough_6 rfl rfl (Nat.le_of_ble_eq_true rfl) (Nat.le_of_ble_eq_true rfl) (fun x1 => ?_)
    refine zs_icmp_ge (pc := 9) (tgt := 42) dX0_isEnough_9 (by decide) ?_ ?_
    · refine zs_iload_n (pc := 12) 2 dX0_isEnough_12 rfl rfl ?_
      refine zs_iload_n (pc := 13) 1 dX0_isEnough_13 rfl rfl ?_
      refine zs_iload_n (pc := 14) 3 dX0_isEnough_14 rfl rfl ?_
      refine zs_ishr (pc := 15) dX0_isEnough_15 ?_
      refine zs_iconst (pc := 16) (v := 1) dX0_isEnough_16 rfl ?_
      refine zs_iand (pc := 17) dX0_isEnough_17 ?_
      refine zs_iconst (pc := 18) (v := 1) dX0_isEnough_18 rfl ?_
      refine zs_join (pc := 19) (fun (p2 : Int32) => M) 34 (fun (p2 : Int32) => [(0, .ref (c + 0)), (1, .int a1), (3, .int t4.2)]) (fun (p2 : Int32) => [.int p2, .int t4.1]) (fun p2 => ?_) (fun h34 => ?_)
      · refine zs_iadd (pc := 34) dX0_isEnough_34 ?_
        refine zs_nm (fun x3 => ?_)
        refine zs_istore_n (pc := 35) (lv' := [(0, .ref (c + 0)), (1, .int a1), (2, .int x3), (3, .int t4.2)]) [1, 2, 0, 3] dX0_isEnough_35 rfl (by decide) rfl ?_
        refine zs_iinc (pc := 36) (lv' := [(0, .ref (c + 0)), (1, .int a1), (2, .int x3), (3, .int (t4.2 + 1))]) 3 [1, 2, 3, 0] dX0_isEnough_36 rfl rfl (by decide) rfl ?_
        refine zs_goto (pc := 39) (tgt := 4) dX0_isEnough_39 (by decide) ?_
        exact hL4 (x3, (t4.2 + 1))
      · refine zs_icmp_ne (pc := 19) (tgt := 33) dX0_isEnough_19 (by decide) ?_ ?_
        · refine zs_aload_n (pc := 22) 0 dX0_isEnough_22 rfl rfl ?_
          refine cs_getr (pc := 23) 0 0 7 (v := .ref (c + cs_va 0)) ⟨⟨by decide, by decide⟩, rfl⟩ zc_X0 ⟨rfl, rfl⟩ (by decide) rfl rfl q536 dX0_isEnough_23 ?_
          refine zs_iload_n (pc := 26) 3 dX0_isEnough_26 rfl rfl ?_
          refine zs_callVrI (pc := 27) [.int t4.2] [.int t4.1] (kv_xlongOf D W P h0 c M 0 (by omega) t4.2) wv_longOf q1374 zc_X5 (cs_rcvv (by omega)) dX0_isEnough_27 rfl rfl (Nat.le_of_ble_eq_true rfl) (Nat.le_of_ble_eq_true rfl) (fun x4 => ?_)
          refine zs_goto (pc := 30) (tgt := 34) dX0_isEnough_30 (by decide) ?_
          refine zs_sub (lv' := [(0, .ref (c + 0)), (1, .int a1), (3, .int t4.2)]) [0, 1, 3] rfl ?_
          exact h34 x4
        · refine zs_iconst (pc := 33) (v := 0) dX0_isEnough_33 rfl ?_
          refine zs_sub (lv' := [(0, .ref (c + 0)), (1, .int a1), (3, .int t4.2)]) [0, 1, 3] rfl ?_
          exact h34 0
    · refine zs_sub (lv' := [(0, .ref (c + 0)), (2, .int t4.1)]) [0, 2] rfl ?_
      exact hE4 t4.1
theorem wh_worth : zs_mV RX0 yX0_worth cX0_worth 3 (some .int) 2 := ⟨q1451, qs54, q134, q1452, by decide, by decide +kernel⟩
def gh_worth (T : zt_T) (M : cs_S) (a1 : Int32) (a2 : Int32) : Option (Int32 × cs_S) :=
(gh_isEnough T M a2).bind fun b1 =>
(if b1 = true then (some (zt_f T 5))
else (some 0)).bind fun (p2 : Int32) =>
zs_let (fun (p3 : Unit) => some ((p2 - 0), M)) fun J54 =>
if ((zs_shr a2 a1) &&& 1) = 1 then ((gv_has T M 0 a1).bind fun b4 =>
if b4 = true then (J54 ())
else ((gv_costs T M 0 a1).bind fun p5 =>
some ((p2 - p5.1), p5.2)))
else (J54 ())
set_option maxHeartbeats 4000000 in
theorem kh_worth (D : zs_D) (W : cs_W) (P : Nat → Bool) (h0 : zs_AH) (c : Nat) (M : cs_S) (a1 : Int32) (a2 : Int32) : zs_Con D (cs_R W P h0 c) cs_bd zs_eI yX0_worth cX0_worth 3 (some .int) 424 [.ref (c + 0), .int a1, .int a2] M (gh_worth W.2.1 M a1 a2) := by
  unfold gh_worth
  refine zs_con (own := RX0) (nm := "worth") pl_X0 rfl rfl (Nat.le_of_ble_eq_true rfl) ?_
  refine zs_lv (lv' := [(0, .ref (c + 0)), (1, .int a1), (2, .int a2)]) rfl ?_
  refine zs_aload_n (pc := 0) 0 dX0_worth_0 rfl rfl ?_
  refine zs_iload_n (pc := 1) 2 dX0_worth_1 rfl rfl ?_
  refine zs_callVrB (pc := 2) [.int a2] [] (kh_isEnough D W P h0 c M a2) wh_isEnough q1453 zc_X0 cs_rcv0 dX0_worth_2 rfl rfl (Nat.le_of_ble_eq_true rfl) (Nat.le_of_ble_eq_true rfl) (fun b1 => ?_)
  refine zs_join (pc := 5) (fun (p2 : Int32) => M) 19 (fun (p2 : Int32) => [(0, .ref (c + 0)), (1, .int a1), (2, .int a2)]) (fun (p2 : Int32) => [.int p2]) (fun p2 => ?_) (fun h19 => ?_)
  · refine zs_iload_n (pc := 19) 2 dX0_worth_19 rfl rfl ?_
    refine zs_iload_n (pc := 20) 1 dX0_worth_20 rfl rfl ?_
    refine zs_ishr (pc := 21) dX0_worth_21 ?_
    refine zs_iconst (pc := 22) (v := 1) dX0_worth_22 rfl ?_
    refine zs_iand (pc := 23) dX0_worth_23 ?_
    refine zs_iconst (pc := 24) (v := 1) dX0_worth_24 rfl ?_
    refine zs_letJ (pc := 25) (fun (p3 : Unit) => M) 54 (fun (p3 : Unit) => []) (fun (p3 : Unit) => [.int p2]) (fun p3 => ?_) (fun J54 h54 => ?_)
    · refine zs_iconst (pc := 54) (v := 0) dX0_worth_54 rfl ?_
      refine zs_isub (pc := 55) dX0_worth_55 ?_
      exact zs_iret (pc := 56) dX0_worth_56 rfl rfl rfl
    · refine zs_icmp_ne (pc := 25) (tgt := 54) dX0_worth_25 (by decide) ?_ ?_
      · refine zs_aload_n (pc := 28) 0 dX0_worth_28 rfl rfl ?_
        refine cs_getr (pc := 29) 0 0 7 (v := .ref (c + cs_va 0)) ⟨⟨by decide, by decide⟩, rfl⟩ zc_X0 ⟨rfl, rfl⟩ (by decide) rfl rfl q536 dX0_worth_29 ?_
        refine zs_iload_n (pc := 32) 1 dX0_worth_32 rfl rfl ?_
        refine zs_callVrB (pc := 33) [.int a1] [.int p2] (kv_xhas D W P h0 c M 0 (by omega) a1) wv_has q1211 zc_X5 (cs_rcvv (by omega)) dX0_worth_33 rfl rfl (Nat.le_of_ble_eq_true rfl) (Nat.le_of_ble_eq_true rfl) (fun b4 => ?_)
        refine zs_if_t (pc := 36) (tgt := 54) dX0_worth_36 (by decide) ?_ ?_
        · refine zs_sub (lv' := []) [] rfl ?_
          exact h54 ()
        · refine zs_aload_n (pc := 39) 0 dX0_worth_39 rfl rfl ?_
          refine cs_getr (pc := 40) 0 0 7 (v := .ref (c + cs_va 0)) ⟨⟨by decide, by decide⟩, rfl⟩ zc_X0 ⟨rfl, rfl⟩ (by decide) rfl rfl q536 dX0_worth_40 ?_
          refine zs_aload_n (pc := 43) 0 dX0_worth_43 rfl rfl ?_
          refine cs_getr (pc := 44) 0 0 3 (v := .ref (zt_ad W.2.1 0)) ⟨⟨by decide, by decide⟩, rfl⟩ zc_X0 ⟨rfl, rfl⟩ (by decide) rfl rfl q532 dX0_worth_44 ?_
          refine zs_iload_n (pc := 47) 1 dX0_worth_47 rfl rfl ?_
          refine zs_callVwI (pc := 48) [.ref (zt_ad W.2.1 0), .int a1] [.int p2] (kv_xcosts D W P h0 c M 0 (by omega) a1) wv_costs q1179 zc_X5 (cs_rcvv (by omega)) dX0_worth_48 rfl rfl (Nat.le_of_ble_eq_true rfl) (Nat.le_of_ble_eq_true rfl) (fun p5 => ?_)
          refine zs_goto (pc := 51) (tgt := 55) dX0_worth_51 (by decide) ?_
          refine zs_isub (pc := 55) dX0_worth_55 ?_
          exact zs_iret (pc := 56) dX0_worth_56 rfl rfl rfl
      · refine zs_sub (lv' := []) [] rfl ?_
        exact h54 ()
  · refine zs_if_f (pc := 5) (tgt := 18) dX0_worth_5 (by decide) ?_ ?_
    · refine zs_aload_n (pc := 8) 0 dX0_worth_8 rfl rfl ?_
      refine cs_getr (pc := 9) 0 0 3 (v := .ref (zt_ad W.2.1 0)) ⟨⟨by decide, by decide⟩, rfl⟩ zc_X0 ⟨rfl, rfl⟩ (by decide) rfl rfl q532 dX0_worth_9 ?_
      refine ct_num (pc := 12) 5 (by decide) q393 dX0_worth_12 ?_
      refine zs_goto (pc := 15) (tgt := 19) dX0_worth_15 (by decide) ?_
      exact h19 (zt_f W.2.1 5)
    · refine zs_iconst (pc := 18) (v := 0) dX0_worth_18 rfl ?_
      exact h19 0
theorem wh_isRest : zs_mV RX0 yX0_isRest cX0_isRest 3 (some .boolean) 1 := ⟨q1447, qs53, q134, q1448, by decide, by decide +kernel⟩
def gh_isRest_L2 (T : zt_T) (a1 : Int32) : (Int32 × cs_S) → Option ((Int32 × cs_S) ⊕ (Bool × cs_S)) := fun t2 =>
(gh_houses T t2.2).bind fun x1 =>
if t2.1 < x1 then ((gh_givers T t2.2).bind fun x2 =>
zs_let (fun (p3 : cs_S) => some (Sum.inl ((t2.1 + 1), p3))) fun J43 =>
if ((zs_shr x2 t2.1) &&& 1) = 1 then ((gh_worth T t2.2 t2.1 (a1 ^^^ (zs_shl 1 t2.1))).bind fun p4 =>
(gh_worth T p4.2 t2.1 a1).bind fun p5 =>
if p5.1 < p4.1 then (some (Sum.inr (false, p5.2)))
else (J43 p5.2))
else (J43 t2.2))
else (some (Sum.inr (true, t2.2)))
def gh_isRest (T : zt_T) (M : cs_S) (a1 : Int32) : Option (Bool × cs_S) :=
(zs_loop 5000 (gh_isRest_L2 T a1) (0, M)).bind fun z => some z
set_option maxHeartbeats 4000000 in
theorem kh_isRest (D : zs_D) (W : cs_W) (P : Nat → Bool) (h0 : zs_AH) (c : Nat) (M : cs_S) (a1 : Int32) : zs_Con D (cs_R W P h0 c) cs_bd zs_eB yX0_isRest cX0_isRest 3 (some .boolean) 425 [.ref (c + 0), .int a1] M (gh_isRest W.2.1 M a1) := by
  unfold gh_isRest
  refine zs_con (own := RX0) (nm := "isRest") pl_X0 rfl rfl (Nat.le_of_ble_eq_true rfl) ?_
  refine zs_lv (lv' := [(0, .ref (c + 0)), (1, .int a1)]) rfl ?_
  refine zs_iconst (pc := 0) (v := 0) dX0_isRest_0 rfl ?_
  refine zs_istore_n (pc := 1) (lv' := [(0, .ref (c + 0)), (1, .int a1), (2, .int 0)]) [1, 2, 0] dX0_isRest_1 rfl (by decide) rfl ?_
  refine zs_whileX (pc := 2) (fun (t2 : Int32 × cs_S) => t2.2) (fun (t2 : Int32 × cs_S) => [(0, .ref (c + 0)), (1, .int a1), (2, .int t2.1)]) 5000 (0, M) (fun X2 hL2 hR2 t2 => ?_)
  unfold gh_isRest_L2
  refine zs_iload_n (pc := 2) 2 dX0_isRest_2 rfl rfl ?_
  refine zs_aload_n (pc := 3) 0 dX0_isRest_3 rfl rfl ?_
  refine zs_callVrI (pc := 4) [] [.int t2.1] (kh_houses D W P h0 c t2.2) wh_houses q1124 zc_X0 cs_rcv0 dX0_isRest_4 rfl rfl (Nat.le_of_ble_eq_true rfl) (Nat.le_of_ble_eq_true rfl) (fun x1 => ?_)
  refine zs_icmp_ge (pc := 7) (tgt := 49) dX0_isRest_7 (by decide) ?_ ?_
  · refine zs_aload_n (pc := 10) 0 dX0_isRest_10 rfl rfl ?_
    refine zs_callVrI (pc := 11) [] [] (kh_givers D W P h0 c t2.2) wh_givers q1441 zc_X0 cs_rcv0 dX0_isRest_11 rfl rfl (Nat.le_of_ble_eq_true rfl) (Nat.le_of_ble_eq_true rfl) (fun x2 => ?_)
    refine zs_iload_n (pc := 14) 2 dX0_isRest_14 rfl rfl ?_
    refine zs_ishr (pc := 15) dX0_isRest_15 ?_
    refine zs_iconst (pc := 16) (v := 1) dX0_isRest_16 rfl ?_
    refine zs_iand (pc := 17) dX0_isRest_17 ?_
    refine zs_iconst (pc := 18) (v := 1) dX0_isRest_18 rfl ?_
    refine zs_letJ (pc := 19) (fun (p3 : cs_S) => p3) 43 (fun (p3 : cs_S) => [(0, .ref (c + 0)), (1, .int a1), (2, .int t2.1)]) (fun (p3 : cs_S) => []) (fun p3 => ?_) (fun J43 h43 => ?_)
    · refine zs_iinc (pc := 43) (lv' := [(0, .ref (c + 0)), (1, .int a1), (2, .int (t2.1 + 1))]) 2 [1, 2, 0] dX0_isRest_43 rfl rfl (by decide) rfl ?_
      refine zs_goto (pc := 46) (tgt := 2) dX0_isRest_46 (by decide) ?_
      exact hL2 ((t2.1 + 1), p3)
    · refine zs_icmp_ne (pc := 19) (tgt := 43) dX0_isRest_19 (by decide) ?_ ?_
      · refine zs_aload_n (pc := 22) 0 dX0_isRest_22 rfl rfl ?_
        refine zs_iload_n (pc := 23) 2 dX0_isRest_23 rfl rfl ?_
        refine zs_iload_n (pc := 24) 1 dX0_isRest_24 rfl rfl ?_
        refine zs_iconst (pc := 25) (v := 1) dX0_isRest_25 rfl ?_
        refine zs_iload_n (pc := 26) 2 dX0_isRest_26 rfl rfl ?_
        refine zs_ishl (pc := 27) dX0_isRest_27 ?_
        refine zs_ixor (pc := 28) dX0_isRest_28 ?_
        refine zs_callVwI (pc := 29) [.int t2.1, .int (a1 ^^^ (zs_shl 1 t2.1))] [] (kh_worth D W P h0 c t2.2 t2.1 (a1 ^^^ (zs_shl 1 t2.1))) wh_worth q1449 zc_X0 cs_rcv0 dX0_isRest_29 rfl rfl (Nat.le_of_ble_eq_true rfl) (Nat.le_of_ble_eq_true rfl) (fun p4 => ?_)
        refine zs_aload_n (pc := 32) 0 dX0_isRest_32 rfl rfl ?_
        refine zs_iload_n (pc := 33) 2 dX0_isRest_33 rfl rfl ?_
        refine zs_iload_n (pc := 34) 1 dX0_isRest_34 rfl rfl ?_
        refine zs_callVwI (pc := 35) [.int t2.1, .int a1] [.int p4.1] (kh_worth D W P h0 c p4.2 t2.1 a1) wh_worth q1449 zc_X0 cs_rcv0 dX0_isRest_35 rfl rfl (Nat.le_of_ble_eq_true rfl) (Nat.le_of_ble_eq_true rfl) (fun p5 => ?_)
        refine zs_icmp_le (pc := 38) (tgt := 43) dX0_isRest_38 (by decide) ?_ ?_
        · refine zs_iconst (pc := 41) (v := 0) dX0_isRest_41 rfl ?_
          exact zs_iret (pc := 42) dX0_isRest_42 ((hR2 _).trans rfl) rfl rfl
        · exact h43 p5.2
      · exact h43 t2.2
  · refine zs_iconst (pc := 49) (v := 1) dX0_isRest_49 rfl ?_
    exact zs_iret (pc := 50) dX0_isRest_50 ((hR2 _).trans rfl) rfl rfl
theorem wh_rests : zs_mV RX0 yX0_rests cX0_rests 5 (some .int) 1 := ⟨q1438, q1439, q134, q1440, by decide, by decide +kernel⟩
def gh_rests_L19 (T : zt_T) : (Int32 × Int32 × Int32 × cs_S) → Option ((Int32 × Int32 × Int32 × cs_S) ⊕ (Int32 × Int32 × cs_S)) := fun t19 =>
(gh_allHouses T t19.2.2.2).bind fun x2 =>
if t19.2.2.1 < x2 then ((gh_givers T t19.2.2.2).bind fun x3 =>
(if (t19.2.2.1 &&& (x3 ^^^ (-1))) = 0 then ((gh_isRest T t19.2.2.2 t19.2.2.1).bind fun p6 =>
if p6.1 = true then ((zs_let (fun (p9 : Unit) => some t19.2.2.1) fun J68 =>
if t19.1 = 0 then (J68 ())
else ((g_J16_bitCount t19.2.2.1).bind fun x10 =>
(g_J16_bitCount t19.2.1).bind fun x11 =>
if x10 < x11 then (J68 ())
else (some t19.2.1))).bind fun (p7 : Int32) =>
(some p6.2).bind fun M8 =>
some ((t19.1 + 1), p7, M8))
else (some (t19.1, t19.2.1, p6.2)))
else (some (t19.1, t19.2.1, t19.2.2.2))).bind fun (p4 : Int32 × Int32 × cs_S) =>
(some p4.2.2).bind fun M5 =>
some (Sum.inl (p4.1, p4.2.1, (t19.2.2.1 + 1), M5)))
else (some (Sum.inr (t19.1, t19.2.1, t19.2.2.2)))
def gh_rests (T : zt_T) (M : cs_S) (a1 : Int32) : Option (Int32 × cs_S) :=
(gh_isIn a1 0 1).bind fun b1 =>
if b1 = true then ((zs_loop 5000 (gh_rests_L19 T) (0, (-2), 0, M)).bind fun (r12 : Int32 × Int32 × cs_S) =>
if a1 = 0 then (some (r12.1, r12.2.2))
else (some (r12.2.1, r12.2.2)))
else (some ((-1), M))
set_option maxHeartbeats 4000000 in
theorem kh_rests (D : zs_D) (W : cs_W) (P : Nat → Bool) (h0 : zs_AH) (c : Nat) (M : cs_S) (a1 : Int32) : zs_Con D (cs_R W P h0 c) cs_bd zs_eI yX0_rests cX0_rests 5 (some .int) 426 [.ref (c + 0), .int a1] M (gh_rests W.2.1 M a1) := by
  unfold gh_rests
  refine zs_con (own := RX0) (nm := "rests") pl_X0 rfl rfl (Nat.le_of_ble_eq_true rfl) ?_
  refine zs_lv (lv' := [(0, .ref (c + 0)), (1, .int a1)]) rfl ?_
  refine zs_iload_n (pc := 0) 1 dX0_rests_0 rfl rfl ?_
  refine zs_iconst (pc := 1) (v := 0) dX0_rests_1 rfl ?_
  refine zs_iconst (pc := 2) (v := 1) dX0_rests_2 rfl ?_
  refine zs_callSrB (pc := 3) [.int a1, .int 0, .int 1] [] (kh_isIn D _ _ M a1 0 1) wh_isIn q1129 dX0_rests_3 rfl rfl (Nat.le_of_ble_eq_true rfl) (Nat.le_of_ble_eq_true rfl) (fun b1 => ?_)
  refine zs_if_t (pc := 6) (tgt := 11) dX0_rests_6 (by decide) ?_ ?_
  · refine zs_iconst (pc := 11) (v := 0) dX0_rests_11 rfl ?_
    refine zs_istore_n (pc := 12) (lv' := [(0, .ref (c + 0)), (1, .int a1), (2, .int 0)]) [1, 2, 0] dX0_rests_12 rfl (by decide) rfl ?_
    refine zs_bipush (pc := 13) (v := (-2)) dX0_rests_13 (by decide) ?_
    refine zs_istore_n (pc := 15) (lv' := [(0, .ref (c + 0)), (1, .int a1), (2, .int 0), (3, .int (-2))]) [1, 2, 3, 0] dX0_rests_15 rfl (by decide) rfl ?_
    refine zs_iconst (pc := 16) (v := 0) dX0_rests_16 rfl ?_
    refine zs_istore (pc := 17) (lv' := [(0, .ref (c + 0)), (1, .int a1), (2, .int 0), (3, .int (-2)), (4, .int 0)]) [1, 2, 3, 4, 0] dX0_rests_17 (by decide) rfl ?_
    refine zs_whileJ (pc := 19) (fun (t19 : Int32 × Int32 × Int32 × cs_S) => t19.2.2.2) (fun (t19 : Int32 × Int32 × Int32 × cs_S) => [(0, .ref (c + 0)), (1, .int a1), (2, .int t19.1), (3, .int t19.2.1), (4, .int t19.2.2.1)]) 5000 (0, (-2), 0, M) (fun (r12 : Int32 × Int32 × cs_S) => r12.2.2) 80 (fun (r12 : Int32 × Int32 × cs_S) => [(1, .int a1), (2, .int r12.1), (3, .int r12.2.1)]) [] (fun r12 => ?_) (fun X19 hL19 hE19 t19 => ?_)
    · refine zs_iload_n (pc := 80) 0 dX0_rests_80 rfl rfl ?_
      refine zs_if_ne (pc := 81) (tgt := 88) dX0_rests_81 (by decide) ?_ ?_
      · refine zs_iload_n (pc := 84) 1 dX0_rests_84 rfl rfl ?_
        refine zs_goto (pc := 85) (tgt := 89) dX0_rests_85 (by decide) ?_
        exact zs_iret (pc := 89) dX0_rests_89 rfl rfl rfl
      · refine zs_iload_n (pc := 88) 2 dX0_rests_88 rfl rfl ?_
        exact zs_iret (pc := 89) dX0_rests_89 rfl rfl rfl
    · unfold gh_rests_L19
      refine zs_iload (pc := 19) 4 dX0_rests_19 rfl ?_
      refine zs_aload_n (pc := 21) 0 dX0_rests_21 rfl rfl ?_
      refine zs_callVrI (pc := 22) [] [.int t19.2.2.1] (kh_allHouses D W P h0 c t19.2.2.2) wh_allHouses q1366 zc_X0 cs_rcv0 dX0_rests_22 rfl rfl (Nat.le_of_ble_eq_true rfl) (Nat.le_of_ble_eq_true rfl) (fun x2 => ?_)
      refine zs_icmp_ge (pc := 25) (tgt := 80) dX0_rests_25 (by decide) ?_ ?_
      · refine zs_iload (pc := 28) 4 dX0_rests_28 rfl ?_
        refine zs_aload_n (pc := 30) 0 dX0_rests_30 rfl rfl ?_
        refine zs_callVrI (pc := 31) [] [.int t19.2.2.1] (kh_givers D W P h0 c t19.2.2.2) wh_givers q1441 zc_X0 cs_rcv0 dX0_rests_31 rfl rfl (Nat.le_of_ble_eq_true rfl) (Nat.le_of_ble_eq_true rfl) (fun x3 => ?_)
        refine zs_iconst (pc := 34) (v := (-1)) dX0_rests_34 rfl ?_
        refine zs_ixor (pc := 35) dX0_rests_35 ?_
        refine zs_iand (pc := 36) dX0_rests_36 ?_
        refine zs_join (pc := 37) (fun (p4 : Int32 × Int32 × cs_S) => p4.2.2) 74 (fun (p4 : Int32 × Int32 × cs_S) => [(0, .ref (c + 0)), (1, .int a1), (2, .int p4.1), (3, .int p4.2.1), (4, .int t19.2.2.1)]) (fun (p4 : Int32 × Int32 × cs_S) => []) (fun p4 => ?_) (fun h74 => ?_)
        · refine zs_iinc (pc := 74) (lv' := [(0, .ref (c + 0)), (1, .int a1), (2, .int p4.1), (3, .int p4.2.1), (4, .int (t19.2.2.1 + 1))]) 4 [1, 2, 3, 4, 0] dX0_rests_74 rfl rfl (by decide) rfl ?_
          refine zs_goto (pc := 77) (tgt := 19) dX0_rests_77 (by decide) ?_
          refine zs_nmM (fun M5 => ?_)
          exact hL19 (p4.1, p4.2.1, (t19.2.2.1 + 1), M5)
        · refine zs_if_ne (pc := 37) (tgt := 74) dX0_rests_37 (by decide) ?_ ?_
          · refine zs_aload_n (pc := 40) 0 dX0_rests_40 rfl rfl ?_
            refine zs_iload (pc := 41) 4 dX0_rests_41 rfl ?_
            refine zs_callVwB (pc := 43) [.int t19.2.2.1] [] (kh_isRest D W P h0 c t19.2.2.2 t19.2.2.1) wh_isRest q1445 zc_X0 cs_rcv0 dX0_rests_43 rfl rfl (Nat.le_of_ble_eq_true rfl) (Nat.le_of_ble_eq_true rfl) (fun p6 => ?_)
            refine zs_if_t (pc := 46) (tgt := 52) dX0_rests_46 (by decide) ?_ ?_
            · refine zs_iload_n (pc := 52) 2 dX0_rests_52 rfl rfl ?_
              refine zs_join (pc := 53) (fun (p7 : Int32) => p6.2) 71 (fun (p7 : Int32) => [(0, .ref (c + 0)), (1, .int a1), (2, .int t19.1), (3, .int p7), (4, .int t19.2.2.1)]) (fun (p7 : Int32) => []) (fun p7 => ?_) (fun h71 => ?_)
              · refine zs_iinc (pc := 71) (lv' := [(0, .ref (c + 0)), (1, .int a1), (2, .int (t19.1 + 1)), (3, .int p7), (4, .int t19.2.2.1)]) 2 [1, 2, 0, 3, 4] dX0_rests_71 rfl rfl (by decide) rfl ?_
                refine zs_nmM (fun M8 => ?_)
                exact h74 ((t19.1 + 1), p7, M8)
              · refine zs_letJ (pc := 53) (fun (p9 : Unit) => p6.2) 68 (fun (p9 : Unit) => [(0, .ref (c + 0)), (1, .int a1), (2, .int t19.1), (4, .int t19.2.2.1)]) (fun (p9 : Unit) => []) (fun p9 => ?_) (fun J68 h68 => ?_)
                · refine zs_iload (pc := 68) 3 dX0_rests_68 rfl ?_
                  refine zs_istore_n (pc := 70) (lv' := [(0, .ref (c + 0)), (1, .int a1), (2, .int t19.1), (3, .int t19.2.2.1), (4, .int t19.2.2.1)]) [1, 2, 3, 0, 4] dX0_rests_70 rfl (by decide) rfl ?_
                  exact h71 t19.2.2.1
                · refine zs_if_eq (pc := 53) (tgt := 68) dX0_rests_53 (by decide) ?_ ?_
                  · refine zs_sub (lv' := [(0, .ref (c + 0)), (1, .int a1), (2, .int t19.1), (4, .int t19.2.2.1)]) [0, 1, 2, 4] rfl ?_
                    exact h68 ()
                  · refine zs_iload (pc := 56) 4 dX0_rests_56 rfl ?_
                    refine zs_callSrI (pc := 58) [.int t19.2.2.1] [] (k_J16_bitCount D _ _ p6.2 t19.2.2.1) kv_J16_bitCount q1396 dX0_rests_58 rfl rfl (Nat.le_of_ble_eq_true rfl) (Nat.le_of_ble_eq_true rfl) (fun x10 => ?_)
                    refine zs_iload_n (pc := 61) 3 dX0_rests_61 rfl rfl ?_
                    refine zs_callSrI (pc := 62) [.int t19.2.1] [.int x10] (k_J16_bitCount D _ _ p6.2 t19.2.1) kv_J16_bitCount q1396 dX0_rests_62 rfl rfl (Nat.le_of_ble_eq_true rfl) (Nat.le_of_ble_eq_true rfl) (fun x11 => ?_)
                    refine zs_icmp_ge (pc := 65) (tgt := 71) dX0_rests_65 (by decide) ?_ ?_
                    · refine zs_sub (lv' := [(0, .ref (c + 0)), (1, .int a1), (2, .int t19.1), (4, .int t19.2.2.1)]) [0, 1, 2, 4] rfl ?_
                      exact h68 ()
                    · exact h71 t19.2.1
            · refine zs_goto (pc := 49) (tgt := 74) dX0_rests_49 (by decide) ?_
              exact h74 (t19.1, t19.2.1, p6.2)
          · exact h74 (t19.1, t19.2.1, t19.2.2.2)
      · refine zs_sub (lv' := [(1, .int a1), (2, .int t19.1), (3, .int t19.2.1)]) [1, 2, 3] rfl ?_
        exact hE19 (t19.1, t19.2.1, t19.2.2.2)
  · refine zs_iconst (pc := 9) (v := (-1)) dX0_rests_9 rfl ?_
    exact zs_iret (pc := 10) dX0_rests_10 rfl rfl rfl
theorem wh_pivots : zs_mV RX0 yX0_pivots cX0_pivots 3 (some .int) 0 := ⟨q1458, q1459, q134, q1460, by decide, by decide +kernel⟩
def gh_pivots_L4 (T : zt_T) (M : cs_S) : (Int32 × Int32) → Option ((Int32 × Int32) ⊕ (Int32)) := fun t4 =>
(gh_houses T M).bind fun x1 =>
if t4.2 < x1 then ((gh_givers T M).bind fun x2 =>
(gh_isEnough T M (x2 &&& ((zs_shl 1 t4.2) ^^^ (-1)))).bind fun b3 =>
(if b3 = true then (some 0)
else (some (zs_shl 1 t4.2))).bind fun (p4 : Int32) =>
(some (t4.1 ||| p4)).bind fun x5 =>
some (Sum.inl (x5, (t4.2 + 1))))
else (some (Sum.inr t4.1))
def gh_pivots (T : zt_T) (M : cs_S) : Option (Int32) :=
(zs_loop 5000 (gh_pivots_L4 T M) (0, 0)).bind fun z => some z
set_option maxHeartbeats 4000000 in
theorem kh_pivots (D : zs_D) (W : cs_W) (P : Nat → Bool) (h0 : zs_AH) (c : Nat) (M : cs_S) : zs_Con D (cs_R W P h0 c) cs_bd zs_eI yX0_pivots cX0_pivots 3 (some .int) 3 [.ref (c + 0)] M ((gh_pivots W.2.1 M).map fun x => (x, M)) := by
  unfold gh_pivots
  refine zs_conR (own := RX0) (nm := "pivots") pl_X0 rfl rfl (Nat.le_of_ble_eq_true rfl) ?_
  refine zs_lv (lv' := [(0, .ref (c + 0))]) rfl ?_
  refine zs_iconst (pc := 0) (v := 0) dX0_pivots_0 rfl ?_
  refine zs_istore_n (pc := 1) (lv' := [(0, .ref (c + 0)), (1, .int 0)]) [1, 0] dX0_pivots_1 rfl (by decide) rfl ?_
  refine zs_iconst (pc := 2) (v := 0) dX0_pivots_2 rfl ?_
  refine zs_istore_n (pc := 3) (lv' := [(0, .ref (c + 0)), (1, .int 0), (2, .int 0)]) [1, 2, 0] dX0_pivots_3 rfl (by decide) rfl ?_
  refine zs_whileX (pc := 4) (fun (t4 : Int32 × Int32) => M) (fun (t4 : Int32 × Int32) => [(0, .ref (c + 0)), (1, .int t4.1), (2, .int t4.2)]) 5000 (0, 0) (fun X4 hL4 hR4 t4 => ?_)
  unfold gh_pivots_L4
  refine zs_iload_n (pc := 4) 2 dX0_pivots_4 rfl rfl ?_
  refine zs_aload_n (pc := 5) 0 dX0_pivots_5 rfl rfl ?_
  refine zs_callVrI (pc := 6) [] [.int t4.2] (kh_houses D W P h0 c M) wh_houses q1124 zc_X0 cs_rcv0 dX0_pivots_6 rfl rfl (Nat.le_of_ble_eq_true rfl) (Nat.le_of_ble_eq_true rfl) (fun x1 => ?_)
  refine zs_icmp_ge (pc := 9) (tgt := 45) dX0_pivots_9 (by decide) ?_ ?_
  · refine zs_iload_n (pc := 12) 1 dX0_pivots_12 rfl rfl ?_
    refine zs_aload_n (pc := 13) 0 dX0_pivots_13 rfl rfl ?_
    refine zs_aload_n (pc := 14) 0 dX0_pivots_14 rfl rfl ?_
    refine zs_callVrI (pc := 15) [] [.ref (c + 0), .int t4.1] (kh_givers D W P h0 c M) wh_givers q1441 zc_X0 cs_rcv0 dX0_pivots_15 rfl rfl (Nat.le_of_ble_eq_true rfl) (Nat.le_of_ble_eq_true rfl) (fun x2 => ?_)
    refine zs_iconst (pc := 18) (v := 1) dX0_pivots_18 rfl ?_
    refine zs_iload_n (pc := 19) 2 dX0_pivots_19 rfl rfl ?_
    refine zs_ishl (pc := 20) dX0_pivots_20 ?_
    refine zs_iconst (pc := 21) (v := (-1)) dX0_pivots_21 rfl ?_
    refine zs_ixor (pc := 22) dX0_pivots_22 ?_
    refine zs_iand (pc := 23) dX0_pivots_23 ?_
    refine zs_callVrB (pc := 24) [.int (x2 &&& ((zs_shl 1 t4.2) ^^^ (-1)))] [.int t4.1] (kh_isEnough D W P h0 c M (x2 &&& ((zs_shl 1 t4.2) ^^^ (-1)))) wh_isEnough q1453 zc_X0 cs_rcv0 dX0_pivots_24 rfl rfl (Nat.le_of_ble_eq_true rfl) (Nat.le_of_ble_eq_true rfl) (fun b3 => ?_)
    refine zs_join (pc := 27) (fun (p4 : Int32) => M) 37 (fun (p4 : Int32) => [(0, .ref (c + 0)), (2, .int t4.2)]) (fun (p4 : Int32) => [.int p4, .int t4.1]) (fun p4 => ?_) (fun h37 => ?_)
    · refine zs_ior (pc := 37) dX0_pivots_37 ?_
      refine zs_nm (fun x5 => ?_)
      refine zs_istore_n (pc := 38) (lv' := [(0, .ref (c + 0)), (1, .int x5), (2, .int t4.2)]) [1, 0, 2] dX0_pivots_38 rfl (by decide) rfl ?_
      refine zs_iinc (pc := 39) (lv' := [(0, .ref (c + 0)), (1, .int x5), (2, .int (t4.2 + 1))]) 2 [1, 2, 0] dX0_pivots_39 rfl rfl (by decide) rfl ?_
      refine zs_goto (pc := 42) (tgt := 4) dX0_pivots_42 (by decide) ?_
      exact hL4 (x5, (t4.2 + 1))
    · refine zs_if_f (pc := 27) (tgt := 34) dX0_pivots_27 (by decide) ?_ ?_
      · refine zs_iconst (pc := 30) (v := 0) dX0_pivots_30 rfl ?_
        refine zs_goto (pc := 31) (tgt := 37) dX0_pivots_31 (by decide) ?_
        refine zs_sub (lv' := [(0, .ref (c + 0)), (2, .int t4.2)]) [0, 2] rfl ?_
        exact h37 0
      · refine zs_iconst (pc := 34) (v := 1) dX0_pivots_34 rfl ?_
        refine zs_iload_n (pc := 35) 2 dX0_pivots_35 rfl rfl ?_
        refine zs_ishl (pc := 36) dX0_pivots_36 ?_
        refine zs_sub (lv' := [(0, .ref (c + 0)), (2, .int t4.2)]) [0, 2] rfl ?_
        exact h37 (zs_shl 1 t4.2)
  · refine zs_iload_n (pc := 45) 1 dX0_pivots_45 rfl rfl ?_
    exact zs_iret (pc := 46) dX0_pivots_46 ((hR4 _).trans rfl) rfl rfl
theorem wh_then : zs_mV RX0 yX0_then cX0_then 4 (some .int) 3 := ⟨q1462, q1463, q134, q1464, by decide, by decide +kernel⟩
def gh_then (T : zt_T) (M : cs_S) (a1 : Int32) (a2 : Int32) (a3 : Int32) : Option (Int32 × cs_S) :=
(gh_isHouse T M a1).bind fun b1 =>
if b1 = true then ((gh_isAhead a2).bind fun b2 =>
if b2 = true then ((gh_isIn a3 0 1).bind fun b3 =>
if b3 = true then ((gv_becomes T M 1 0).bind fun M4 =>
(gh_runs T M4 1 a2 false).bind fun M5 =>
if a3 = 0 then ((zs_ald 6 (M5.2 (10 + 1) 0) a1).bind fun x7 =>
some (x7, M5))
else ((zs_ald 6 (M5.2 (10 + 1) 2) a1).bind fun x6 =>
some (x6, M5)))
else (some ((-1), M)))
else (some ((-1), M)))
else (some ((-1), M))
set_option maxHeartbeats 4000000 in
theorem kh_then (D : zs_D) (W : cs_W) (P : Nat → Bool) (h0 : zs_AH) (c : Nat) (M : cs_S) (a1 : Int32) (a2 : Int32) (a3 : Int32) : zs_Con D (cs_R W P h0 c) cs_bd zs_eI yX0_then cX0_then 4 (some .int) 426 [.ref (c + 0), .int a1, .int a2, .int a3] M (gh_then W.2.1 M a1 a2 a3) := by
  unfold gh_then
  refine zs_con (own := RX0) (nm := "then") pl_X0 rfl rfl (Nat.le_of_ble_eq_true rfl) ?_
  refine zs_lv (lv' := [(0, .ref (c + 0)), (1, .int a1), (2, .int a2), (3, .int a3)]) rfl ?_
  refine zs_aload_n (pc := 0) 0 dX0_then_0 rfl rfl ?_
  refine zs_iload_n (pc := 1) 1 dX0_then_1 rfl rfl ?_
  refine zs_callVrB (pc := 2) [.int a1] [] (kh_isHouse D W P h0 c M a1) wh_isHouse q1120 zc_X0 cs_rcv0 dX0_then_2 rfl rfl (Nat.le_of_ble_eq_true rfl) (Nat.le_of_ble_eq_true rfl) (fun b1 => ?_)
  refine zs_if_f (pc := 5) (tgt := 24) dX0_then_5 (by decide) ?_ ?_
  · refine zs_iload_n (pc := 8) 2 dX0_then_8 rfl rfl ?_
    refine zs_callSrB (pc := 9) [.int a2] [] (kh_isAhead D _ _ M a2) wh_isAhead q1265 dX0_then_9 rfl rfl (Nat.le_of_ble_eq_true rfl) (Nat.le_of_ble_eq_true rfl) (fun b2 => ?_)
    refine zs_if_f (pc := 12) (tgt := 24) dX0_then_12 (by decide) ?_ ?_
    · refine zs_iload_n (pc := 15) 3 dX0_then_15 rfl rfl ?_
      refine zs_iconst (pc := 16) (v := 0) dX0_then_16 rfl ?_
      refine zs_iconst (pc := 17) (v := 1) dX0_then_17 rfl ?_
      refine zs_callSrB (pc := 18) [.int a3, .int 0, .int 1] [] (kh_isIn D _ _ M a3 0 1) wh_isIn q1129 dX0_then_18 rfl rfl (Nat.le_of_ble_eq_true rfl) (Nat.le_of_ble_eq_true rfl) (fun b3 => ?_)
      refine zs_if_t (pc := 21) (tgt := 26) dX0_then_21 (by decide) ?_ ?_
      · refine zs_aload_n (pc := 26) 0 dX0_then_26 rfl rfl ?_
        refine cs_getr (pc := 27) 0 0 8 (v := .ref (c + cs_va 1)) ⟨⟨by decide, by decide⟩, rfl⟩ zc_X0 ⟨rfl, rfl⟩ (by decide) rfl rfl q537 dX0_then_27 ?_
        refine zs_aload_n (pc := 30) 0 dX0_then_30 rfl rfl ?_
        refine cs_getr (pc := 31) 0 0 7 (v := .ref (c + cs_va 0)) ⟨⟨by decide, by decide⟩, rfl⟩ zc_X0 ⟨rfl, rfl⟩ (by decide) rfl rfl q536 dX0_then_31 ?_
        refine zs_callVv (pc := 34) [.ref (c + cs_va 0)] [] (kv_xbecomes D W P h0 c M 1 (by omega) 0 (by omega)) wv_becomes q1216 zc_X5 (cs_rcvv (by omega)) dX0_then_34 rfl rfl (Nat.le_of_ble_eq_true rfl) (Nat.le_of_ble_eq_true rfl) (fun M4 => ?_)
        refine zs_aload_n (pc := 37) 0 dX0_then_37 rfl rfl ?_
        refine zs_aload_n (pc := 38) 0 dX0_then_38 rfl rfl ?_
        refine cs_getr (pc := 39) 0 0 8 (v := .ref (c + cs_va 1)) ⟨⟨by decide, by decide⟩, rfl⟩ zc_X0 ⟨rfl, rfl⟩ (by decide) rfl rfl q537 dX0_then_39 ?_
        refine zs_iload_n (pc := 42) 2 dX0_then_42 rfl rfl ?_
        refine zs_aload_n (pc := 43) 0 dX0_then_43 rfl rfl ?_
        refine cs_getr (pc := 44) 0 0 11 (v := .ref (c + cs_sk false)) ⟨⟨by decide, by decide⟩, rfl⟩ zc_X0 ⟨rfl, rfl⟩ (by decide) rfl rfl q540 dX0_then_44 ?_
        refine zs_callVv (pc := 47) [.ref (c + cs_va 1), .int a2, .ref (c + cs_sk false)] [] (kh_runs D W P h0 c M4 1 (by omega) a2 false) wh_runs q1268 zc_X0 cs_rcv0 dX0_then_47 rfl rfl (Nat.le_of_ble_eq_true rfl) (Nat.le_of_ble_eq_true rfl) (fun M5 => ?_)
        refine zs_iload_n (pc := 50) 3 dX0_then_50 rfl rfl ?_
        refine zs_if_ne (pc := 51) (tgt := 66) dX0_then_51 (by decide) ?_ ?_
        · refine zs_aload_n (pc := 54) 0 dX0_then_54 rfl rfl ?_
          refine cs_getr (pc := 55) 0 0 8 (v := .ref (c + cs_va 1)) ⟨⟨by decide, by decide⟩, rfl⟩ zc_X0 ⟨rfl, rfl⟩ (by decide) rfl rfl q537 dX0_then_55 ?_
          refine cs_getr (pc := 58) (cs_va 1) (10 + 1) 0 (v := .ref (c + (cs_va 1 + 1))) (cs_pv (by omega)) zc_X5 (cs_vcl (by omega)) (by decide) (cs_vsc (by omega) 0 false (by decide)) (cs_vcv (by omega) 0 1 (by decide)) q440 dX0_then_58 ?_
          refine zs_iload_n (pc := 61) 1 dX0_then_61 rfl rfl ?_
          refine cs_iald (pc := 62) (cs_va 1 + 1) (10 + 1) 0 (cs_pva (by omega) 1 (by decide) 6 rfl) dX0_then_62 (fun x7 => ?_)
          refine zs_goto (pc := 63) (tgt := 75) dX0_then_63 (by decide) ?_
          exact zs_iret (pc := 75) dX0_then_75 rfl rfl rfl
        · refine zs_aload_n (pc := 66) 0 dX0_then_66 rfl rfl ?_
          refine cs_getr (pc := 67) 0 0 8 (v := .ref (c + cs_va 1)) ⟨⟨by decide, by decide⟩, rfl⟩ zc_X0 ⟨rfl, rfl⟩ (by decide) rfl rfl q537 dX0_then_67 ?_
          refine cs_getr (pc := 70) (cs_va 1) (10 + 1) 2 (v := .ref (c + (cs_va 1 + 3))) (cs_pv (by omega)) zc_X5 (cs_vcl (by omega)) (by decide) (cs_vsc (by omega) 2 false (by decide)) (cs_vcv (by omega) 2 3 (by decide)) q444 dX0_then_70 ?_
          refine zs_iload_n (pc := 73) 1 dX0_then_73 rfl rfl ?_
          refine cs_iald (pc := 74) (cs_va 1 + 3) (10 + 1) 2 (cs_pva (by omega) 3 (by decide) 6 rfl) dX0_then_74 (fun x6 => ?_)
          exact zs_iret (pc := 75) dX0_then_75 rfl rfl rfl
      · refine zs_iconst (pc := 24) (v := (-1)) dX0_then_24 rfl ?_
        exact zs_iret (pc := 25) dX0_then_25 rfl rfl rfl
    · refine zs_iconst (pc := 24) (v := (-1)) dX0_then_24 rfl ?_
      exact zs_iret (pc := 25) dX0_then_25 rfl rfl rfl
  · refine zs_iconst (pc := 24) (v := (-1)) dX0_then_24 rfl ?_
    exact zs_iret (pc := 25) dX0_then_25 rfl rfl rfl
theorem wh_year : zs_mV RX0 yX0_year cX0_year 7 (some .int) 4 := ⟨q1466, q1467, q134, q1468, by decide, by decide +kernel⟩
def gh_year_L44 (a4 : Int32) (T : zt_T) (a3 : Int32) (a1 : Int32) (a2 : Int32) : (Int32 × Int32 × cs_S) → Option ((Int32 × Int32 × cs_S) ⊕ (Int32 × cs_S)) := fun t44 =>
if t44.2.1 < a4 then ((gv_becomes T t44.2.2 1 0).bind fun M5 =>
(some (cs_sF M5 (10 + 1) 8 ((zt_f T 7) + t44.2.1))).bind fun M6 =>
(gh_runs T M6 1 a3 false).bind fun M7 =>
(zs_ald 6 (M7.2 (10 + 1) 0) a1).bind fun x8 =>
(if x8 < a2 then (some 0)
else (some 1)).bind fun (p9 : Int32) =>
(some (t44.1 + p9)).bind fun x10 =>
some (Sum.inl (x10, (t44.2.1 + 1), M7)))
else (some (Sum.inr (t44.1, t44.2.2)))
def gh_year (T : zt_T) (M : cs_S) (a1 : Int32) (a2 : Int32) (a3 : Int32) (a4 : Int32) : Option (Int32 × cs_S) :=
(gh_isHouse T M a1).bind fun b1 =>
if b1 = true then ((gh_isIn a2 0 99).bind fun b2 =>
if b2 = true then ((gh_isAhead a3).bind fun b3 =>
if b3 = true then ((gh_isIn a4 1 20).bind fun b4 =>
if b4 = true then ((zs_loop 5000 (gh_year_L44 a4 T a3 a1 a2) (0, 0, M)).bind fun z => some z)
else (some ((-1), M)))
else (some ((-1), M)))
else (some ((-1), M)))
else (some ((-1), M))
set_option maxHeartbeats 4000000 in
theorem kh_year (D : zs_D) (W : cs_W) (P : Nat → Bool) (h0 : zs_AH) (c : Nat) (M : cs_S) (a1 : Int32) (a2 : Int32) (a3 : Int32) (a4 : Int32) : zs_Con D (cs_R W P h0 c) cs_bd zs_eI yX0_year cX0_year 7 (some .int) 426 [.ref (c + 0), .int a1, .int a2, .int a3, .int a4] M (gh_year W.2.1 M a1 a2 a3 a4) := by
  unfold gh_year
  refine zs_con (own := RX0) (nm := "year") pl_X0 rfl rfl (Nat.le_of_ble_eq_true rfl) ?_
  refine zs_lv (lv' := [(0, .ref (c + 0)), (1, .int a1), (2, .int a2), (3, .int a3), (4, .int a4)]) rfl ?_
  refine zs_aload_n (pc := 0) 0 dX0_year_0 rfl rfl ?_
  refine zs_iload_n (pc := 1) 1 dX0_year_1 rfl rfl ?_
  refine zs_callVrB (pc := 2) [.int a1] [] (kh_isHouse D W P h0 c M a1) wh_isHouse q1120 zc_X0 cs_rcv0 dX0_year_2 rfl rfl (Nat.le_of_ble_eq_true rfl) (Nat.le_of_ble_eq_true rfl) (fun b1 => ?_)
  refine zs_if_f (pc := 5) (tgt := 36) dX0_year_5 (by decide) ?_ ?_
  · refine zs_iload_n (pc := 8) 2 dX0_year_8 rfl rfl ?_
    refine zs_iconst (pc := 9) (v := 0) dX0_year_9 rfl ?_
    refine zs_bipush (pc := 10) (v := 99) dX0_year_10 (by decide) ?_
    refine zs_callSrB (pc := 12) [.int a2, .int 0, .int 99] [] (kh_isIn D _ _ M a2 0 99) wh_isIn q1129 dX0_year_12 rfl rfl (Nat.le_of_ble_eq_true rfl) (Nat.le_of_ble_eq_true rfl) (fun b2 => ?_)
    refine zs_if_f (pc := 15) (tgt := 36) dX0_year_15 (by decide) ?_ ?_
    · refine zs_iload_n (pc := 18) 3 dX0_year_18 rfl rfl ?_
      refine zs_callSrB (pc := 19) [.int a3] [] (kh_isAhead D _ _ M a3) wh_isAhead q1265 dX0_year_19 rfl rfl (Nat.le_of_ble_eq_true rfl) (Nat.le_of_ble_eq_true rfl) (fun b3 => ?_)
      refine zs_if_f (pc := 22) (tgt := 36) dX0_year_22 (by decide) ?_ ?_
      · refine zs_iload (pc := 25) 4 dX0_year_25 rfl ?_
        refine zs_iconst (pc := 27) (v := 1) dX0_year_27 rfl ?_
        refine zs_bipush (pc := 28) (v := 20) dX0_year_28 (by decide) ?_
        refine zs_callSrB (pc := 30) [.int a4, .int 1, .int 20] [] (kh_isIn D _ _ M a4 1 20) wh_isIn q1129 dX0_year_30 rfl rfl (Nat.le_of_ble_eq_true rfl) (Nat.le_of_ble_eq_true rfl) (fun b4 => ?_)
        refine zs_if_t (pc := 33) (tgt := 38) dX0_year_33 (by decide) ?_ ?_
        · refine zs_iconst (pc := 38) (v := 0) dX0_year_38 rfl ?_
          refine zs_istore (pc := 39) (lv' := [(0, .ref (c + 0)), (1, .int a1), (2, .int a2), (3, .int a3), (4, .int a4), (5, .int 0)]) [1, 2, 3, 4, 5, 0] dX0_year_39 (by decide) rfl ?_
          refine zs_iconst (pc := 41) (v := 0) dX0_year_41 rfl ?_
          refine zs_istore (pc := 42) (lv' := [(0, .ref (c + 0)), (1, .int a1), (2, .int a2), (3, .int a3), (4, .int a4), (5, .int 0), (6, .int 0)]) [1, 2, 3, 4, 5, 6, 0] dX0_year_42 (by decide) rfl ?_
          refine zs_whileX (pc := 44) (fun (t44 : Int32 × Int32 × cs_S) => t44.2.2) (fun (t44 : Int32 × Int32 × cs_S) => [(0, .ref (c + 0)), (1, .int a1), (2, .int a2), (3, .int a3), (4, .int a4), (5, .int t44.1), (6, .int t44.2.1)]) 5000 (0, 0, M) (fun X44 hL44 hR44 t44 => ?_)
          unfold gh_year_L44
          refine zs_iload (pc := 44) 6 dX0_year_44 rfl ?_
          refine zs_iload (pc := 46) 4 dX0_year_46 rfl ?_
          refine zs_icmp_ge (pc := 48) (tgt := 121) dX0_year_48 (by decide) ?_ ?_
          · refine zs_aload_n (pc := 51) 0 dX0_year_51 rfl rfl ?_
            refine cs_getr (pc := 52) 0 0 8 (v := .ref (c + cs_va 1)) ⟨⟨by decide, by decide⟩, rfl⟩ zc_X0 ⟨rfl, rfl⟩ (by decide) rfl rfl q537 dX0_year_52 ?_
            refine zs_aload_n (pc := 55) 0 dX0_year_55 rfl rfl ?_
            refine cs_getr (pc := 56) 0 0 7 (v := .ref (c + cs_va 0)) ⟨⟨by decide, by decide⟩, rfl⟩ zc_X0 ⟨rfl, rfl⟩ (by decide) rfl rfl q536 dX0_year_56 ?_
            refine zs_callVv (pc := 59) [.ref (c + cs_va 0)] [] (kv_xbecomes D W P h0 c t44.2.2 1 (by omega) 0 (by omega)) wv_becomes q1216 zc_X5 (cs_rcvv (by omega)) dX0_year_59 rfl rfl (Nat.le_of_ble_eq_true rfl) (Nat.le_of_ble_eq_true rfl) (fun M5 => ?_)
            refine zs_aload_n (pc := 62) 0 dX0_year_62 rfl rfl ?_
            refine cs_getr (pc := 63) 0 0 8 (v := .ref (c + cs_va 1)) ⟨⟨by decide, by decide⟩, rfl⟩ zc_X0 ⟨rfl, rfl⟩ (by decide) rfl rfl q537 dX0_year_63 ?_
            refine zs_aload_n (pc := 66) 0 dX0_year_66 rfl rfl ?_
            refine cs_getr (pc := 67) 0 0 3 (v := .ref (zt_ad W.2.1 0)) ⟨⟨by decide, by decide⟩, rfl⟩ zc_X0 ⟨rfl, rfl⟩ (by decide) rfl rfl q532 dX0_year_67 ?_
            refine ct_num (pc := 70) 7 (by decide) q398 dX0_year_70 ?_
            refine zs_iload (pc := 73) 6 dX0_year_73 rfl ?_
            refine zs_iadd (pc := 75) dX0_year_75 ?_
            refine cs_puti (pc := 76) (cs_va 1) (10 + 1) 8 (cs_pv (by omega)) zc_X5 (cs_vcl (by omega)) (by decide) (cs_vsc (by omega) 8 true (by decide)) q458 rfl rfl rfl dX0_year_76 (fun M6 => ?_)
            refine zs_aload_n (pc := 79) 0 dX0_year_79 rfl rfl ?_
            refine zs_aload_n (pc := 80) 0 dX0_year_80 rfl rfl ?_
            refine cs_getr (pc := 81) 0 0 8 (v := .ref (c + cs_va 1)) ⟨⟨by decide, by decide⟩, rfl⟩ zc_X0 ⟨rfl, rfl⟩ (by decide) rfl rfl q537 dX0_year_81 ?_
            refine zs_iload_n (pc := 84) 3 dX0_year_84 rfl rfl ?_
            refine zs_aload_n (pc := 85) 0 dX0_year_85 rfl rfl ?_
            refine cs_getr (pc := 86) 0 0 11 (v := .ref (c + cs_sk false)) ⟨⟨by decide, by decide⟩, rfl⟩ zc_X0 ⟨rfl, rfl⟩ (by decide) rfl rfl q540 dX0_year_86 ?_
            refine zs_callVv (pc := 89) [.ref (c + cs_va 1), .int a3, .ref (c + cs_sk false)] [] (kh_runs D W P h0 c M6 1 (by omega) a3 false) wh_runs q1268 zc_X0 cs_rcv0 dX0_year_89 rfl rfl (Nat.le_of_ble_eq_true rfl) (Nat.le_of_ble_eq_true rfl) (fun M7 => ?_)
            refine zs_iload (pc := 92) 5 dX0_year_92 rfl ?_
            refine zs_aload_n (pc := 94) 0 dX0_year_94 rfl rfl ?_
            refine cs_getr (pc := 95) 0 0 8 (v := .ref (c + cs_va 1)) ⟨⟨by decide, by decide⟩, rfl⟩ zc_X0 ⟨rfl, rfl⟩ (by decide) rfl rfl q537 dX0_year_95 ?_
            refine cs_getr (pc := 98) (cs_va 1) (10 + 1) 0 (v := .ref (c + (cs_va 1 + 1))) (cs_pv (by omega)) zc_X5 (cs_vcl (by omega)) (by decide) (cs_vsc (by omega) 0 false (by decide)) (cs_vcv (by omega) 0 1 (by decide)) q440 dX0_year_98 ?_
            refine zs_iload_n (pc := 101) 1 dX0_year_101 rfl rfl ?_
            refine cs_iald (pc := 102) (cs_va 1 + 1) (10 + 1) 0 (cs_pva (by omega) 1 (by decide) 6 rfl) dX0_year_102 (fun x8 => ?_)
            refine zs_iload_n (pc := 103) 2 dX0_year_103 rfl rfl ?_
            refine zs_join (pc := 104) (fun (p9 : Int32) => M7) 112 (fun (p9 : Int32) => [(0, .ref (c + 0)), (1, .int a1), (2, .int a2), (3, .int a3), (4, .int a4), (6, .int t44.2.1)]) (fun (p9 : Int32) => [.int p9, .int t44.1]) (fun p9 => ?_) (fun h112 => ?_)
            · refine zs_iadd (pc := 112) dX0_year_112 ?_
              refine zs_nm (fun x10 => ?_)
              refine zs_istore (pc := 113) (lv' := [(0, .ref (c + 0)), (1, .int a1), (2, .int a2), (3, .int a3), (4, .int a4), (5, .int x10), (6, .int t44.2.1)]) [1, 2, 3, 4, 5, 0, 6] dX0_year_113 (by decide) rfl ?_
              refine zs_iinc (pc := 115) (lv' := [(0, .ref (c + 0)), (1, .int a1), (2, .int a2), (3, .int a3), (4, .int a4), (5, .int x10), (6, .int (t44.2.1 + 1))]) 6 [1, 2, 3, 4, 5, 6, 0] dX0_year_115 rfl rfl (by decide) rfl ?_
              refine zs_goto (pc := 118) (tgt := 44) dX0_year_118 (by decide) ?_
              exact hL44 (x10, (t44.2.1 + 1), M7)
            · refine zs_icmp_lt (pc := 104) (tgt := 111) dX0_year_104 (by decide) ?_ ?_
              · refine zs_iconst (pc := 111) (v := 0) dX0_year_111 rfl ?_
                refine zs_sub (lv' := [(0, .ref (c + 0)), (1, .int a1), (2, .int a2), (3, .int a3), (4, .int a4), (6, .int t44.2.1)]) [0, 1, 2, 3, 4, 6] rfl ?_
                exact h112 0
              · refine zs_iconst (pc := 107) (v := 1) dX0_year_107 rfl ?_
                refine zs_goto (pc := 108) (tgt := 112) dX0_year_108 (by decide) ?_
                refine zs_sub (lv' := [(0, .ref (c + 0)), (1, .int a1), (2, .int a2), (3, .int a3), (4, .int a4), (6, .int t44.2.1)]) [0, 1, 2, 3, 4, 6] rfl ?_
                exact h112 1
          · refine zs_iload (pc := 121) 5 dX0_year_121 rfl ?_
            exact zs_iret (pc := 123) dX0_year_123 ((hR44 _).trans rfl) rfl rfl
        · refine zs_iconst (pc := 36) (v := (-1)) dX0_year_36 rfl ?_
          exact zs_iret (pc := 37) dX0_year_37 rfl rfl rfl
      · refine zs_iconst (pc := 36) (v := (-1)) dX0_year_36 rfl ?_
        exact zs_iret (pc := 37) dX0_year_37 rfl rfl rfl
    · refine zs_iconst (pc := 36) (v := (-1)) dX0_year_36 rfl ?_
      exact zs_iret (pc := 37) dX0_year_37 rfl rfl rfl
  · refine zs_iconst (pc := 36) (v := (-1)) dX0_year_36 rfl ?_
    exact zs_iret (pc := 37) dX0_year_37 rfl rfl rfl
theorem wh_tell : zs_mV RX0 yX0_tell cX0_tell 4 (some .int) 3 := ⟨q1470, q1471, q134, q1472, by decide, by decide +kernel⟩
def gh_tell (T : zt_T) (M : cs_S) (a1 : Int32) (a2 : Int32) (a3 : Int32) : Option (Int32 × cs_S) :=
(gh_isIn a1 0 5).bind fun b1 =>
if b1 = true then ((gh_isIn a2 0 99).bind fun b2 =>
if b2 = true then (if (M.1 0 19) = 20 then (some ((-1), M))
else ((zs_ast 20 (M.1 0 19) (cs_sA M 0 22 (M.1 0 19) a1)).bind fun M3 =>
(zs_ast 20 (M3.1 0 19) (cs_sA M3 0 23 (M3.1 0 19) a2)).bind fun M4 =>
(zs_ast 20 (M4.1 0 19) (cs_sA M4 0 24 (M4.1 0 19) (vp_nar .boolean a3))).bind fun M5 =>
(some (cs_sF M5 0 19 ((M5.1 0 19) + 1))).bind fun M6 =>
some (((M6.1 0 19) - 1), M6)))
else (some ((-1), M)))
else (some ((-1), M))
set_option maxHeartbeats 4000000 in
theorem kh_tell (D : zs_D) (W : cs_W) (P : Nat → Bool) (h0 : zs_AH) (c : Nat) (M : cs_S) (a1 : Int32) (a2 : Int32) (a3 : Int32) : zs_Con D (cs_R W P h0 c) cs_bd zs_eI yX0_tell cX0_tell 4 (some .int) 1 [.ref (c + 0), .int a1, .int a2, .int a3] M (gh_tell W.2.1 M a1 a2 a3) := by
  unfold gh_tell
  refine zs_con (own := RX0) (nm := "tell") pl_X0 rfl rfl (Nat.le_of_ble_eq_true rfl) ?_
  refine zs_lv (lv' := [(0, .ref (c + 0)), (1, .int a1), (2, .int a2), (3, .int a3)]) rfl ?_
  refine zs_iload_n (pc := 0) 1 dX0_tell_0 rfl rfl ?_
  refine zs_iconst (pc := 1) (v := 0) dX0_tell_1 rfl ?_
  refine zs_iconst (pc := 2) (v := 5) dX0_tell_2 rfl ?_
  refine zs_callSrB (pc := 3) [.int a1, .int 0, .int 5] [] (kh_isIn D _ _ M a1 0 5) wh_isIn q1129 dX0_tell_3 rfl rfl (Nat.le_of_ble_eq_true rfl) (Nat.le_of_ble_eq_true rfl) (fun b1 => ?_)
  refine zs_if_f (pc := 6) (tgt := 28) dX0_tell_6 (by decide) ?_ ?_
  · refine zs_iload_n (pc := 9) 2 dX0_tell_9 rfl rfl ?_
    refine zs_iconst (pc := 10) (v := 0) dX0_tell_10 rfl ?_
    refine zs_bipush (pc := 11) (v := 99) dX0_tell_11 (by decide) ?_
    refine zs_callSrB (pc := 13) [.int a2, .int 0, .int 99] [] (kh_isIn D _ _ M a2 0 99) wh_isIn q1129 dX0_tell_13 rfl rfl (Nat.le_of_ble_eq_true rfl) (Nat.le_of_ble_eq_true rfl) (fun b2 => ?_)
    refine zs_if_f (pc := 16) (tgt := 28) dX0_tell_16 (by decide) ?_ ?_
    · refine zs_aload_n (pc := 19) 0 dX0_tell_19 rfl rfl ?_
      refine cs_geti (pc := 20) 0 0 19 ⟨⟨by decide, by decide⟩, rfl⟩ zc_X0 ⟨rfl, rfl⟩ (by decide) rfl q548 dX0_tell_20 ?_
      refine zs_bipush (pc := 23) (v := 20) dX0_tell_23 (by decide) ?_
      refine zs_icmp_ne (pc := 25) (tgt := 30) dX0_tell_25 (by decide) ?_ ?_
      · refine zs_iconst (pc := 28) (v := (-1)) dX0_tell_28 rfl ?_
        exact zs_iret (pc := 29) dX0_tell_29 rfl rfl rfl
      · refine zs_aload_n (pc := 30) 0 dX0_tell_30 rfl rfl ?_
        refine cs_getr (pc := 31) 0 0 22 (v := .ref (c + 150)) ⟨⟨by decide, by decide⟩, rfl⟩ zc_X0 ⟨rfl, rfl⟩ (by decide) rfl rfl q551 dX0_tell_31 ?_
        refine zs_aload_n (pc := 34) 0 dX0_tell_34 rfl rfl ?_
        refine cs_geti (pc := 35) 0 0 19 ⟨⟨by decide, by decide⟩, rfl⟩ zc_X0 ⟨rfl, rfl⟩ (by decide) rfl q548 dX0_tell_35 ?_
        refine zs_iload_n (pc := 38) 1 dX0_tell_38 rfl rfl ?_
        refine cs_iast (pc := 39) 150 0 22 ⟨⟨by decide, by decide⟩, rfl, rfl, rfl⟩ dX0_tell_39 (fun M3 => ?_)
        refine zs_aload_n (pc := 40) 0 dX0_tell_40 rfl rfl ?_
        refine cs_getr (pc := 41) 0 0 23 (v := .ref (c + 151)) ⟨⟨by decide, by decide⟩, rfl⟩ zc_X0 ⟨rfl, rfl⟩ (by decide) rfl rfl q552 dX0_tell_41 ?_
        refine zs_aload_n (pc := 44) 0 dX0_tell_44 rfl rfl ?_
        refine cs_geti (pc := 45) 0 0 19 ⟨⟨by decide, by decide⟩, rfl⟩ zc_X0 ⟨rfl, rfl⟩ (by decide) rfl q548 dX0_tell_45 ?_
        refine zs_iload_n (pc := 48) 2 dX0_tell_48 rfl rfl ?_
        refine cs_iast (pc := 49) 151 0 23 ⟨⟨by decide, by decide⟩, rfl, rfl, rfl⟩ dX0_tell_49 (fun M4 => ?_)
        refine zs_aload_n (pc := 50) 0 dX0_tell_50 rfl rfl ?_
        refine cs_getr (pc := 51) 0 0 24 (v := .ref (c + 152)) ⟨⟨by decide, by decide⟩, rfl⟩ zc_X0 ⟨rfl, rfl⟩ (by decide) rfl rfl q553 dX0_tell_51 ?_
        refine zs_aload_n (pc := 54) 0 dX0_tell_54 rfl rfl ?_
        refine cs_geti (pc := 55) 0 0 19 ⟨⟨by decide, by decide⟩, rfl⟩ zc_X0 ⟨rfl, rfl⟩ (by decide) rfl q548 dX0_tell_55 ?_
        refine zs_iload_n (pc := 58) 3 dX0_tell_58 rfl rfl ?_
        refine cs_zast (pc := 59) 152 0 24 ⟨⟨by decide, by decide⟩, rfl, rfl, rfl⟩ dX0_tell_59 (fun M5 => ?_)
        refine zs_aload_n (pc := 60) 0 dX0_tell_60 rfl rfl ?_
        refine zs_dup (pc := 61) dX0_tell_61 rfl ?_
        refine cs_geti (pc := 62) 0 0 19 ⟨⟨by decide, by decide⟩, rfl⟩ zc_X0 ⟨rfl, rfl⟩ (by decide) rfl q548 dX0_tell_62 ?_
        refine zs_iconst (pc := 65) (v := 1) dX0_tell_65 rfl ?_
        refine zs_iadd (pc := 66) dX0_tell_66 ?_
        refine cs_puti (pc := 67) 0 0 19 ⟨⟨by decide, by decide⟩, rfl⟩ zc_X0 ⟨rfl, rfl⟩ (by decide) rfl q548 rfl rfl rfl dX0_tell_67 (fun M6 => ?_)
        refine zs_aload_n (pc := 70) 0 dX0_tell_70 rfl rfl ?_
        refine cs_geti (pc := 71) 0 0 19 ⟨⟨by decide, by decide⟩, rfl⟩ zc_X0 ⟨rfl, rfl⟩ (by decide) rfl q548 dX0_tell_71 ?_
        refine zs_iconst (pc := 74) (v := 1) dX0_tell_74 rfl ?_
        refine zs_isub (pc := 75) dX0_tell_75 ?_
        exact zs_iret (pc := 76) dX0_tell_76 rfl rfl rfl
    · refine zs_iconst (pc := 28) (v := (-1)) dX0_tell_28 rfl ?_
      exact zs_iret (pc := 29) dX0_tell_29 rfl rfl rfl
  · refine zs_iconst (pc := 28) (v := (-1)) dX0_tell_28 rfl ?_
    exact zs_iret (pc := 29) dX0_tell_29 rfl rfl rfl
theorem wh_forget : zs_mV RX0 yX0_forget cX0_forget 2 (some .int) 0 := ⟨q1474, q1475, q134, q1476, by decide, by decide +kernel⟩
def gh_forget (T : zt_T) (M : cs_S) : Option (Int32 × cs_S) :=
(some (M.1 0 19)).bind fun x1 =>
(some (cs_sF M 0 19 0)).bind fun M2 =>
some (x1, M2)
set_option maxHeartbeats 4000000 in
theorem kh_forget (D : zs_D) (W : cs_W) (P : Nat → Bool) (h0 : zs_AH) (c : Nat) (M : cs_S) : zs_Con D (cs_R W P h0 c) cs_bd zs_eI yX0_forget cX0_forget 2 (some .int) 0 [.ref (c + 0)] M (gh_forget W.2.1 M) := by
  unfold gh_forget
  refine zs_con (own := RX0) (nm := "forget") pl_X0 rfl rfl (Nat.le_of_ble_eq_true rfl) ?_
  refine zs_lv (lv' := [(0, .ref (c + 0))]) rfl ?_
  refine zs_aload_n (pc := 0) 0 dX0_forget_0 rfl rfl ?_
  refine cs_geti (pc := 1) 0 0 19 ⟨⟨by decide, by decide⟩, rfl⟩ zc_X0 ⟨rfl, rfl⟩ (by decide) rfl q548 dX0_forget_1 ?_
  refine zs_nm (fun x1 => ?_)
  refine zs_istore_n (pc := 4) (lv' := [(0, .ref (c + 0)), (1, .int x1)]) [1, 0] dX0_forget_4 rfl (by decide) rfl ?_
  refine zs_aload_n (pc := 5) 0 dX0_forget_5 rfl rfl ?_
  refine zs_iconst (pc := 6) (v := 0) dX0_forget_6 rfl ?_
  refine cs_puti (pc := 7) 0 0 19 ⟨⟨by decide, by decide⟩, rfl⟩ zc_X0 ⟨rfl, rfl⟩ (by decide) rfl q548 rfl rfl rfl dX0_forget_7 (fun M2 => ?_)
  refine zs_iload_n (pc := 10) 1 dX0_forget_10 rfl rfl ?_
  exact zs_iret (pc := 11) dX0_forget_11 rfl rfl rfl
theorem wh_isSo : zs_mV RX0 yX0_isSo cX0_isSo 4 (some .boolean) 2 := ⟨q1491, qs58, q134, q1492, by decide, by decide +kernel⟩
def gh_isSo_L2 (a1 : Int32) (M : cs_S) (a2 : Int32) (T : zt_T) : (Int32) → Option ((Int32) ⊕ (Bool)) := fun t2 =>
if t2 < a1 then ((zs_ald 20 (M.2 0 22) t2).bind fun x1 =>
if x1 < a2 then ((zs_ald 20 (M.2 0 22) t2).bind fun x2 =>
(zs_ald 6 (M.2 0 25) x2).bind fun x3 =>
(gv_strength T M 0 x3).bind fun x4 =>
(zs_ald 20 (M.2 0 23) t2).bind fun x5 =>
(if x4 < x5 then (some 0)
else (some 1)).bind fun (p6 : Int32) =>
(zs_ald 20 (M.2 0 24) t2).bind fun x7 =>
if p6 = x7 then (some (Sum.inl (t2 + 1)))
else (some (Sum.inr false)))
else (some (Sum.inr false)))
else (some (Sum.inr true))
def gh_isSo (T : zt_T) (M : cs_S) (a1 : Int32) (a2 : Int32) : Option (Bool) :=
(zs_loop 5000 (gh_isSo_L2 a1 M a2 T) 0).bind fun z => some z
set_option maxHeartbeats 4000000 in
theorem kh_isSo (D : zs_D) (W : cs_W) (P : Nat → Bool) (h0 : zs_AH) (c : Nat) (M : cs_S) (a1 : Int32) (a2 : Int32) : zs_Con D (cs_R W P h0 c) cs_bd zs_eB yX0_isSo cX0_isSo 4 (some .boolean) 5 [.ref (c + 0), .int a1, .int a2] M ((gh_isSo W.2.1 M a1 a2).map fun x => (x, M)) := by
  unfold gh_isSo
  refine zs_conR (own := RX0) (nm := "isSo") pl_X0 rfl rfl (Nat.le_of_ble_eq_true rfl) ?_
  refine zs_lv (lv' := [(0, .ref (c + 0)), (1, .int a1), (2, .int a2)]) rfl ?_
  refine zs_iconst (pc := 0) (v := 0) dX0_isSo_0 rfl ?_
  refine zs_istore_n (pc := 1) (lv' := [(0, .ref (c + 0)), (1, .int a1), (2, .int a2), (3, .int 0)]) [1, 2, 3, 0] dX0_isSo_1 rfl (by decide) rfl ?_
  refine zs_whileX (pc := 2) (fun (t2 : Int32) => M) (fun (t2 : Int32) => [(0, .ref (c + 0)), (1, .int a1), (2, .int a2), (3, .int t2)]) 5000 0 (fun X2 hL2 hR2 t2 => ?_)
  unfold gh_isSo_L2
  refine zs_iload_n (pc := 2) 3 dX0_isSo_2 rfl rfl ?_
  refine zs_iload_n (pc := 3) 1 dX0_isSo_3 rfl rfl ?_
  refine zs_icmp_ge (pc := 4) (tgt := 70) dX0_isSo_4 (by decide) ?_ ?_
  · refine zs_aload_n (pc := 7) 0 dX0_isSo_7 rfl rfl ?_
    refine cs_getr (pc := 8) 0 0 22 (v := .ref (c + 150)) ⟨⟨by decide, by decide⟩, rfl⟩ zc_X0 ⟨rfl, rfl⟩ (by decide) rfl rfl q551 dX0_isSo_8 ?_
    refine zs_iload_n (pc := 11) 3 dX0_isSo_11 rfl rfl ?_
    refine cs_iald (pc := 12) 150 0 22 ⟨⟨by decide, by decide⟩, rfl, rfl, rfl⟩ dX0_isSo_12 (fun x1 => ?_)
    refine zs_iload_n (pc := 13) 2 dX0_isSo_13 rfl rfl ?_
    refine zs_icmp_ge (pc := 14) (tgt := 62) dX0_isSo_14 (by decide) ?_ ?_
    · refine zs_aload_n (pc := 17) 0 dX0_isSo_17 rfl rfl ?_
      refine cs_getr (pc := 18) 0 0 7 (v := .ref (c + cs_va 0)) ⟨⟨by decide, by decide⟩, rfl⟩ zc_X0 ⟨rfl, rfl⟩ (by decide) rfl rfl q536 dX0_isSo_18 ?_
      refine zs_aload_n (pc := 21) 0 dX0_isSo_21 rfl rfl ?_
      refine cs_getr (pc := 22) 0 0 3 (v := .ref (zt_ad W.2.1 0)) ⟨⟨by decide, by decide⟩, rfl⟩ zc_X0 ⟨rfl, rfl⟩ (by decide) rfl rfl q532 dX0_isSo_22 ?_
      refine zs_aload_n (pc := 25) 0 dX0_isSo_25 rfl rfl ?_
      refine cs_getr (pc := 26) 0 0 25 (v := .ref (c + 153)) ⟨⟨by decide, by decide⟩, rfl⟩ zc_X0 ⟨rfl, rfl⟩ (by decide) rfl rfl q554 dX0_isSo_26 ?_
      refine zs_aload_n (pc := 29) 0 dX0_isSo_29 rfl rfl ?_
      refine cs_getr (pc := 30) 0 0 22 (v := .ref (c + 150)) ⟨⟨by decide, by decide⟩, rfl⟩ zc_X0 ⟨rfl, rfl⟩ (by decide) rfl rfl q551 dX0_isSo_30 ?_
      refine zs_iload_n (pc := 33) 3 dX0_isSo_33 rfl rfl ?_
      refine cs_iald (pc := 34) 150 0 22 ⟨⟨by decide, by decide⟩, rfl, rfl, rfl⟩ dX0_isSo_34 (fun x2 => ?_)
      refine cs_iald (pc := 35) 153 0 25 ⟨⟨by decide, by decide⟩, rfl, rfl, rfl⟩ dX0_isSo_35 (fun x3 => ?_)
      refine zs_callVrI (pc := 36) [.ref (zt_ad W.2.1 0), .int x3] [] (kv_xstrength D W P h0 c M 0 (by omega) x3) wv_strength q1382 zc_X5 (cs_rcvv (by omega)) dX0_isSo_36 rfl rfl (Nat.le_of_ble_eq_true rfl) (Nat.le_of_ble_eq_true rfl) (fun x4 => ?_)
      refine zs_aload_n (pc := 39) 0 dX0_isSo_39 rfl rfl ?_
      refine cs_getr (pc := 40) 0 0 23 (v := .ref (c + 151)) ⟨⟨by decide, by decide⟩, rfl⟩ zc_X0 ⟨rfl, rfl⟩ (by decide) rfl rfl q552 dX0_isSo_40 ?_
      refine zs_iload_n (pc := 43) 3 dX0_isSo_43 rfl rfl ?_
      refine cs_iald (pc := 44) 151 0 23 ⟨⟨by decide, by decide⟩, rfl, rfl, rfl⟩ dX0_isSo_44 (fun x5 => ?_)
      refine zs_join (pc := 45) (fun (p6 : Int32) => M) 53 (fun (p6 : Int32) => [(0, .ref (c + 0)), (1, .int a1), (2, .int a2), (3, .int t2)]) (fun (p6 : Int32) => [.int p6]) (fun p6 => ?_) (fun h53 => ?_)
      · refine zs_aload_n (pc := 53) 0 dX0_isSo_53 rfl rfl ?_
        refine cs_getr (pc := 54) 0 0 24 (v := .ref (c + 152)) ⟨⟨by decide, by decide⟩, rfl⟩ zc_X0 ⟨rfl, rfl⟩ (by decide) rfl rfl q553 dX0_isSo_54 ?_
        refine zs_iload_n (pc := 57) 3 dX0_isSo_57 rfl rfl ?_
        refine cs_zald (pc := 58) 152 0 24 ⟨⟨by decide, by decide⟩, rfl, rfl, rfl⟩ dX0_isSo_58 (fun x7 => ?_)
        refine zs_icmp_eq (pc := 59) (tgt := 64) dX0_isSo_59 (by decide) ?_ ?_
        · refine zs_iinc (pc := 64) (lv' := [(0, .ref (c + 0)), (1, .int a1), (2, .int a2), (3, .int (t2 + 1))]) 3 [1, 2, 3, 0] dX0_isSo_64 rfl rfl (by decide) rfl ?_
          refine zs_goto (pc := 67) (tgt := 2) dX0_isSo_67 (by decide) ?_
          exact hL2 (t2 + 1)
        · refine zs_iconst (pc := 62) (v := 0) dX0_isSo_62 rfl ?_
          exact zs_iret (pc := 63) dX0_isSo_63 ((hR2 _).trans rfl) rfl rfl
      · refine zs_icmp_lt (pc := 45) (tgt := 52) dX0_isSo_45 (by decide) ?_ ?_
        · refine zs_iconst (pc := 52) (v := 0) dX0_isSo_52 rfl ?_
          exact h53 0
        · refine zs_iconst (pc := 48) (v := 1) dX0_isSo_48 rfl ?_
          refine zs_goto (pc := 49) (tgt := 53) dX0_isSo_49 (by decide) ?_
          exact h53 1
    · refine zs_iconst (pc := 62) (v := 0) dX0_isSo_62 rfl ?_
      exact zs_iret (pc := 63) dX0_isSo_63 ((hR2 _).trans rfl) rfl rfl
  · refine zs_iconst (pc := 70) (v := 1) dX0_isSo_70 rfl ?_
    exact zs_iret (pc := 71) dX0_isSo_71 ((hR2 _).trans rfl) rfl rfl
theorem wh_rowsFit : zs_mV RX0 yX0_rowsFit cX0_rowsFit 7 none 5 := ⟨q1487, qs57, q134, q1488, by decide, by decide +kernel⟩
def gh_rowsFit_L76 (T : zt_T) (a4 : Int32) (a1 : Int32) (rf : cs_S → Int32 → Int32 → Int32 → Int32 → Int32 → Option cs_S) (a2 : Int32) (a3 : Int32) (a5 : Int32) : (Int32 × cs_S) → Option ((Int32 × cs_S) ⊕ (cs_S)) := fun t76 =>
(gh_houses T t76.2).bind fun x1 =>
if t76.1 < x1 then ((if ((zs_shr a4 t76.1) &&& 1) = 1 then (some t76.2)
else ((zs_ast 6 a1 (cs_sA t76.2 0 25 a1 t76.1)).bind fun M3 =>
(rf M3 (a1 + 1) a2 a3 (a4 ||| (zs_shl 1 t76.1)) ((6 * a5) + t76.1)).bind fun M4 =>
some M4)).bind fun (p2 : cs_S) =>
some (Sum.inl ((t76.1 + 1), p2)))
else (some (Sum.inr t76.2))
def gh_rowsFit_L41 (a2 : Int32) : (Int32 × cs_S) → Option ((Int32 × cs_S) ⊕ (cs_S)) := fun t41 =>
if t41.1 < a2 then ((zs_ix 6 t41.1).bind fun k8 =>
(zs_ald 6 (t41.2.2 0 25) t41.1).bind fun x9 =>
(zs_ald 6 (t41.2.2 62 k8) x9).bind fun x10 =>
(zs_ast 6 x9 (cs_sA t41.2 62 k8 x9 (x10 + 1))).bind fun M11 =>
some (Sum.inl ((t41.1 + 1), M11)))
else (some (Sum.inr t41.2))
def gh_rowsFit_B (T : zt_T) (rf : cs_S → Int32 → Int32 → Int32 → Int32 → Int32 → Option cs_S) (M : cs_S) (a1 : Int32) (a2 : Int32) (a3 : Int32) (a4 : Int32) (a5 : Int32) : Option (cs_S) :=
if a1 = a2 then ((gh_isSo T M a3 a2).bind fun b5 =>
if b5 = true then ((if (M.1 0 20) = 0 then ((some (cs_sF M 0 21 a5)).bind fun M12 =>
some M12)
else (some M)).bind fun (p6 : cs_S) =>
(some (cs_sF p6 0 20 ((p6.1 0 20) + 1))).bind fun M7 =>
(zs_loop 5000 (gh_rowsFit_L41 a2) (0, M7)).bind fun z => some z)
else (some M))
else ((zs_loop 5000 (gh_rowsFit_L76 T a4 a1 rf a2 a3 a5) (0, M)).bind fun z => some z)
set_option maxHeartbeats 4000000 in
theorem kh_rowsFit_B (D : zs_D) (W : cs_W) (P : Nat → Bool) (h0 : zs_AH) (c : Nat) {dn : Nat} (hdn : 8 ≤ dn) (rf : cs_S → Int32 → Int32 → Int32 → Int32 → Int32 → Option cs_S) (ih : (∀ (M : cs_S) (a1 : Int32) (a2 : Int32) (a3 : Int32) (a4 : Int32) (a5 : Int32), zs_Con D (cs_R W P h0 c) cs_bd zs_eV yX0_rowsFit cX0_rowsFit 7 none dn [.ref (c + 0), .int a1, .int a2, .int a3, .int a4, .int a5] M ((rf M a1 a2 a3 a4 a5).map fun x => ((), x)))) (M : cs_S) (a1 : Int32) (a2 : Int32) (a3 : Int32) (a4 : Int32) (a5 : Int32) : zs_Con D (cs_R W P h0 c) cs_bd zs_eV yX0_rowsFit cX0_rowsFit 7 none (dn + 1) [.ref (c + 0), .int a1, .int a2, .int a3, .int a4, .int a5] M ((gh_rowsFit_B W.2.1 rf M a1 a2 a3 a4 a5).map fun x => ((), x)) := by
  unfold gh_rowsFit_B
  refine zs_conV (own := RX0) (nm := "rowsFit") pl_X0 rfl rfl (Nat.le_of_ble_eq_true rfl) ?_
  refine zs_lv (lv' := [(0, .ref (c + 0)), (1, .int a1), (2, .int a2), (3, .int a3), (4, .int a4), (5, .int a5)]) rfl ?_
  refine zs_iload_n (pc := 0) 1 dX0_rowsFit_0 rfl rfl ?_
  refine zs_iload_n (pc := 1) 2 dX0_rowsFit_1 rfl rfl ?_
  refine zs_icmp_ne (pc := 2) (tgt := 73) dX0_rowsFit_2 (by decide) ?_ ?_
  · refine zs_aload_n (pc := 5) 0 dX0_rowsFit_5 rfl rfl ?_
    refine zs_iload_n (pc := 6) 3 dX0_rowsFit_6 rfl rfl ?_
    refine zs_iload_n (pc := 7) 2 dX0_rowsFit_7 rfl rfl ?_
    refine zs_callVrB (pc := 8) [.int a3, .int a2] [] (kh_isSo D W P h0 c M a3 a2) wh_isSo q1489 zc_X0 cs_rcv0 dX0_rowsFit_8 rfl rfl (by omega) (Nat.le_of_ble_eq_true rfl) (fun b5 => ?_)
    refine zs_if_t (pc := 11) (tgt := 15) dX0_rowsFit_11 (by decide) ?_ ?_
    · refine zs_aload_n (pc := 15) 0 dX0_rowsFit_15 rfl rfl ?_
      refine cs_geti (pc := 16) 0 0 20 ⟨⟨by decide, by decide⟩, rfl⟩ zc_X0 ⟨rfl, rfl⟩ (by decide) rfl q549 dX0_rowsFit_16 ?_
      refine zs_join (pc := 19) (fun (p6 : cs_S) => p6) 28 (fun (p6 : cs_S) => [(0, .ref (c + 0)), (2, .int a2)]) (fun (p6 : cs_S) => []) (fun p6 => ?_) (fun h28 => ?_)
      · refine zs_aload_n (pc := 28) 0 dX0_rowsFit_28 rfl rfl ?_
        refine zs_dup (pc := 29) dX0_rowsFit_29 rfl ?_
        refine cs_geti (pc := 30) 0 0 20 ⟨⟨by decide, by decide⟩, rfl⟩ zc_X0 ⟨rfl, rfl⟩ (by decide) rfl q549 dX0_rowsFit_30 ?_
        refine zs_iconst (pc := 33) (v := 1) dX0_rowsFit_33 rfl ?_
        refine zs_iadd (pc := 34) dX0_rowsFit_34 ?_
        refine cs_puti (pc := 35) 0 0 20 ⟨⟨by decide, by decide⟩, rfl⟩ zc_X0 ⟨rfl, rfl⟩ (by decide) rfl q549 rfl rfl rfl dX0_rowsFit_35 (fun M7 => ?_)
        refine zs_iconst (pc := 38) (v := 0) dX0_rowsFit_38 rfl ?_
        refine zs_istore (pc := 39) (lv' := [(0, .ref (c + 0)), (2, .int a2), (6, .int 0)]) [1, 2, 0] dX0_rowsFit_39 (by decide) rfl ?_
        refine zs_whileX (pc := 41) (fun (t41 : Int32 × cs_S) => t41.2) (fun (t41 : Int32 × cs_S) => [(0, .ref (c + 0)), (2, .int a2), (6, .int t41.1)]) 5000 (0, M7) (fun X41 hL41 hR41 t41 => ?_)
        unfold gh_rowsFit_L41
        refine zs_iload (pc := 41) 2 dX0_rowsFit_41 rfl ?_
        refine zs_iload_n (pc := 43) 1 dX0_rowsFit_43 rfl rfl ?_
        refine zs_icmp_ge (pc := 44) (tgt := 72) dX0_rowsFit_44 (by decide) ?_ ?_
        · refine zs_aload_n (pc := 47) 0 dX0_rowsFit_47 rfl rfl ?_
          refine cs_getr (pc := 48) 0 0 26 (v := .ref (c + 154)) ⟨⟨by decide, by decide⟩, rfl⟩ zc_X0 ⟨rfl, rfl⟩ (by decide) rfl rfl q555 dX0_rowsFit_48 ?_
          refine zs_iload (pc := 51) 2 dX0_rowsFit_51 rfl ?_
          refine cs_often (pc := 53) dX0_rowsFit_53 (fun k8 hk8 => ?_)
          refine zs_aload_n (pc := 54) 0 dX0_rowsFit_54 rfl rfl ?_
          refine cs_getr (pc := 55) 0 0 25 (v := .ref (c + 153)) ⟨⟨by decide, by decide⟩, rfl⟩ zc_X0 ⟨rfl, rfl⟩ (by decide) rfl rfl q554 dX0_rowsFit_55 ?_
          refine zs_iload (pc := 58) 2 dX0_rowsFit_58 rfl ?_
          refine cs_iald (pc := 60) 153 0 25 ⟨⟨by decide, by decide⟩, rfl, rfl, rfl⟩ dX0_rowsFit_60 (fun x9 => ?_)
          refine zs_dup2 (pc := 61) dX0_rowsFit_61 rfl rfl ?_
          refine cs_iald (pc := 62) (155 + k8) 62 k8 (cs_poften hk8) dX0_rowsFit_62 (fun x10 => ?_)
          refine zs_iconst (pc := 63) (v := 1) dX0_rowsFit_63 rfl ?_
          refine zs_iadd (pc := 64) dX0_rowsFit_64 ?_
          refine cs_iast (pc := 65) (155 + k8) 62 k8 (cs_poften hk8) dX0_rowsFit_65 (fun M11 => ?_)
          refine zs_iinc (pc := 66) (lv' := [(0, .ref (c + 0)), (2, .int a2), (6, .int (t41.1 + 1))]) 2 [1, 2, 0] dX0_rowsFit_66 rfl rfl (by decide) rfl ?_
          refine zs_goto (pc := 69) (tgt := 41) dX0_rowsFit_69 (by decide) ?_
          exact hL41 ((t41.1 + 1), M11)
        · exact zs_vret (pc := 72) dX0_rowsFit_72 ((hR41 _).trans rfl) rfl
      · refine zs_if_ne (pc := 19) (tgt := 28) dX0_rowsFit_19 (by decide) ?_ ?_
        · refine zs_aload_n (pc := 22) 0 dX0_rowsFit_22 rfl rfl ?_
          refine zs_iload (pc := 23) 5 dX0_rowsFit_23 rfl ?_
          refine cs_puti (pc := 25) 0 0 21 ⟨⟨by decide, by decide⟩, rfl⟩ zc_X0 ⟨rfl, rfl⟩ (by decide) rfl q550 rfl rfl rfl dX0_rowsFit_25 (fun M12 => ?_)
          refine zs_sub (lv' := [(0, .ref (c + 0)), (2, .int a2)]) [0, 2] rfl ?_
          exact h28 M12
        · refine zs_sub (lv' := [(0, .ref (c + 0)), (2, .int a2)]) [0, 2] rfl ?_
          exact h28 M
    · exact zs_vret (pc := 14) dX0_rowsFit_14 rfl rfl
  · refine zs_iconst (pc := 73) (v := 0) dX0_rowsFit_73 rfl ?_
    refine zs_istore (pc := 74) (lv' := [(0, .ref (c + 0)), (1, .int a1), (2, .int a2), (3, .int a3), (4, .int a4), (5, .int a5), (6, .int 0)]) [1, 2, 3, 4, 5, 6, 0] dX0_rowsFit_74 (by decide) rfl ?_
    refine zs_whileX (pc := 76) (fun (t76 : Int32 × cs_S) => t76.2) (fun (t76 : Int32 × cs_S) => [(0, .ref (c + 0)), (1, .int a1), (2, .int a2), (3, .int a3), (4, .int a4), (5, .int a5), (6, .int t76.1)]) 5000 (0, M) (fun X76 hL76 hR76 t76 => ?_)
    unfold gh_rowsFit_L76
    refine zs_iload (pc := 76) 6 dX0_rowsFit_76 rfl ?_
    refine zs_aload_n (pc := 78) 0 dX0_rowsFit_78 rfl rfl ?_
    refine zs_callVrI (pc := 79) [] [.int t76.1] (kh_houses D W P h0 c t76.2) wh_houses q1124 zc_X0 cs_rcv0 dX0_rowsFit_79 rfl rfl (by omega) (Nat.le_of_ble_eq_true rfl) (fun x1 => ?_)
    refine zs_icmp_ge (pc := 82) (tgt := 137) dX0_rowsFit_82 (by decide) ?_ ?_
    · refine zs_iload (pc := 85) 4 dX0_rowsFit_85 rfl ?_
      refine zs_iload (pc := 87) 6 dX0_rowsFit_87 rfl ?_
      refine zs_ishr (pc := 89) dX0_rowsFit_89 ?_
      refine zs_iconst (pc := 90) (v := 1) dX0_rowsFit_90 rfl ?_
      refine zs_iand (pc := 91) dX0_rowsFit_91 ?_
      refine zs_iconst (pc := 92) (v := 1) dX0_rowsFit_92 rfl ?_
      refine zs_join (pc := 93) (fun (p2 : cs_S) => p2) 131 (fun (p2 : cs_S) => [(0, .ref (c + 0)), (1, .int a1), (2, .int a2), (3, .int a3), (4, .int a4), (5, .int a5), (6, .int t76.1)]) (fun (p2 : cs_S) => []) (fun p2 => ?_) (fun h131 => ?_)
      · refine zs_iinc (pc := 131) (lv' := [(0, .ref (c + 0)), (1, .int a1), (2, .int a2), (3, .int a3), (4, .int a4), (5, .int a5), (6, .int (t76.1 + 1))]) 6 [1, 2, 3, 4, 5, 6, 0] dX0_rowsFit_131 rfl rfl (by decide) rfl ?_
        refine zs_goto (pc := 134) (tgt := 76) dX0_rowsFit_134 (by decide) ?_
        exact hL76 ((t76.1 + 1), p2)
      · refine zs_icmp_ne (pc := 93) (tgt := 99) dX0_rowsFit_93 (by decide) ?_ ?_
        · refine zs_goto (pc := 96) (tgt := 131) dX0_rowsFit_96 (by decide) ?_
          exact h131 t76.2
        · refine zs_aload_n (pc := 99) 0 dX0_rowsFit_99 rfl rfl ?_
          refine cs_getr (pc := 100) 0 0 25 (v := .ref (c + 153)) ⟨⟨by decide, by decide⟩, rfl⟩ zc_X0 ⟨rfl, rfl⟩ (by decide) rfl rfl q554 dX0_rowsFit_100 ?_
          refine zs_iload_n (pc := 103) 1 dX0_rowsFit_103 rfl rfl ?_
          refine zs_iload (pc := 104) 6 dX0_rowsFit_104 rfl ?_
          refine cs_iast (pc := 106) 153 0 25 ⟨⟨by decide, by decide⟩, rfl, rfl, rfl⟩ dX0_rowsFit_106 (fun M3 => ?_)
          refine zs_aload_n (pc := 107) 0 dX0_rowsFit_107 rfl rfl ?_
          refine zs_iload_n (pc := 108) 1 dX0_rowsFit_108 rfl rfl ?_
          refine zs_iconst (pc := 109) (v := 1) dX0_rowsFit_109 rfl ?_
          refine zs_iadd (pc := 110) dX0_rowsFit_110 ?_
          refine zs_iload_n (pc := 111) 2 dX0_rowsFit_111 rfl rfl ?_
          refine zs_iload_n (pc := 112) 3 dX0_rowsFit_112 rfl rfl ?_
          refine zs_iload (pc := 113) 4 dX0_rowsFit_113 rfl ?_
          refine zs_iconst (pc := 115) (v := 1) dX0_rowsFit_115 rfl ?_
          refine zs_iload (pc := 116) 6 dX0_rowsFit_116 rfl ?_
          refine zs_ishl (pc := 118) dX0_rowsFit_118 ?_
          refine zs_ior (pc := 119) dX0_rowsFit_119 ?_
          refine zs_bipush (pc := 120) (v := 6) dX0_rowsFit_120 (by decide) ?_
          refine zs_iload (pc := 122) 5 dX0_rowsFit_122 rfl ?_
          refine zs_imul (pc := 124) dX0_rowsFit_124 ?_
          refine zs_iload (pc := 125) 6 dX0_rowsFit_125 rfl ?_
          refine zs_iadd (pc := 127) dX0_rowsFit_127 ?_
          refine zs_callVv (pc := 128) [.int (a1 + 1), .int a2, .int a3, .int (a4 ||| (zs_shl 1 t76.1)), .int ((6 * a5) + t76.1)] [] (ih M3 (a1 + 1) a2 a3 (a4 ||| (zs_shl 1 t76.1)) ((6 * a5) + t76.1)) wh_rowsFit q1485 zc_X0 cs_rcv0 dX0_rowsFit_128 rfl rfl (by omega) (Nat.le_of_ble_eq_true rfl) (fun M4 => ?_)
          exact h131 M4
    · exact zs_vret (pc := 137) dX0_rowsFit_137 ((hR76 _).trans rfl) rfl
def gh_rowsFit (T : zt_T) : Nat → cs_S → Int32 → Int32 → Int32 → Int32 → Int32 → Option cs_S
  | 0 => fun _ _ _ _ _ _ => none
  | n + 1 => gh_rowsFit_B T (gh_rowsFit T n)
theorem kh_rowsFit_A (D : zs_D) (W : cs_W) (P : Nat → Bool) (h0 : zs_AH) (c : Nat) : ∀ (n : Nat) (M : cs_S) (a1 : Int32) (a2 : Int32) (a3 : Int32) (a4 : Int32) (a5 : Int32), zs_Con D (cs_R W P h0 c) cs_bd zs_eV yX0_rowsFit cX0_rowsFit 7 none (8 + n) [.ref (c + 0), .int a1, .int a2, .int a3, .int a4, .int a5] M ((gh_rowsFit W.2.1 n M a1 a2 a3 a4 a5).map fun x => ((), x)) := by
  intro n
  induction n with
  | zero => intro M a1 a2 a3 a4 a5 r M1 e; cases e
  | succ n ih => exact kh_rowsFit_B D W P h0 c (dn := 8 + n) (by omega) (gh_rowsFit W.2.1 n) ih
theorem wh_laysFits : zs_mV RX0 yX0_laysFits cX0_laysFits 5 none 2 := ⟨q1483, qs56, q134, q1484, by decide, by decide +kernel⟩
def gh_laysFits_L22 (t13 : Int32 × cs_S) : (Int32 × cs_S) → Option ((Int32 × cs_S) ⊕ (cs_S)) := fun t22 =>
if t22.1 < 6 then ((zs_ix 6 t13.1).bind fun k3 =>
(zs_ast 6 t22.1 (cs_sA t22.2 62 k3 t22.1 0)).bind fun M4 =>
some (Sum.inl ((t22.1 + 1), M4)))
else (some (Sum.inr t22.2))
def gh_laysFits_L13 : (Int32 × cs_S) → Option ((Int32 × cs_S) ⊕ (cs_S)) := fun t13 =>
if t13.1 < 6 then ((zs_loop 5000 (gh_laysFits_L22 t13) (0, t13.2)).bind fun (r5 : cs_S) =>
some (Sum.inl ((t13.1 + 1), r5)))
else (some (Sum.inr t13.2))
def gh_laysFits (T : zt_T) (M : cs_S) (a1 : Int32) (a2 : Int32) : Option (cs_S) :=
(some (cs_sF M 0 20 0)).bind fun M1 =>
(some (cs_sF M1 0 21 (-2))).bind fun M2 =>
(zs_loop 5000 gh_laysFits_L13 (0, M2)).bind fun (r6 : cs_S) =>
(gh_rowsFit T 8 r6 0 a2 a1 0 0).bind fun M7 =>
some M7
set_option maxHeartbeats 4000000 in
theorem kh_laysFits (D : zs_D) (W : cs_W) (P : Nat → Bool) (h0 : zs_AH) (c : Nat) (M : cs_S) (a1 : Int32) (a2 : Int32) : zs_Con D (cs_R W P h0 c) cs_bd zs_eV yX0_laysFits cX0_laysFits 5 none 21 [.ref (c + 0), .int a1, .int a2] M ((gh_laysFits W.2.1 M a1 a2).map fun x => ((), x)) := by
  unfold gh_laysFits
  refine zs_conV (own := RX0) (nm := "laysFits") pl_X0 rfl rfl (Nat.le_of_ble_eq_true rfl) ?_
  refine zs_lv (lv' := [(0, .ref (c + 0)), (1, .int a1), (2, .int a2)]) rfl ?_
  refine zs_aload_n (pc := 0) 0 dX0_laysFits_0 rfl rfl ?_
  refine zs_iconst (pc := 1) (v := 0) dX0_laysFits_1 rfl ?_
  refine cs_puti (pc := 2) 0 0 20 ⟨⟨by decide, by decide⟩, rfl⟩ zc_X0 ⟨rfl, rfl⟩ (by decide) rfl q549 rfl rfl rfl dX0_laysFits_2 (fun M1 => ?_)
  refine zs_aload_n (pc := 5) 0 dX0_laysFits_5 rfl rfl ?_
  refine zs_bipush (pc := 6) (v := (-2)) dX0_laysFits_6 (by decide) ?_
  refine cs_puti (pc := 8) 0 0 21 ⟨⟨by decide, by decide⟩, rfl⟩ zc_X0 ⟨rfl, rfl⟩ (by decide) rfl q550 rfl rfl rfl dX0_laysFits_8 (fun M2 => ?_)
  refine zs_iconst (pc := 11) (v := 0) dX0_laysFits_11 rfl ?_
  refine zs_istore_n (pc := 12) (lv' := [(0, .ref (c + 0)), (1, .int a1), (2, .int a2), (3, .int 0)]) [1, 2, 3, 0] dX0_laysFits_12 rfl (by decide) rfl ?_
  refine zs_whileJ (pc := 13) (fun (t13 : Int32 × cs_S) => t13.2) (fun (t13 : Int32 × cs_S) => [(0, .ref (c + 0)), (1, .int a1), (2, .int a2), (3, .int t13.1)]) 5000 (0, M2) (fun (r6 : cs_S) => r6) 51 (fun (r6 : cs_S) => [(0, .ref (c + 0)), (1, .int a1), (2, .int a2)]) [] (fun r6 => ?_) (fun X13 hL13 hE13 t13 => ?_)
  · refine zs_aload_n (pc := 51) 0 dX0_laysFits_51 rfl rfl ?_
    refine zs_iconst (pc := 52) (v := 0) dX0_laysFits_52 rfl ?_
    refine zs_iload_n (pc := 53) 2 dX0_laysFits_53 rfl rfl ?_
    refine zs_iload_n (pc := 54) 1 dX0_laysFits_54 rfl rfl ?_
    refine zs_iconst (pc := 55) (v := 0) dX0_laysFits_55 rfl ?_
    refine zs_iconst (pc := 56) (v := 0) dX0_laysFits_56 rfl ?_
    refine zs_callVv (pc := 57) [.int 0, .int a2, .int a1, .int 0, .int 0] [] (kh_rowsFit_A D W P h0 c 8 r6 0 a2 a1 0 0) wh_rowsFit q1485 zc_X0 cs_rcv0 dX0_laysFits_57 rfl rfl (Nat.le_of_ble_eq_true rfl) (Nat.le_of_ble_eq_true rfl) (fun M7 => ?_)
    exact zs_vret (pc := 60) dX0_laysFits_60 rfl rfl
  · unfold gh_laysFits_L13
    refine zs_iload_n (pc := 13) 3 dX0_laysFits_13 rfl rfl ?_
    refine zs_bipush (pc := 14) (v := 6) dX0_laysFits_14 (by decide) ?_
    refine zs_icmp_ge (pc := 16) (tgt := 51) dX0_laysFits_16 (by decide) ?_ ?_
    · refine zs_iconst (pc := 19) (v := 0) dX0_laysFits_19 rfl ?_
      refine zs_istore (pc := 20) (lv' := [(0, .ref (c + 0)), (1, .int a1), (2, .int a2), (3, .int t13.1), (4, .int 0)]) [1, 2, 3, 4, 0] dX0_laysFits_20 (by decide) rfl ?_
      refine zs_whileJ (pc := 22) (fun (t22 : Int32 × cs_S) => t22.2) (fun (t22 : Int32 × cs_S) => [(0, .ref (c + 0)), (1, .int a1), (2, .int a2), (3, .int t13.1), (4, .int t22.1)]) 5000 (0, t13.2) (fun (r5 : cs_S) => r5) 45 (fun (r5 : cs_S) => [(0, .ref (c + 0)), (1, .int a1), (2, .int a2), (3, .int t13.1)]) [] (fun r5 => ?_) (fun X22 hL22 hE22 t22 => ?_)
      · refine zs_iinc (pc := 45) (lv' := [(0, .ref (c + 0)), (1, .int a1), (2, .int a2), (3, .int (t13.1 + 1))]) 3 [1, 2, 3, 0] dX0_laysFits_45 rfl rfl (by decide) rfl ?_
        refine zs_goto (pc := 48) (tgt := 13) dX0_laysFits_48 (by decide) ?_
        exact hL13 ((t13.1 + 1), r5)
      · unfold gh_laysFits_L22
        refine zs_iload (pc := 22) 4 dX0_laysFits_22 rfl ?_
        refine zs_bipush (pc := 24) (v := 6) dX0_laysFits_24 (by decide) ?_
        refine zs_icmp_ge (pc := 26) (tgt := 45) dX0_laysFits_26 (by decide) ?_ ?_
        · refine zs_aload_n (pc := 29) 0 dX0_laysFits_29 rfl rfl ?_
          refine cs_getr (pc := 30) 0 0 26 (v := .ref (c + 154)) ⟨⟨by decide, by decide⟩, rfl⟩ zc_X0 ⟨rfl, rfl⟩ (by decide) rfl rfl q555 dX0_laysFits_30 ?_
          refine zs_iload_n (pc := 33) 3 dX0_laysFits_33 rfl rfl ?_
          refine cs_often (pc := 34) dX0_laysFits_34 (fun k3 hk3 => ?_)
          refine zs_iload (pc := 35) 4 dX0_laysFits_35 rfl ?_
          refine zs_iconst (pc := 37) (v := 0) dX0_laysFits_37 rfl ?_
          refine cs_iast (pc := 38) (155 + k3) 62 k3 (cs_poften hk3) dX0_laysFits_38 (fun M4 => ?_)
          refine zs_iinc (pc := 39) (lv' := [(0, .ref (c + 0)), (1, .int a1), (2, .int a2), (3, .int t13.1), (4, .int (t22.1 + 1))]) 4 [1, 2, 3, 4, 0] dX0_laysFits_39 rfl rfl (by decide) rfl ?_
          refine zs_goto (pc := 42) (tgt := 22) dX0_laysFits_42 (by decide) ?_
          exact hL22 ((t22.1 + 1), M4)
        · refine zs_sub (lv' := [(0, .ref (c + 0)), (1, .int a1), (2, .int a2), (3, .int t13.1)]) [0, 1, 2, 3] rfl ?_
          exact hE22 t22.2
    · refine zs_sub (lv' := [(0, .ref (c + 0)), (1, .int a1), (2, .int a2)]) [0, 1, 2] rfl ?_
      exact hE13 t13.2
theorem wh_rows : zs_mV RX0 yX0_rows cX0_rows 4 (some .int) 3 := ⟨q1478, q1479, q134, q1480, by decide, by decide +kernel⟩
def gh_rows (T : zt_T) (M : cs_S) (a1 : Int32) (a2 : Int32) (a3 : Int32) : Option (Int32 × cs_S) :=
(gh_isIn a1 0 (M.1 0 19)).bind fun b1 =>
if b1 = true then ((gh_isIn a2 1 6).bind fun b2 =>
if b2 = true then ((gh_isIn a3 0 1).bind fun b3 =>
if b3 = true then ((gh_laysFits T M a1 a2).bind fun M4 =>
if a3 = 0 then (some ((M4.1 0 20), M4))
else (some ((M4.1 0 21), M4)))
else (some ((-1), M)))
else (some ((-1), M)))
else (some ((-1), M))
set_option maxHeartbeats 4000000 in
theorem kh_rows (D : zs_D) (W : cs_W) (P : Nat → Bool) (h0 : zs_AH) (c : Nat) (M : cs_S) (a1 : Int32) (a2 : Int32) (a3 : Int32) : zs_Con D (cs_R W P h0 c) cs_bd zs_eI yX0_rows cX0_rows 4 (some .int) 22 [.ref (c + 0), .int a1, .int a2, .int a3] M (gh_rows W.2.1 M a1 a2 a3) := by
  unfold gh_rows
  refine zs_con (own := RX0) (nm := "rows") pl_X0 rfl rfl (Nat.le_of_ble_eq_true rfl) ?_
  refine zs_lv (lv' := [(0, .ref (c + 0)), (1, .int a1), (2, .int a2), (3, .int a3)]) rfl ?_
  refine zs_iload_n (pc := 0) 1 dX0_rows_0 rfl rfl ?_
  refine zs_iconst (pc := 1) (v := 0) dX0_rows_1 rfl ?_
  refine zs_aload_n (pc := 2) 0 dX0_rows_2 rfl rfl ?_
  refine cs_geti (pc := 3) 0 0 19 ⟨⟨by decide, by decide⟩, rfl⟩ zc_X0 ⟨rfl, rfl⟩ (by decide) rfl q548 dX0_rows_3 ?_
  refine zs_callSrB (pc := 6) [.int a1, .int 0, .int (M.1 0 19)] [] (kh_isIn D _ _ M a1 0 (M.1 0 19)) wh_isIn q1129 dX0_rows_6 rfl rfl (Nat.le_of_ble_eq_true rfl) (Nat.le_of_ble_eq_true rfl) (fun b1 => ?_)
  refine zs_if_f (pc := 9) (tgt := 31) dX0_rows_9 (by decide) ?_ ?_
  · refine zs_iload_n (pc := 12) 2 dX0_rows_12 rfl rfl ?_
    refine zs_iconst (pc := 13) (v := 1) dX0_rows_13 rfl ?_
    refine zs_bipush (pc := 14) (v := 6) dX0_rows_14 (by decide) ?_
    refine zs_callSrB (pc := 16) [.int a2, .int 1, .int 6] [] (kh_isIn D _ _ M a2 1 6) wh_isIn q1129 dX0_rows_16 rfl rfl (Nat.le_of_ble_eq_true rfl) (Nat.le_of_ble_eq_true rfl) (fun b2 => ?_)
    refine zs_if_f (pc := 19) (tgt := 31) dX0_rows_19 (by decide) ?_ ?_
    · refine zs_iload_n (pc := 22) 3 dX0_rows_22 rfl rfl ?_
      refine zs_iconst (pc := 23) (v := 0) dX0_rows_23 rfl ?_
      refine zs_iconst (pc := 24) (v := 1) dX0_rows_24 rfl ?_
      refine zs_callSrB (pc := 25) [.int a3, .int 0, .int 1] [] (kh_isIn D _ _ M a3 0 1) wh_isIn q1129 dX0_rows_25 rfl rfl (Nat.le_of_ble_eq_true rfl) (Nat.le_of_ble_eq_true rfl) (fun b3 => ?_)
      refine zs_if_t (pc := 28) (tgt := 33) dX0_rows_28 (by decide) ?_ ?_
      · refine zs_aload_n (pc := 33) 0 dX0_rows_33 rfl rfl ?_
        refine zs_iload_n (pc := 34) 1 dX0_rows_34 rfl rfl ?_
        refine zs_iload_n (pc := 35) 2 dX0_rows_35 rfl rfl ?_
        refine zs_callVv (pc := 36) [.int a1, .int a2] [] (kh_laysFits D W P h0 c M a1 a2) wh_laysFits q1481 zc_X0 cs_rcv0 dX0_rows_36 rfl rfl (Nat.le_of_ble_eq_true rfl) (Nat.le_of_ble_eq_true rfl) (fun M4 => ?_)
        refine zs_iload_n (pc := 39) 3 dX0_rows_39 rfl rfl ?_
        refine zs_if_ne (pc := 40) (tgt := 50) dX0_rows_40 (by decide) ?_ ?_
        · refine zs_aload_n (pc := 43) 0 dX0_rows_43 rfl rfl ?_
          refine cs_geti (pc := 44) 0 0 20 ⟨⟨by decide, by decide⟩, rfl⟩ zc_X0 ⟨rfl, rfl⟩ (by decide) rfl q549 dX0_rows_44 ?_
          refine zs_goto (pc := 47) (tgt := 54) dX0_rows_47 (by decide) ?_
          exact zs_iret (pc := 54) dX0_rows_54 rfl rfl rfl
        · refine zs_aload_n (pc := 50) 0 dX0_rows_50 rfl rfl ?_
          refine cs_geti (pc := 51) 0 0 21 ⟨⟨by decide, by decide⟩, rfl⟩ zc_X0 ⟨rfl, rfl⟩ (by decide) rfl q550 dX0_rows_51 ?_
          exact zs_iret (pc := 54) dX0_rows_54 rfl rfl rfl
      · refine zs_iconst (pc := 31) (v := (-1)) dX0_rows_31 rfl ?_
        exact zs_iret (pc := 32) dX0_rows_32 rfl rfl rfl
    · refine zs_iconst (pc := 31) (v := (-1)) dX0_rows_31 rfl ?_
      exact zs_iret (pc := 32) dX0_rows_32 rfl rfl rfl
  · refine zs_iconst (pc := 31) (v := (-1)) dX0_rows_31 rfl ?_
    exact zs_iret (pc := 32) dX0_rows_32 rfl rfl rfl
theorem wh_feel : zs_mV RX0 yX0_feel cX0_feel 9 (some .int) 3 := ⟨q1494, q1495, q134, q1496, by decide, by decide +kernel⟩
def gh_feel_L71 (T : zt_T) (M4 : cs_S) (a3 : Int32) (t52 : Int32 × Int32 × Int32) : (Int32 × Int32) → Option ((Int32 × Int32) ⊕ (Int32)) := fun t71 =>
(gh_houses T M4).bind fun x5 =>
if t71.2 < x5 then ((gv_strength T M4 0 t71.2).bind fun x6 =>
(if x6 < a3 then (some 0)
else ((zs_ix 6 t52.2.2).bind fun k9 =>
(zs_ald 6 (M4.2 62 k9) t71.2).bind fun x10 =>
some x10)).bind fun (p7 : Int32) =>
(some (t71.1 + p7)).bind fun x8 =>
some (Sum.inl (x8, (t71.2 + 1))))
else (some (Sum.inr t71.1))
def gh_feel_L52 (a2 : Int32) (M4 : cs_S) (T : zt_T) (a3 : Int32) : (Int32 × Int32 × Int32) → Option ((Int32 × Int32 × Int32) ⊕ (Int32 × cs_S)) := fun t52 =>
if t52.2.2 < a2 then (if 0 < (M4.1 0 20) then ((zs_loop 5000 (gh_feel_L71 T M4 a3 t52) (0, 0)).bind fun (r11 : Int32) =>
(some (zs_max r11 ((M4.1 0 20) - r11))).bind fun x12 =>
(if x12 < t52.2.1 then (some (t52.2.2, x12))
else (some (t52.1, t52.2.1))).bind fun (p13 : Int32 × Int32) =>
some (Sum.inl (p13.1, p13.2, (t52.2.2 + 1))))
else (some (Sum.inr (t52.1, M4))))
else (some (Sum.inr (t52.1, M4)))
def gh_feel (T : zt_T) (M : cs_S) (a1 : Int32) (a2 : Int32) (a3 : Int32) : Option (Int32 × cs_S) :=
(gh_isIn a1 0 (M.1 0 19)).bind fun b1 =>
if b1 = true then ((gh_isIn a2 1 6).bind fun b2 =>
if b2 = true then ((gh_isIn a3 0 99).bind fun b3 =>
if b3 = true then ((gh_laysFits T M a1 a2).bind fun M4 =>
(zs_loop 5000 (gh_feel_L52 a2 M4 T a3) ((-2), 1000000, 0)).bind fun z => some z)
else (some ((-1), M)))
else (some ((-1), M)))
else (some ((-1), M))
set_option maxHeartbeats 4000000 in
theorem kh_feel (D : zs_D) (W : cs_W) (P : Nat → Bool) (h0 : zs_AH) (c : Nat) (M : cs_S) (a1 : Int32) (a2 : Int32) (a3 : Int32) : zs_Con D (cs_R W P h0 c) cs_bd zs_eI yX0_feel cX0_feel 9 (some .int) 22 [.ref (c + 0), .int a1, .int a2, .int a3] M (gh_feel W.2.1 M a1 a2 a3) := by
  unfold gh_feel
  refine zs_con (own := RX0) (nm := "feel") pl_X0 rfl rfl (Nat.le_of_ble_eq_true rfl) ?_
  refine zs_lv (lv' := [(0, .ref (c + 0)), (1, .int a1), (2, .int a2), (3, .int a3)]) rfl ?_
  refine zs_iload_n (pc := 0) 1 dX0_feel_0 rfl rfl ?_
  refine zs_iconst (pc := 1) (v := 0) dX0_feel_1 rfl ?_
  refine zs_aload_n (pc := 2) 0 dX0_feel_2 rfl rfl ?_
  refine cs_geti (pc := 3) 0 0 19 ⟨⟨by decide, by decide⟩, rfl⟩ zc_X0 ⟨rfl, rfl⟩ (by decide) rfl q548 dX0_feel_3 ?_
  refine zs_callSrB (pc := 6) [.int a1, .int 0, .int (M.1 0 19)] [] (kh_isIn D _ _ M a1 0 (M.1 0 19)) wh_isIn q1129 dX0_feel_6 rfl rfl (Nat.le_of_ble_eq_true rfl) (Nat.le_of_ble_eq_true rfl) (fun b1 => ?_)
  refine zs_if_f (pc := 9) (tgt := 32) dX0_feel_9 (by decide) ?_ ?_
  · refine zs_iload_n (pc := 12) 2 dX0_feel_12 rfl rfl ?_
    refine zs_iconst (pc := 13) (v := 1) dX0_feel_13 rfl ?_
    refine zs_bipush (pc := 14) (v := 6) dX0_feel_14 (by decide) ?_
    refine zs_callSrB (pc := 16) [.int a2, .int 1, .int 6] [] (kh_isIn D _ _ M a2 1 6) wh_isIn q1129 dX0_feel_16 rfl rfl (Nat.le_of_ble_eq_true rfl) (Nat.le_of_ble_eq_true rfl) (fun b2 => ?_)
    refine zs_if_f (pc := 19) (tgt := 32) dX0_feel_19 (by decide) ?_ ?_
    · refine zs_iload_n (pc := 22) 3 dX0_feel_22 rfl rfl ?_
      refine zs_iconst (pc := 23) (v := 0) dX0_feel_23 rfl ?_
      refine zs_bipush (pc := 24) (v := 99) dX0_feel_24 (by decide) ?_
      refine zs_callSrB (pc := 26) [.int a3, .int 0, .int 99] [] (kh_isIn D _ _ M a3 0 99) wh_isIn q1129 dX0_feel_26 rfl rfl (Nat.le_of_ble_eq_true rfl) (Nat.le_of_ble_eq_true rfl) (fun b3 => ?_)
      refine zs_if_t (pc := 29) (tgt := 34) dX0_feel_29 (by decide) ?_ ?_
      · refine zs_aload_n (pc := 34) 0 dX0_feel_34 rfl rfl ?_
        refine zs_iload_n (pc := 35) 1 dX0_feel_35 rfl rfl ?_
        refine zs_iload_n (pc := 36) 2 dX0_feel_36 rfl rfl ?_
        refine zs_callVv (pc := 37) [.int a1, .int a2] [] (kh_laysFits D W P h0 c M a1 a2) wh_laysFits q1481 zc_X0 cs_rcv0 dX0_feel_37 rfl rfl (Nat.le_of_ble_eq_true rfl) (Nat.le_of_ble_eq_true rfl) (fun M4 => ?_)
        refine zs_bipush (pc := 40) (v := (-2)) dX0_feel_40 (by decide) ?_
        refine zs_istore (pc := 42) (lv' := [(0, .ref (c + 0)), (1, .int a1), (2, .int a2), (3, .int a3), (4, .int (-2))]) [1, 2, 3, 4, 0] dX0_feel_42 (by decide) rfl ?_
        refine zs_ldcw (pc := 44) (v := 1000000) q1395 dX0_feel_44 ?_
        refine zs_istore (pc := 47) (lv' := [(0, .ref (c + 0)), (1, .int a1), (2, .int a2), (3, .int a3), (4, .int (-2)), (5, .int 1000000)]) [1, 2, 3, 4, 5, 0] dX0_feel_47 (by decide) rfl ?_
        refine zs_iconst (pc := 49) (v := 0) dX0_feel_49 rfl ?_
        refine zs_istore (pc := 50) (lv' := [(0, .ref (c + 0)), (1, .int a1), (2, .int a2), (3, .int a3), (4, .int (-2)), (5, .int 1000000), (6, .int 0)]) [1, 2, 3, 4, 5, 6, 0] dX0_feel_50 (by decide) rfl ?_
        refine zs_sub (pc := 52) (lv' := [(0, .ref (c + 0)), (2, .int a2), (3, .int a3), (4, .int (-2)), (5, .int 1000000), (6, .int 0)]) [0, 2, 3, 4, 5, 6] rfl ?_
        refine zs_whileX (pc := 52) (fun (t52 : Int32 × Int32 × Int32) => M4) (fun (t52 : Int32 × Int32 × Int32) => [(0, .ref (c + 0)), (2, .int a2), (3, .int a3), (4, .int t52.1), (5, .int t52.2.1), (6, .int t52.2.2)]) 5000 ((-2), 1000000, 0) (fun X52 hL52 hR52 t52 => ?_)
        unfold gh_feel_L52
        refine zs_iload (pc := 52) 5 dX0_feel_52 rfl ?_
        refine zs_iload_n (pc := 54) 1 dX0_feel_54 rfl rfl ?_
        refine zs_icmp_ge (pc := 55) (tgt := 160) dX0_feel_55 (by decide) ?_ ?_
        · refine zs_aload_n (pc := 58) 0 dX0_feel_58 rfl rfl ?_
          refine cs_geti (pc := 59) 0 0 20 ⟨⟨by decide, by decide⟩, rfl⟩ zc_X0 ⟨rfl, rfl⟩ (by decide) rfl q549 dX0_feel_59 ?_
          refine zs_if_le (pc := 62) (tgt := 160) dX0_feel_62 (by decide) ?_ ?_
          · refine zs_iconst (pc := 65) (v := 0) dX0_feel_65 rfl ?_
            refine zs_istore (pc := 66) (lv' := [(0, .ref (c + 0)), (2, .int a2), (3, .int a3), (4, .int t52.1), (5, .int t52.2.1), (6, .int t52.2.2), (7, .int 0)]) [1, 2, 3, 4, 5, 6, 0] dX0_feel_66 (by decide) rfl ?_
            refine zs_iconst (pc := 68) (v := 0) dX0_feel_68 rfl ?_
            refine zs_istore (pc := 69) (lv' := [(0, .ref (c + 0)), (2, .int a2), (3, .int a3), (4, .int t52.1), (5, .int t52.2.1), (6, .int t52.2.2), (7, .int 0), (8, .int 0)]) [1, 2, 3, 4, 5, 6, 7, 0] dX0_feel_69 (by decide) rfl ?_
            refine zs_whileJ (pc := 71) (fun (t71 : Int32 × Int32) => M4) (fun (t71 : Int32 × Int32) => [(0, .ref (c + 0)), (2, .int a2), (3, .int a3), (4, .int t52.1), (5, .int t52.2.1), (6, .int t52.2.2), (7, .int t71.1), (8, .int t71.2)]) 5000 (0, 0) (fun (r11 : Int32) => M4) 122 (fun (r11 : Int32) => [(0, .ref (c + 0)), (2, .int a2), (3, .int a3), (4, .int t52.1), (5, .int t52.2.1), (6, .int t52.2.2), (7, .int r11)]) [] (fun r11 => ?_) (fun X71 hL71 hE71 t71 => ?_)
            · refine zs_iload (pc := 122) 6 dX0_feel_122 rfl ?_
              refine zs_aload_n (pc := 124) 0 dX0_feel_124 rfl rfl ?_
              refine cs_geti (pc := 125) 0 0 20 ⟨⟨by decide, by decide⟩, rfl⟩ zc_X0 ⟨rfl, rfl⟩ (by decide) rfl q549 dX0_feel_125 ?_
              refine zs_iload (pc := 128) 6 dX0_feel_128 rfl ?_
              refine zs_isub (pc := 130) dX0_feel_130 ?_
              refine zs_mmax (pc := 131) q1336 dX0_feel_131 (Nat.le_of_ble_eq_true rfl) (Nat.le_of_ble_eq_true rfl) ?_
              refine zs_nm (fun x12 => ?_)
              refine zs_istore (pc := 134) (lv' := [(0, .ref (c + 0)), (2, .int a2), (3, .int a3), (4, .int t52.1), (5, .int t52.2.1), (6, .int t52.2.2), (7, .int r11), (8, .int x12)]) [1, 2, 3, 4, 5, 6, 7, 0] dX0_feel_134 (by decide) rfl ?_
              refine zs_iload (pc := 136) 7 dX0_feel_136 rfl ?_
              refine zs_iload (pc := 138) 4 dX0_feel_138 rfl ?_
              refine zs_join (pc := 140) (fun (p13 : Int32 × Int32) => M4) 154 (fun (p13 : Int32 × Int32) => [(0, .ref (c + 0)), (2, .int a2), (3, .int a3), (4, .int p13.1), (5, .int p13.2), (6, .int t52.2.2)]) (fun (p13 : Int32 × Int32) => []) (fun p13 => ?_) (fun h154 => ?_)
              · refine zs_iinc (pc := 154) (lv' := [(0, .ref (c + 0)), (2, .int a2), (3, .int a3), (4, .int p13.1), (5, .int p13.2), (6, .int (t52.2.2 + 1))]) 5 [1, 2, 3, 4, 5, 0] dX0_feel_154 rfl rfl (by decide) rfl ?_
                refine zs_goto (pc := 157) (tgt := 52) dX0_feel_157 (by decide) ?_
                exact hL52 (p13.1, p13.2, (t52.2.2 + 1))
              · refine zs_icmp_lt (pc := 140) (tgt := 146) dX0_feel_140 (by decide) ?_ ?_
                · refine zs_iload (pc := 146) 5 dX0_feel_146 rfl ?_
                  refine zs_istore (pc := 148) (lv' := [(0, .ref (c + 0)), (2, .int a2), (3, .int a3), (4, .int t52.2.2), (5, .int t52.2.1), (6, .int t52.2.2), (7, .int r11), (8, .int x12)]) [1, 2, 3, 0, 4, 5, 6, 7] dX0_feel_148 (by decide) rfl ?_
                  refine zs_iload (pc := 150) 7 dX0_feel_150 rfl ?_
                  refine zs_istore (pc := 152) (lv' := [(0, .ref (c + 0)), (2, .int a2), (3, .int a3), (4, .int t52.2.2), (5, .int x12), (6, .int t52.2.2), (7, .int r11), (8, .int x12)]) [1, 2, 3, 4, 0, 5, 6, 7] dX0_feel_152 (by decide) rfl ?_
                  refine zs_sub (lv' := [(0, .ref (c + 0)), (2, .int a2), (3, .int a3), (4, .int t52.2.2), (5, .int x12), (6, .int t52.2.2)]) [0, 1, 2, 3, 4, 5] rfl ?_
                  exact h154 (t52.2.2, x12)
                · refine zs_goto (pc := 143) (tgt := 154) dX0_feel_143 (by decide) ?_
                  refine zs_sub (lv' := [(0, .ref (c + 0)), (2, .int a2), (3, .int a3), (4, .int t52.1), (5, .int t52.2.1), (6, .int t52.2.2)]) [0, 1, 2, 3, 4, 5] rfl ?_
                  exact h154 (t52.1, t52.2.1)
            · unfold gh_feel_L71
              refine zs_iload (pc := 71) 7 dX0_feel_71 rfl ?_
              refine zs_aload_n (pc := 73) 0 dX0_feel_73 rfl rfl ?_
              refine zs_callVrI (pc := 74) [] [.int t71.2] (kh_houses D W P h0 c M4) wh_houses q1124 zc_X0 cs_rcv0 dX0_feel_74 rfl rfl (Nat.le_of_ble_eq_true rfl) (Nat.le_of_ble_eq_true rfl) (fun x5 => ?_)
              refine zs_icmp_ge (pc := 77) (tgt := 122) dX0_feel_77 (by decide) ?_ ?_
              · refine zs_iload (pc := 80) 6 dX0_feel_80 rfl ?_
                refine zs_aload_n (pc := 82) 0 dX0_feel_82 rfl rfl ?_
                refine cs_getr (pc := 83) 0 0 7 (v := .ref (c + cs_va 0)) ⟨⟨by decide, by decide⟩, rfl⟩ zc_X0 ⟨rfl, rfl⟩ (by decide) rfl rfl q536 dX0_feel_83 ?_
                refine zs_aload_n (pc := 86) 0 dX0_feel_86 rfl rfl ?_
                refine cs_getr (pc := 87) 0 0 3 (v := .ref (zt_ad W.2.1 0)) ⟨⟨by decide, by decide⟩, rfl⟩ zc_X0 ⟨rfl, rfl⟩ (by decide) rfl rfl q532 dX0_feel_87 ?_
                refine zs_iload (pc := 90) 7 dX0_feel_90 rfl ?_
                refine zs_callVrI (pc := 92) [.ref (zt_ad W.2.1 0), .int t71.2] [.int t71.1] (kv_xstrength D W P h0 c M4 0 (by omega) t71.2) wv_strength q1382 zc_X5 (cs_rcvv (by omega)) dX0_feel_92 rfl rfl (Nat.le_of_ble_eq_true rfl) (Nat.le_of_ble_eq_true rfl) (fun x6 => ?_)
                refine zs_iload_n (pc := 95) 2 dX0_feel_95 rfl rfl ?_
                refine zs_join (pc := 96) (fun (p7 : Int32) => M4) 113 (fun (p7 : Int32) => [(0, .ref (c + 0)), (2, .int a2), (3, .int a3), (4, .int t52.1), (5, .int t52.2.1), (6, .int t52.2.2), (8, .int t71.2)]) (fun (p7 : Int32) => [.int p7, .int t71.1]) (fun p7 => ?_) (fun h113 => ?_)
                · refine zs_iadd (pc := 113) dX0_feel_113 ?_
                  refine zs_nm (fun x8 => ?_)
                  refine zs_istore (pc := 114) (lv' := [(0, .ref (c + 0)), (2, .int a2), (3, .int a3), (4, .int t52.1), (5, .int t52.2.1), (6, .int t52.2.2), (7, .int x8), (8, .int t71.2)]) [1, 2, 3, 4, 5, 6, 0, 7] dX0_feel_114 (by decide) rfl ?_
                  refine zs_iinc (pc := 116) (lv' := [(0, .ref (c + 0)), (2, .int a2), (3, .int a3), (4, .int t52.1), (5, .int t52.2.1), (6, .int t52.2.2), (7, .int x8), (8, .int (t71.2 + 1))]) 7 [1, 2, 3, 4, 5, 6, 7, 0] dX0_feel_116 rfl rfl (by decide) rfl ?_
                  refine zs_goto (pc := 119) (tgt := 71) dX0_feel_119 (by decide) ?_
                  exact hL71 (x8, (t71.2 + 1))
                · refine zs_icmp_lt (pc := 96) (tgt := 112) dX0_feel_96 (by decide) ?_ ?_
                  · refine zs_iconst (pc := 112) (v := 0) dX0_feel_112 rfl ?_
                    refine zs_sub (lv' := [(0, .ref (c + 0)), (2, .int a2), (3, .int a3), (4, .int t52.1), (5, .int t52.2.1), (6, .int t52.2.2), (8, .int t71.2)]) [0, 1, 2, 3, 4, 5, 7] rfl ?_
                    exact h113 0
                  · refine zs_aload_n (pc := 99) 0 dX0_feel_99 rfl rfl ?_
                    refine cs_getr (pc := 100) 0 0 26 (v := .ref (c + 154)) ⟨⟨by decide, by decide⟩, rfl⟩ zc_X0 ⟨rfl, rfl⟩ (by decide) rfl rfl q555 dX0_feel_100 ?_
                    refine zs_iload (pc := 103) 5 dX0_feel_103 rfl ?_
                    refine cs_often (pc := 105) dX0_feel_105 (fun k9 hk9 => ?_)
                    refine zs_iload (pc := 106) 7 dX0_feel_106 rfl ?_
                    refine cs_iald (pc := 108) (155 + k9) 62 k9 (cs_poften hk9) dX0_feel_108 (fun x10 => ?_)
                    refine zs_goto (pc := 109) (tgt := 113) dX0_feel_109 (by decide) ?_
                    refine zs_sub (lv' := [(0, .ref (c + 0)), (2, .int a2), (3, .int a3), (4, .int t52.1), (5, .int t52.2.1), (6, .int t52.2.2), (8, .int t71.2)]) [0, 1, 2, 3, 4, 5, 7] rfl ?_
                    exact h113 x10
              · refine zs_sub (lv' := [(0, .ref (c + 0)), (2, .int a2), (3, .int a3), (4, .int t52.1), (5, .int t52.2.1), (6, .int t52.2.2), (7, .int t71.1)]) [0, 1, 2, 3, 4, 5, 6] rfl ?_
                exact hE71 t71.1
          · refine zs_iload (pc := 160) 3 dX0_feel_160 rfl ?_
            exact zs_iret (pc := 162) dX0_feel_162 ((hR52 _).trans rfl) rfl rfl
        · refine zs_iload (pc := 160) 3 dX0_feel_160 rfl ?_
          exact zs_iret (pc := 162) dX0_feel_162 ((hR52 _).trans rfl) rfl rfl
      · refine zs_iconst (pc := 32) (v := (-1)) dX0_feel_32 rfl ?_
        exact zs_iret (pc := 33) dX0_feel_33 rfl rfl rfl
    · refine zs_iconst (pc := 32) (v := (-1)) dX0_feel_32 rfl ?_
      exact zs_iret (pc := 33) dX0_feel_33 rfl rfl rfl
  · refine zs_iconst (pc := 32) (v := (-1)) dX0_feel_32 rfl ?_
    exact zs_iret (pc := 33) dX0_feel_33 rfl rfl rfl
theorem wh_hold : zs_mV RX0 yX0_hold cX0_hold 2 (some .boolean) 1 := ⟨q1498, q1499, q134, q1500, by decide, by decide +kernel⟩
def gh_hold (T : zt_T) (M : cs_S) (a1 : Int32) : Option (Bool × cs_S) :=
(gh_isIn a1 0 2).bind fun b1 =>
if b1 = true then ((zs_ix 3 a1).bind fun k2 =>
(gv_becomes T M (42 + k2) 0).bind fun M3 =>
(zs_ast 3 a1 (cs_sA M3 0 13 a1 (vp_nar .boolean 1))).bind fun M4 =>
some (true, M4))
else (some (false, M))
set_option maxHeartbeats 4000000 in
theorem kh_hold (D : zs_D) (W : cs_W) (P : Nat → Bool) (h0 : zs_AH) (c : Nat) (M : cs_S) (a1 : Int32) : zs_Con D (cs_R W P h0 c) cs_bd zs_eB yX0_hold cX0_hold 2 (some .boolean) 3 [.ref (c + 0), .int a1] M (gh_hold W.2.1 M a1) := by
  unfold gh_hold
  refine zs_con (own := RX0) (nm := "hold") pl_X0 rfl rfl (Nat.le_of_ble_eq_true rfl) ?_
  refine zs_lv (lv' := [(0, .ref (c + 0)), (1, .int a1)]) rfl ?_
  refine zs_iload_n (pc := 0) 1 dX0_hold_0 rfl rfl ?_
  refine zs_iconst (pc := 1) (v := 0) dX0_hold_1 rfl ?_
  refine zs_iconst (pc := 2) (v := 2) dX0_hold_2 rfl ?_
  refine zs_callSrB (pc := 3) [.int a1, .int 0, .int 2] [] (kh_isIn D _ _ M a1 0 2) wh_isIn q1129 dX0_hold_3 rfl rfl (Nat.le_of_ble_eq_true rfl) (Nat.le_of_ble_eq_true rfl) (fun b1 => ?_)
  refine zs_if_t (pc := 6) (tgt := 11) dX0_hold_6 (by decide) ?_ ?_
  · refine zs_aload_n (pc := 11) 0 dX0_hold_11 rfl rfl ?_
    refine cs_getr (pc := 12) 0 0 10 (v := .ref (c + 41)) ⟨⟨by decide, by decide⟩, rfl⟩ zc_X0 ⟨rfl, rfl⟩ (by decide) rfl rfl q539 dX0_hold_12 ?_
    refine zs_iload_n (pc := 15) 1 dX0_hold_15 rfl rfl ?_
    refine cs_slots (pc := 16) dX0_hold_16 (fun k2 hk2 => ?_)
    refine zs_aload_n (pc := 17) 0 dX0_hold_17 rfl rfl ?_
    refine cs_getr (pc := 18) 0 0 7 (v := .ref (c + cs_va 0)) ⟨⟨by decide, by decide⟩, rfl⟩ zc_X0 ⟨rfl, rfl⟩ (by decide) rfl rfl q536 dX0_hold_18 ?_
    refine zs_callVv (pc := 21) [.ref (c + cs_va 0)] [] (kv_xbecomes D W P h0 c M (42 + k2) (by omega) 0 (by omega)) wv_becomes q1216 zc_X5 (cs_rcvv (by omega)) dX0_hold_21 rfl rfl (Nat.le_of_ble_eq_true rfl) (Nat.le_of_ble_eq_true rfl) (fun M3 => ?_)
    refine zs_aload_n (pc := 24) 0 dX0_hold_24 rfl rfl ?_
    refine cs_getr (pc := 25) 0 0 13 (v := .ref (c + 74)) ⟨⟨by decide, by decide⟩, rfl⟩ zc_X0 ⟨rfl, rfl⟩ (by decide) rfl rfl q542 dX0_hold_25 ?_
    refine zs_iload_n (pc := 28) 1 dX0_hold_28 rfl rfl ?_
    refine zs_iconst (pc := 29) (v := 1) dX0_hold_29 rfl ?_
    refine cs_zast (pc := 30) 74 0 13 ⟨⟨by decide, by decide⟩, rfl, rfl, rfl⟩ dX0_hold_30 (fun M4 => ?_)
    refine zs_iconst (pc := 31) (v := 1) dX0_hold_31 rfl ?_
    exact zs_iret (pc := 32) dX0_hold_32 rfl rfl rfl
  · refine zs_iconst (pc := 9) (v := 0) dX0_hold_9 rfl ?_
    exact zs_iret (pc := 10) dX0_hold_10 rfl rfl rfl
theorem wh_restore : zs_mV RX0 yX0_restore cX0_restore 2 (some .boolean) 1 := ⟨q1502, q1503, q134, q1504, by decide, by decide +kernel⟩
def gh_restore (T : zt_T) (M : cs_S) (a1 : Int32) : Option (Bool × cs_S) :=
(gh_isIn a1 0 2).bind fun b1 =>
if b1 = true then ((zs_ald 3 (M.2 0 13) a1).bind fun x2 =>
if x2 = 0 then (some (false, M))
else ((zs_ix 3 a1).bind fun k3 =>
(gv_becomes T M 0 (42 + k3)).bind fun M4 =>
(some (cs_sF M4 0 5 0)).bind fun M5 =>
some (true, M5)))
else (some (false, M))
set_option maxHeartbeats 4000000 in
theorem kh_restore (D : zs_D) (W : cs_W) (P : Nat → Bool) (h0 : zs_AH) (c : Nat) (M : cs_S) (a1 : Int32) : zs_Con D (cs_R W P h0 c) cs_bd zs_eB yX0_restore cX0_restore 2 (some .boolean) 3 [.ref (c + 0), .int a1] M (gh_restore W.2.1 M a1) := by
  unfold gh_restore
  refine zs_con (own := RX0) (nm := "restore") pl_X0 rfl rfl (Nat.le_of_ble_eq_true rfl) ?_
  refine zs_lv (lv' := [(0, .ref (c + 0)), (1, .int a1)]) rfl ?_
  refine zs_iload_n (pc := 0) 1 dX0_restore_0 rfl rfl ?_
  refine zs_iconst (pc := 1) (v := 0) dX0_restore_1 rfl ?_
  refine zs_iconst (pc := 2) (v := 2) dX0_restore_2 rfl ?_
  refine zs_callSrB (pc := 3) [.int a1, .int 0, .int 2] [] (kh_isIn D _ _ M a1 0 2) wh_isIn q1129 dX0_restore_3 rfl rfl (Nat.le_of_ble_eq_true rfl) (Nat.le_of_ble_eq_true rfl) (fun b1 => ?_)
  refine zs_if_f (pc := 6) (tgt := 18) dX0_restore_6 (by decide) ?_ ?_
  · refine zs_aload_n (pc := 9) 0 dX0_restore_9 rfl rfl ?_
    refine cs_getr (pc := 10) 0 0 13 (v := .ref (c + 74)) ⟨⟨by decide, by decide⟩, rfl⟩ zc_X0 ⟨rfl, rfl⟩ (by decide) rfl rfl q542 dX0_restore_10 ?_
    refine zs_iload_n (pc := 13) 1 dX0_restore_13 rfl rfl ?_
    refine cs_zald (pc := 14) 74 0 13 ⟨⟨by decide, by decide⟩, rfl, rfl, rfl⟩ dX0_restore_14 (fun x2 => ?_)
    refine zs_if_ne (pc := 15) (tgt := 20) dX0_restore_15 (by decide) ?_ ?_
    · refine zs_iconst (pc := 18) (v := 0) dX0_restore_18 rfl ?_
      exact zs_iret (pc := 19) dX0_restore_19 rfl rfl rfl
    · refine zs_aload_n (pc := 20) 0 dX0_restore_20 rfl rfl ?_
      refine cs_getr (pc := 21) 0 0 7 (v := .ref (c + cs_va 0)) ⟨⟨by decide, by decide⟩, rfl⟩ zc_X0 ⟨rfl, rfl⟩ (by decide) rfl rfl q536 dX0_restore_21 ?_
      refine zs_aload_n (pc := 24) 0 dX0_restore_24 rfl rfl ?_
      refine cs_getr (pc := 25) 0 0 10 (v := .ref (c + 41)) ⟨⟨by decide, by decide⟩, rfl⟩ zc_X0 ⟨rfl, rfl⟩ (by decide) rfl rfl q539 dX0_restore_25 ?_
      refine zs_iload_n (pc := 28) 1 dX0_restore_28 rfl rfl ?_
      refine cs_slots (pc := 29) dX0_restore_29 (fun k3 hk3 => ?_)
      refine zs_callVv (pc := 30) [.ref (c + cs_va (42 + k3))] [] (kv_xbecomes D W P h0 c M 0 (by omega) (42 + k3) (by omega)) wv_becomes q1216 zc_X5 (cs_rcvv (by omega)) dX0_restore_30 rfl rfl (Nat.le_of_ble_eq_true rfl) (Nat.le_of_ble_eq_true rfl) (fun M4 => ?_)
      refine zs_aload_n (pc := 33) 0 dX0_restore_33 rfl rfl ?_
      refine zs_iconst (pc := 34) (v := 0) dX0_restore_34 rfl ?_
      refine cs_puti (pc := 35) 0 0 5 ⟨⟨by decide, by decide⟩, rfl⟩ zc_X0 ⟨rfl, rfl⟩ (by decide) rfl q534 rfl rfl rfl dX0_restore_35 (fun M5 => ?_)
      refine zs_iconst (pc := 38) (v := 1) dX0_restore_38 rfl ?_
      exact zs_iret (pc := 39) dX0_restore_39 rfl rfl rfl
  · refine zs_iconst (pc := 18) (v := 0) dX0_restore_18 rfl ?_
    exact zs_iret (pc := 19) dX0_restore_19 rfl rfl rfl
theorem wh_count : zs_mV RX0 yX0_count cX0_count 4 (some .int) 1 := ⟨q1506, q1507, q134, q1508, by decide, by decide +kernel⟩
def gh_count_L131 (T : zt_T) (M : cs_S) : (Int32 × Int32) → Option ((Int32 × Int32) ⊕ (Int32)) := fun t131 =>
(gh_houses T M).bind fun x3 =>
if t131.2 < x3 then ((zs_ald 6 (M.2 (10 + 0) 0) t131.2).bind fun x4 =>
(some (t131.1 + x4)).bind fun x5 =>
some (Sum.inl (x5, (t131.2 + 1))))
else (some (Sum.inr t131.1))
def gh_count_L161 (T : zt_T) (M : cs_S) : (Int32 × Int32) → Option ((Int32 × Int32) ⊕ (Int32)) := fun t161 =>
(gh_houses T M).bind fun x6 =>
if t161.2 < x6 then ((gv_has T M 0 t161.2).bind fun b7 =>
(if b7 = true then (some (zs_shl 1 t161.2))
else (some 0)).bind fun (p8 : Int32) =>
(some (t161.1 ||| p8)).bind fun x9 =>
some (Sum.inl (x9, (t161.2 + 1))))
else (some (Sum.inr t161.1))
def gh_count_L284 (T : zt_T) (M : cs_S) : (Int32 × Int32) → Option ((Int32 × Int32) ⊕ (Int32)) := fun t284 =>
(gh_houses T M).bind fun x16 =>
if t284.2 < x16 then ((zs_ald 6 (M.2 (10 + 0) 3) t284.2).bind fun x17 =>
(some (t284.1 + x17)).bind fun x18 =>
some (Sum.inl (x18, (t284.2 + 1))))
else (some (Sum.inr t284.1))
def gh_count_L314 (T : zt_T) (M : cs_S) : (Int32 × Int32) → Option ((Int32 × Int32) ⊕ (Int32)) := fun t314 =>
(gh_houses T M).bind fun x19 =>
if t314.2 < x19 then ((zs_ald 6 (M.2 (10 + 0) 0) t314.2).bind fun x20 =>
(if x20 = 0 then (some (zs_shl 1 t314.2))
else (some 0)).bind fun (p21 : Int32) =>
(some (t314.1 ||| p21)).bind fun x22 =>
some (Sum.inl (x22, (t314.2 + 1))))
else (some (Sum.inr t314.1))
def gh_count_L354 (T : zt_T) (M : cs_S) : (Int32 × Int32) → Option ((Int32 × Int32) ⊕ (Int32)) := fun t354 =>
(gh_houses T M).bind fun x23 =>
if t354.2 < x23 then ((zs_ald 6 (M.2 (10 + 0) 2) t354.2).bind fun x24 =>
(some (t354.1 + x24)).bind fun x25 =>
some (Sum.inl (x25, (t354.2 + 1))))
else (some (Sum.inr t354.1))
def gh_count (T : zt_T) (M : cs_S) (a1 : Int32) : Option (Int32) :=
if a1 = 0 then ((gh_houses T M).bind fun x1 =>
some x1)
else if a1 = 1 then (some (zt_f T 4))
else if a1 = 2 then (some (M.1 (10 + 0) 6))
else if a1 = 3 then (some (M.1 (10 + 0) 5))
else if a1 = 4 then ((gv_ropeLong T M 0).bind fun x2 =>
some x2)
else if a1 = 5 then (some (M.1 (10 + 0) 7))
else if a1 = 6 then ((zs_loop 5000 (gh_count_L131 T M) (0, 0)).bind fun z => some z)
else if a1 = 7 then ((zs_loop 5000 (gh_count_L161 T M) (0, 0)).bind fun z => some z)
else if a1 = 8 then (some (M.1 2 2))
else if a1 = 9 then (some (M.1 0 5))
else if a1 = 10 then (some (M.1 0 19))
else if a1 = 11 then ((zs_ald 3 (M.2 0 13) 0).bind fun x10 =>
(if x10 = 0 then (some 0)
else (some 1)).bind fun (p11 : Int32) =>
(zs_ald 3 (M.2 0 13) 1).bind fun x12 =>
(if x12 = 0 then (some 0)
else (some 1)).bind fun (p13 : Int32) =>
(zs_ald 3 (M.2 0 13) 2).bind fun x14 =>
if x14 = 0 then (some ((p11 + p13) + 0))
else (some ((p11 + p13) + 1)))
else if a1 = 12 then ((gh_isLong T M).bind fun b15 =>
if b15 = true then (some 1)
else (some 0))
else if a1 = 13 then (some (zt_f T 5))
else if a1 = 14 then ((zs_loop 5000 (gh_count_L284 T M) (0, 0)).bind fun z => some z)
else if a1 = 15 then ((zs_loop 5000 (gh_count_L314 T M) (0, 0)).bind fun z => some z)
else if a1 = 16 then ((zs_loop 5000 (gh_count_L354 T M) (0, 0)).bind fun z => some z)
else (some (-1))
set_option maxHeartbeats 4000000 in
theorem kh_count (D : zs_D) (W : cs_W) (P : Nat → Bool) (h0 : zs_AH) (c : Nat) (M : cs_S) (a1 : Int32) : zs_Con D (cs_R W P h0 c) cs_bd zs_eI yX0_count cX0_count 4 (some .int) 2 [.ref (c + 0), .int a1] M ((gh_count W.2.1 M a1).map fun x => (x, M)) := by
  unfold gh_count
  refine zs_conR (own := RX0) (nm := "count") pl_X0 rfl rfl (Nat.le_of_ble_eq_true rfl) ?_
  refine zs_lv (lv' := [(0, .ref (c + 0)), (1, .int a1)]) rfl ?_
  refine zs_iconst (pc := 0) (v := 0) dX0_count_0 rfl ?_
  refine zs_istore_n (pc := 1) (lv' := [(0, .ref (c + 0)), (1, .int a1), (2, .int 0)]) [1, 2, 0] dX0_count_1 rfl (by decide) rfl ?_
  refine zs_iload_n (pc := 2) 1 dX0_count_2 rfl rfl ?_
  refine zs_tsw (pc := 3) [(0, 84), (1, 89), (2, 97), (3, 105), (4, 113), (5, 121), (6, 129), (7, 159), (8, 198), (9, 206), (10, 211), (11, 216), (12, 261), (13, 274), (14, 282), (15, 312), (16, 352)] 382 dX0_count_3 (by decide +kernel) ?_
  refine zs_case ?_ ?_
  · refine zs_aload_n (pc := 84) 0 dX0_count_84 rfl rfl ?_
    refine zs_callVrI (pc := 85) [] [] (kh_houses D W P h0 c M) wh_houses q1124 zc_X0 cs_rcv0 dX0_count_85 rfl rfl (Nat.le_of_ble_eq_true rfl) (Nat.le_of_ble_eq_true rfl) (fun x1 => ?_)
    exact zs_iret (pc := 88) dX0_count_88 rfl rfl rfl
  refine zs_case ?_ ?_
  · refine zs_aload_n (pc := 89) 0 dX0_count_89 rfl rfl ?_
    refine cs_getr (pc := 90) 0 0 3 (v := .ref (zt_ad W.2.1 0)) ⟨⟨by decide, by decide⟩, rfl⟩ zc_X0 ⟨rfl, rfl⟩ (by decide) rfl rfl q532 dX0_count_90 ?_
    refine ct_num (pc := 93) 4 (by decide) q390 dX0_count_93 ?_
    exact zs_iret (pc := 96) dX0_count_96 rfl rfl rfl
  refine zs_case ?_ ?_
  · refine zs_aload_n (pc := 97) 0 dX0_count_97 rfl rfl ?_
    refine cs_getr (pc := 98) 0 0 7 (v := .ref (c + cs_va 0)) ⟨⟨by decide, by decide⟩, rfl⟩ zc_X0 ⟨rfl, rfl⟩ (by decide) rfl rfl q536 dX0_count_98 ?_
    refine cs_geti (pc := 101) (cs_va 0) (10 + 0) 6 (cs_pv (by omega)) zc_X5 (cs_vcl (by omega)) (by decide) (cs_vsc (by omega) 6 true (by decide)) q453 dX0_count_101 ?_
    exact zs_iret (pc := 104) dX0_count_104 rfl rfl rfl
  refine zs_case ?_ ?_
  · refine zs_aload_n (pc := 105) 0 dX0_count_105 rfl rfl ?_
    refine cs_getr (pc := 106) 0 0 7 (v := .ref (c + cs_va 0)) ⟨⟨by decide, by decide⟩, rfl⟩ zc_X0 ⟨rfl, rfl⟩ (by decide) rfl rfl q536 dX0_count_106 ?_
    refine cs_geti (pc := 109) (cs_va 0) (10 + 0) 5 (cs_pv (by omega)) zc_X5 (cs_vcl (by omega)) (by decide) (cs_vsc (by omega) 5 true (by decide)) q450 dX0_count_109 ?_
    exact zs_iret (pc := 112) dX0_count_112 rfl rfl rfl
  refine zs_case ?_ ?_
  · refine zs_aload_n (pc := 113) 0 dX0_count_113 rfl rfl ?_
    refine cs_getr (pc := 114) 0 0 7 (v := .ref (c + cs_va 0)) ⟨⟨by decide, by decide⟩, rfl⟩ zc_X0 ⟨rfl, rfl⟩ (by decide) rfl rfl q536 dX0_count_114 ?_
    refine zs_callVrI (pc := 117) [] [] (kv_xropeLong D W P h0 c M 0 (by omega)) wv_ropeLong q1229 zc_X5 (cs_rcvv (by omega)) dX0_count_117 rfl rfl (Nat.le_of_ble_eq_true rfl) (Nat.le_of_ble_eq_true rfl) (fun x2 => ?_)
    exact zs_iret (pc := 120) dX0_count_120 rfl rfl rfl
  refine zs_case ?_ ?_
  · refine zs_aload_n (pc := 121) 0 dX0_count_121 rfl rfl ?_
    refine cs_getr (pc := 122) 0 0 7 (v := .ref (c + cs_va 0)) ⟨⟨by decide, by decide⟩, rfl⟩ zc_X0 ⟨rfl, rfl⟩ (by decide) rfl rfl q536 dX0_count_122 ?_
    refine cs_geti (pc := 125) (cs_va 0) (10 + 0) 7 (cs_pv (by omega)) zc_X5 (cs_vcl (by omega)) (by decide) (cs_vsc (by omega) 7 true (by decide)) q455 dX0_count_125 ?_
    exact zs_iret (pc := 128) dX0_count_128 rfl rfl rfl
  refine zs_case ?_ ?_
  · refine zs_iconst (pc := 129) (v := 0) dX0_count_129 rfl ?_
    refine zs_istore_n (pc := 130) (lv' := [(0, .ref (c + 0)), (1, .int a1), (2, .int 0), (3, .int 0)]) [1, 2, 3, 0] dX0_count_130 rfl (by decide) rfl ?_
    refine zs_sub (pc := 131) (lv' := [(0, .ref (c + 0)), (2, .int 0), (3, .int 0)]) [0, 2, 3] rfl ?_
    refine zs_whileX (pc := 131) (fun (t131 : Int32 × Int32) => M) (fun (t131 : Int32 × Int32) => [(0, .ref (c + 0)), (2, .int t131.1), (3, .int t131.2)]) 5000 (0, 0) (fun X131 hL131 hR131 t131 => ?_)
    unfold gh_count_L131
    refine zs_iload_n (pc := 131) 2 dX0_count_131 rfl rfl ?_
    refine zs_aload_n (pc := 132) 0 dX0_count_132 rfl rfl ?_
    refine zs_callVrI (pc := 133) [] [.int t131.2] (kh_houses D W P h0 c M) wh_houses q1124 zc_X0 cs_rcv0 dX0_count_133 rfl rfl (Nat.le_of_ble_eq_true rfl) (Nat.le_of_ble_eq_true rfl) (fun x3 => ?_)
    refine zs_icmp_ge (pc := 136) (tgt := 157) dX0_count_136 (by decide) ?_ ?_
    · refine zs_iload_n (pc := 139) 1 dX0_count_139 rfl rfl ?_
      refine zs_aload_n (pc := 140) 0 dX0_count_140 rfl rfl ?_
      refine cs_getr (pc := 141) 0 0 7 (v := .ref (c + cs_va 0)) ⟨⟨by decide, by decide⟩, rfl⟩ zc_X0 ⟨rfl, rfl⟩ (by decide) rfl rfl q536 dX0_count_141 ?_
      refine cs_getr (pc := 144) (cs_va 0) (10 + 0) 0 (v := .ref (c + (cs_va 0 + 1))) (cs_pv (by omega)) zc_X5 (cs_vcl (by omega)) (by decide) (cs_vsc (by omega) 0 false (by decide)) (cs_vcv (by omega) 0 1 (by decide)) q440 dX0_count_144 ?_
      refine zs_iload_n (pc := 147) 2 dX0_count_147 rfl rfl ?_
      refine cs_iald (pc := 148) (cs_va 0 + 1) (10 + 0) 0 (cs_pva (by omega) 1 (by decide) 6 rfl) dX0_count_148 (fun x4 => ?_)
      refine zs_iadd (pc := 149) dX0_count_149 ?_
      refine zs_nm (fun x5 => ?_)
      refine zs_istore_n (pc := 150) (lv' := [(0, .ref (c + 0)), (2, .int x5), (3, .int t131.2)]) [1, 0, 2] dX0_count_150 rfl (by decide) rfl ?_
      refine zs_iinc (pc := 151) (lv' := [(0, .ref (c + 0)), (2, .int x5), (3, .int (t131.2 + 1))]) 2 [1, 2, 0] dX0_count_151 rfl rfl (by decide) rfl ?_
      refine zs_goto (pc := 154) (tgt := 131) dX0_count_154 (by decide) ?_
      exact hL131 (x5, (t131.2 + 1))
    · refine zs_iload_n (pc := 157) 1 dX0_count_157 rfl rfl ?_
      exact zs_iret (pc := 158) dX0_count_158 ((hR131 _).trans rfl) rfl rfl
  refine zs_case ?_ ?_
  · refine zs_iconst (pc := 159) (v := 0) dX0_count_159 rfl ?_
    refine zs_istore_n (pc := 160) (lv' := [(0, .ref (c + 0)), (1, .int a1), (2, .int 0), (3, .int 0)]) [1, 2, 3, 0] dX0_count_160 rfl (by decide) rfl ?_
    refine zs_sub (pc := 161) (lv' := [(0, .ref (c + 0)), (2, .int 0), (3, .int 0)]) [0, 2, 3] rfl ?_
    refine zs_whileX (pc := 161) (fun (t161 : Int32 × Int32) => M) (fun (t161 : Int32 × Int32) => [(0, .ref (c + 0)), (2, .int t161.1), (3, .int t161.2)]) 5000 (0, 0) (fun X161 hL161 hR161 t161 => ?_)
    unfold gh_count_L161
    refine zs_iload_n (pc := 161) 2 dX0_count_161 rfl rfl ?_
    refine zs_aload_n (pc := 162) 0 dX0_count_162 rfl rfl ?_
    refine zs_callVrI (pc := 163) [] [.int t161.2] (kh_houses D W P h0 c M) wh_houses q1124 zc_X0 cs_rcv0 dX0_count_163 rfl rfl (Nat.le_of_ble_eq_true rfl) (Nat.le_of_ble_eq_true rfl) (fun x6 => ?_)
    refine zs_icmp_ge (pc := 166) (tgt := 196) dX0_count_166 (by decide) ?_ ?_
    · refine zs_iload_n (pc := 169) 1 dX0_count_169 rfl rfl ?_
      refine zs_aload_n (pc := 170) 0 dX0_count_170 rfl rfl ?_
      refine cs_getr (pc := 171) 0 0 7 (v := .ref (c + cs_va 0)) ⟨⟨by decide, by decide⟩, rfl⟩ zc_X0 ⟨rfl, rfl⟩ (by decide) rfl rfl q536 dX0_count_171 ?_
      refine zs_iload_n (pc := 174) 2 dX0_count_174 rfl rfl ?_
      refine zs_callVrB (pc := 175) [.int t161.2] [.int t161.1] (kv_xhas D W P h0 c M 0 (by omega) t161.2) wv_has q1211 zc_X5 (cs_rcvv (by omega)) dX0_count_175 rfl rfl (Nat.le_of_ble_eq_true rfl) (Nat.le_of_ble_eq_true rfl) (fun b7 => ?_)
      refine zs_join (pc := 178) (fun (p8 : Int32) => M) 188 (fun (p8 : Int32) => [(0, .ref (c + 0)), (3, .int t161.2)]) (fun (p8 : Int32) => [.int p8, .int t161.1]) (fun p8 => ?_) (fun h188 => ?_)
      · refine zs_ior (pc := 188) dX0_count_188 ?_
        refine zs_nm (fun x9 => ?_)
        refine zs_istore_n (pc := 189) (lv' := [(0, .ref (c + 0)), (2, .int x9), (3, .int t161.2)]) [1, 0, 2] dX0_count_189 rfl (by decide) rfl ?_
        refine zs_iinc (pc := 190) (lv' := [(0, .ref (c + 0)), (2, .int x9), (3, .int (t161.2 + 1))]) 2 [1, 2, 0] dX0_count_190 rfl rfl (by decide) rfl ?_
        refine zs_goto (pc := 193) (tgt := 161) dX0_count_193 (by decide) ?_
        exact hL161 (x9, (t161.2 + 1))
      · refine zs_if_f (pc := 178) (tgt := 187) dX0_count_178 (by decide) ?_ ?_
        · refine zs_iconst (pc := 181) (v := 1) dX0_count_181 rfl ?_
          refine zs_iload_n (pc := 182) 2 dX0_count_182 rfl rfl ?_
          refine zs_ishl (pc := 183) dX0_count_183 ?_
          refine zs_goto (pc := 184) (tgt := 188) dX0_count_184 (by decide) ?_
          refine zs_sub (lv' := [(0, .ref (c + 0)), (3, .int t161.2)]) [0, 2] rfl ?_
          exact h188 (zs_shl 1 t161.2)
        · refine zs_iconst (pc := 187) (v := 0) dX0_count_187 rfl ?_
          refine zs_sub (lv' := [(0, .ref (c + 0)), (3, .int t161.2)]) [0, 2] rfl ?_
          exact h188 0
    · refine zs_iload_n (pc := 196) 1 dX0_count_196 rfl rfl ?_
      exact zs_iret (pc := 197) dX0_count_197 ((hR161 _).trans rfl) rfl rfl
  refine zs_case ?_ ?_
  · refine zs_aload_n (pc := 198) 0 dX0_count_198 rfl rfl ?_
    refine cs_getr (pc := 199) 0 0 1 (v := .ref (c + 2)) ⟨⟨by decide, by decide⟩, rfl⟩ zc_X0 ⟨rfl, rfl⟩ (by decide) rfl rfl q530 dX0_count_199 ?_
    refine cs_geti (pc := 202) 2 2 2 ⟨⟨by decide, by decide⟩, rfl⟩ zc_X2 ⟨rfl, rfl⟩ (by decide) rfl q285 dX0_count_202 ?_
    exact zs_iret (pc := 205) dX0_count_205 rfl rfl rfl
  refine zs_case ?_ ?_
  · refine zs_aload_n (pc := 206) 0 dX0_count_206 rfl rfl ?_
    refine cs_geti (pc := 207) 0 0 5 ⟨⟨by decide, by decide⟩, rfl⟩ zc_X0 ⟨rfl, rfl⟩ (by decide) rfl q534 dX0_count_207 ?_
    exact zs_iret (pc := 210) dX0_count_210 rfl rfl rfl
  refine zs_case ?_ ?_
  · refine zs_aload_n (pc := 211) 0 dX0_count_211 rfl rfl ?_
    refine cs_geti (pc := 212) 0 0 19 ⟨⟨by decide, by decide⟩, rfl⟩ zc_X0 ⟨rfl, rfl⟩ (by decide) rfl q548 dX0_count_212 ?_
    exact zs_iret (pc := 215) dX0_count_215 rfl rfl rfl
  refine zs_case ?_ ?_
  · refine zs_aload_n (pc := 216) 0 dX0_count_216 rfl rfl ?_
    refine cs_getr (pc := 217) 0 0 13 (v := .ref (c + 74)) ⟨⟨by decide, by decide⟩, rfl⟩ zc_X0 ⟨rfl, rfl⟩ (by decide) rfl rfl q542 dX0_count_217 ?_
    refine zs_iconst (pc := 220) (v := 0) dX0_count_220 rfl ?_
    refine cs_zald (pc := 221) 74 0 13 ⟨⟨by decide, by decide⟩, rfl, rfl, rfl⟩ dX0_count_221 (fun x10 => ?_)
    refine zs_join (pc := 222) (fun (p11 : Int32) => M) 230 (fun (p11 : Int32) => [(0, .ref (c + 0))]) (fun (p11 : Int32) => [.int p11]) (fun p11 => ?_) (fun h230 => ?_)
    · refine zs_aload_n (pc := 230) 0 dX0_count_230 rfl rfl ?_
      refine cs_getr (pc := 231) 0 0 13 (v := .ref (c + 74)) ⟨⟨by decide, by decide⟩, rfl⟩ zc_X0 ⟨rfl, rfl⟩ (by decide) rfl rfl q542 dX0_count_231 ?_
      refine zs_iconst (pc := 234) (v := 1) dX0_count_234 rfl ?_
      refine cs_zald (pc := 235) 74 0 13 ⟨⟨by decide, by decide⟩, rfl, rfl, rfl⟩ dX0_count_235 (fun x12 => ?_)
      refine zs_join (pc := 236) (fun (p13 : Int32) => M) 244 (fun (p13 : Int32) => [(0, .ref (c + 0))]) (fun (p13 : Int32) => [.int p13, .int p11]) (fun p13 => ?_) (fun h244 => ?_)
      · refine zs_iadd (pc := 244) dX0_count_244 ?_
        refine zs_aload_n (pc := 245) 0 dX0_count_245 rfl rfl ?_
        refine cs_getr (pc := 246) 0 0 13 (v := .ref (c + 74)) ⟨⟨by decide, by decide⟩, rfl⟩ zc_X0 ⟨rfl, rfl⟩ (by decide) rfl rfl q542 dX0_count_246 ?_
        refine zs_iconst (pc := 249) (v := 2) dX0_count_249 rfl ?_
        refine cs_zald (pc := 250) 74 0 13 ⟨⟨by decide, by decide⟩, rfl, rfl, rfl⟩ dX0_count_250 (fun x14 => ?_)
        refine zs_if_eq (pc := 251) (tgt := 258) dX0_count_251 (by decide) ?_ ?_
        · refine zs_iconst (pc := 258) (v := 0) dX0_count_258 rfl ?_
          refine zs_iadd (pc := 259) dX0_count_259 ?_
          exact zs_iret (pc := 260) dX0_count_260 rfl rfl rfl
        · refine zs_iconst (pc := 254) (v := 1) dX0_count_254 rfl ?_
          refine zs_goto (pc := 255) (tgt := 259) dX0_count_255 (by decide) ?_
          refine zs_iadd (pc := 259) dX0_count_259 ?_
          exact zs_iret (pc := 260) dX0_count_260 rfl rfl rfl
      · refine zs_if_eq (pc := 236) (tgt := 243) dX0_count_236 (by decide) ?_ ?_
        · refine zs_iconst (pc := 243) (v := 0) dX0_count_243 rfl ?_
          exact h244 0
        · refine zs_iconst (pc := 239) (v := 1) dX0_count_239 rfl ?_
          refine zs_goto (pc := 240) (tgt := 244) dX0_count_240 (by decide) ?_
          exact h244 1
    · refine zs_if_eq (pc := 222) (tgt := 229) dX0_count_222 (by decide) ?_ ?_
      · refine zs_iconst (pc := 229) (v := 0) dX0_count_229 rfl ?_
        refine zs_sub (lv' := [(0, .ref (c + 0))]) [0] rfl ?_
        exact h230 0
      · refine zs_iconst (pc := 225) (v := 1) dX0_count_225 rfl ?_
        refine zs_goto (pc := 226) (tgt := 230) dX0_count_226 (by decide) ?_
        refine zs_sub (lv' := [(0, .ref (c + 0))]) [0] rfl ?_
        exact h230 1
  refine zs_case ?_ ?_
  · refine zs_aload_n (pc := 261) 0 dX0_count_261 rfl rfl ?_
    refine zs_callVrB (pc := 262) [] [] (kh_isLong D W P h0 c M) wh_isLong q1248 zc_X0 cs_rcv0 dX0_count_262 rfl rfl (Nat.le_of_ble_eq_true rfl) (Nat.le_of_ble_eq_true rfl) (fun b15 => ?_)
    refine zs_if_f (pc := 265) (tgt := 272) dX0_count_265 (by decide) ?_ ?_
    · refine zs_iconst (pc := 268) (v := 1) dX0_count_268 rfl ?_
      refine zs_goto (pc := 269) (tgt := 273) dX0_count_269 (by decide) ?_
      exact zs_iret (pc := 273) dX0_count_273 rfl rfl rfl
    · refine zs_iconst (pc := 272) (v := 0) dX0_count_272 rfl ?_
      exact zs_iret (pc := 273) dX0_count_273 rfl rfl rfl
  refine zs_case ?_ ?_
  · refine zs_aload_n (pc := 274) 0 dX0_count_274 rfl rfl ?_
    refine cs_getr (pc := 275) 0 0 3 (v := .ref (zt_ad W.2.1 0)) ⟨⟨by decide, by decide⟩, rfl⟩ zc_X0 ⟨rfl, rfl⟩ (by decide) rfl rfl q532 dX0_count_275 ?_
    refine ct_num (pc := 278) 5 (by decide) q393 dX0_count_278 ?_
    exact zs_iret (pc := 281) dX0_count_281 rfl rfl rfl
  refine zs_case ?_ ?_
  · refine zs_iconst (pc := 282) (v := 0) dX0_count_282 rfl ?_
    refine zs_istore_n (pc := 283) (lv' := [(0, .ref (c + 0)), (1, .int a1), (2, .int 0), (3, .int 0)]) [1, 2, 3, 0] dX0_count_283 rfl (by decide) rfl ?_
    refine zs_sub (pc := 284) (lv' := [(0, .ref (c + 0)), (2, .int 0), (3, .int 0)]) [0, 2, 3] rfl ?_
    refine zs_whileX (pc := 284) (fun (t284 : Int32 × Int32) => M) (fun (t284 : Int32 × Int32) => [(0, .ref (c + 0)), (2, .int t284.1), (3, .int t284.2)]) 5000 (0, 0) (fun X284 hL284 hR284 t284 => ?_)
    unfold gh_count_L284
    refine zs_iload_n (pc := 284) 2 dX0_count_284 rfl rfl ?_
    refine zs_aload_n (pc := 285) 0 dX0_count_285 rfl rfl ?_
    refine zs_callVrI (pc := 286) [] [.int t284.2] (kh_houses D W P h0 c M) wh_houses q1124 zc_X0 cs_rcv0 dX0_count_286 rfl rfl (Nat.le_of_ble_eq_true rfl) (Nat.le_of_ble_eq_true rfl) (fun x16 => ?_)
    refine zs_icmp_ge (pc := 289) (tgt := 310) dX0_count_289 (by decide) ?_ ?_
    · refine zs_iload_n (pc := 292) 1 dX0_count_292 rfl rfl ?_
      refine zs_aload_n (pc := 293) 0 dX0_count_293 rfl rfl ?_
      refine cs_getr (pc := 294) 0 0 7 (v := .ref (c + cs_va 0)) ⟨⟨by decide, by decide⟩, rfl⟩ zc_X0 ⟨rfl, rfl⟩ (by decide) rfl rfl q536 dX0_count_294 ?_
      refine cs_getr (pc := 297) (cs_va 0) (10 + 0) 3 (v := .ref (c + (cs_va 0 + 4))) (cs_pv (by omega)) zc_X5 (cs_vcl (by omega)) (by decide) (cs_vsc (by omega) 3 false (by decide)) (cs_vcv (by omega) 3 4 (by decide)) q446 dX0_count_297 ?_
      refine zs_iload_n (pc := 300) 2 dX0_count_300 rfl rfl ?_
      refine cs_iald (pc := 301) (cs_va 0 + 4) (10 + 0) 3 (cs_pva (by omega) 4 (by decide) 6 rfl) dX0_count_301 (fun x17 => ?_)
      refine zs_iadd (pc := 302) dX0_count_302 ?_
      refine zs_nm (fun x18 => ?_)
      refine zs_istore_n (pc := 303) (lv' := [(0, .ref (c + 0)), (2, .int x18), (3, .int t284.2)]) [1, 0, 2] dX0_count_303 rfl (by decide) rfl ?_
      refine zs_iinc (pc := 304) (lv' := [(0, .ref (c + 0)), (2, .int x18), (3, .int (t284.2 + 1))]) 2 [1, 2, 0] dX0_count_304 rfl rfl (by decide) rfl ?_
      refine zs_goto (pc := 307) (tgt := 284) dX0_count_307 (by decide) ?_
      exact hL284 (x18, (t284.2 + 1))
    · refine zs_iload_n (pc := 310) 1 dX0_count_310 rfl rfl ?_
      exact zs_iret (pc := 311) dX0_count_311 ((hR284 _).trans rfl) rfl rfl
  refine zs_case ?_ ?_
  · refine zs_iconst (pc := 312) (v := 0) dX0_count_312 rfl ?_
    refine zs_istore_n (pc := 313) (lv' := [(0, .ref (c + 0)), (1, .int a1), (2, .int 0), (3, .int 0)]) [1, 2, 3, 0] dX0_count_313 rfl (by decide) rfl ?_
    refine zs_sub (pc := 314) (lv' := [(0, .ref (c + 0)), (2, .int 0), (3, .int 0)]) [0, 2, 3] rfl ?_
    refine zs_whileX (pc := 314) (fun (t314 : Int32 × Int32) => M) (fun (t314 : Int32 × Int32) => [(0, .ref (c + 0)), (2, .int t314.1), (3, .int t314.2)]) 5000 (0, 0) (fun X314 hL314 hR314 t314 => ?_)
    unfold gh_count_L314
    refine zs_iload_n (pc := 314) 2 dX0_count_314 rfl rfl ?_
    refine zs_aload_n (pc := 315) 0 dX0_count_315 rfl rfl ?_
    refine zs_callVrI (pc := 316) [] [.int t314.2] (kh_houses D W P h0 c M) wh_houses q1124 zc_X0 cs_rcv0 dX0_count_316 rfl rfl (Nat.le_of_ble_eq_true rfl) (Nat.le_of_ble_eq_true rfl) (fun x19 => ?_)
    refine zs_icmp_ge (pc := 319) (tgt := 350) dX0_count_319 (by decide) ?_ ?_
    · refine zs_iload_n (pc := 322) 1 dX0_count_322 rfl rfl ?_
      refine zs_aload_n (pc := 323) 0 dX0_count_323 rfl rfl ?_
      refine cs_getr (pc := 324) 0 0 7 (v := .ref (c + cs_va 0)) ⟨⟨by decide, by decide⟩, rfl⟩ zc_X0 ⟨rfl, rfl⟩ (by decide) rfl rfl q536 dX0_count_324 ?_
      refine cs_getr (pc := 327) (cs_va 0) (10 + 0) 0 (v := .ref (c + (cs_va 0 + 1))) (cs_pv (by omega)) zc_X5 (cs_vcl (by omega)) (by decide) (cs_vsc (by omega) 0 false (by decide)) (cs_vcv (by omega) 0 1 (by decide)) q440 dX0_count_327 ?_
      refine zs_iload_n (pc := 330) 2 dX0_count_330 rfl rfl ?_
      refine cs_iald (pc := 331) (cs_va 0 + 1) (10 + 0) 0 (cs_pva (by omega) 1 (by decide) 6 rfl) dX0_count_331 (fun x20 => ?_)
      refine zs_join (pc := 332) (fun (p21 : Int32) => M) 342 (fun (p21 : Int32) => [(0, .ref (c + 0)), (3, .int t314.2)]) (fun (p21 : Int32) => [.int p21, .int t314.1]) (fun p21 => ?_) (fun h342 => ?_)
      · refine zs_ior (pc := 342) dX0_count_342 ?_
        refine zs_nm (fun x22 => ?_)
        refine zs_istore_n (pc := 343) (lv' := [(0, .ref (c + 0)), (2, .int x22), (3, .int t314.2)]) [1, 0, 2] dX0_count_343 rfl (by decide) rfl ?_
        refine zs_iinc (pc := 344) (lv' := [(0, .ref (c + 0)), (2, .int x22), (3, .int (t314.2 + 1))]) 2 [1, 2, 0] dX0_count_344 rfl rfl (by decide) rfl ?_
        refine zs_goto (pc := 347) (tgt := 314) dX0_count_347 (by decide) ?_
        exact hL314 (x22, (t314.2 + 1))
      · refine zs_if_ne (pc := 332) (tgt := 341) dX0_count_332 (by decide) ?_ ?_
        · refine zs_iconst (pc := 335) (v := 1) dX0_count_335 rfl ?_
          refine zs_iload_n (pc := 336) 2 dX0_count_336 rfl rfl ?_
          refine zs_ishl (pc := 337) dX0_count_337 ?_
          refine zs_goto (pc := 338) (tgt := 342) dX0_count_338 (by decide) ?_
          refine zs_sub (lv' := [(0, .ref (c + 0)), (3, .int t314.2)]) [0, 2] rfl ?_
          exact h342 (zs_shl 1 t314.2)
        · refine zs_iconst (pc := 341) (v := 0) dX0_count_341 rfl ?_
          refine zs_sub (lv' := [(0, .ref (c + 0)), (3, .int t314.2)]) [0, 2] rfl ?_
          exact h342 0
    · refine zs_iload_n (pc := 350) 1 dX0_count_350 rfl rfl ?_
      exact zs_iret (pc := 351) dX0_count_351 ((hR314 _).trans rfl) rfl rfl
  refine zs_case ?_ ?_
  · refine zs_iconst (pc := 352) (v := 0) dX0_count_352 rfl ?_
    refine zs_istore_n (pc := 353) (lv' := [(0, .ref (c + 0)), (1, .int a1), (2, .int 0), (3, .int 0)]) [1, 2, 3, 0] dX0_count_353 rfl (by decide) rfl ?_
    refine zs_sub (pc := 354) (lv' := [(0, .ref (c + 0)), (2, .int 0), (3, .int 0)]) [0, 2, 3] rfl ?_
    refine zs_whileX (pc := 354) (fun (t354 : Int32 × Int32) => M) (fun (t354 : Int32 × Int32) => [(0, .ref (c + 0)), (2, .int t354.1), (3, .int t354.2)]) 5000 (0, 0) (fun X354 hL354 hR354 t354 => ?_)
    unfold gh_count_L354
    refine zs_iload_n (pc := 354) 2 dX0_count_354 rfl rfl ?_
    refine zs_aload_n (pc := 355) 0 dX0_count_355 rfl rfl ?_
    refine zs_callVrI (pc := 356) [] [.int t354.2] (kh_houses D W P h0 c M) wh_houses q1124 zc_X0 cs_rcv0 dX0_count_356 rfl rfl (Nat.le_of_ble_eq_true rfl) (Nat.le_of_ble_eq_true rfl) (fun x23 => ?_)
    refine zs_icmp_ge (pc := 359) (tgt := 380) dX0_count_359 (by decide) ?_ ?_
    · refine zs_iload_n (pc := 362) 1 dX0_count_362 rfl rfl ?_
      refine zs_aload_n (pc := 363) 0 dX0_count_363 rfl rfl ?_
      refine cs_getr (pc := 364) 0 0 7 (v := .ref (c + cs_va 0)) ⟨⟨by decide, by decide⟩, rfl⟩ zc_X0 ⟨rfl, rfl⟩ (by decide) rfl rfl q536 dX0_count_364 ?_
      refine cs_getr (pc := 367) (cs_va 0) (10 + 0) 2 (v := .ref (c + (cs_va 0 + 3))) (cs_pv (by omega)) zc_X5 (cs_vcl (by omega)) (by decide) (cs_vsc (by omega) 2 false (by decide)) (cs_vcv (by omega) 2 3 (by decide)) q444 dX0_count_367 ?_
      refine zs_iload_n (pc := 370) 2 dX0_count_370 rfl rfl ?_
      refine cs_iald (pc := 371) (cs_va 0 + 3) (10 + 0) 2 (cs_pva (by omega) 3 (by decide) 6 rfl) dX0_count_371 (fun x24 => ?_)
      refine zs_iadd (pc := 372) dX0_count_372 ?_
      refine zs_nm (fun x25 => ?_)
      refine zs_istore_n (pc := 373) (lv' := [(0, .ref (c + 0)), (2, .int x25), (3, .int t354.2)]) [1, 0, 2] dX0_count_373 rfl (by decide) rfl ?_
      refine zs_iinc (pc := 374) (lv' := [(0, .ref (c + 0)), (2, .int x25), (3, .int (t354.2 + 1))]) 2 [1, 2, 0] dX0_count_374 rfl rfl (by decide) rfl ?_
      refine zs_goto (pc := 377) (tgt := 354) dX0_count_377 (by decide) ?_
      exact hL354 (x25, (t354.2 + 1))
    · refine zs_iload_n (pc := 380) 1 dX0_count_380 rfl rfl ?_
      exact zs_iret (pc := 381) dX0_count_381 ((hR354 _).trans rfl) rfl rfl
  refine zs_dflt ?_
  refine zs_iconst (pc := 382) (v := (-1)) dX0_count_382 rfl ?_
  exact zs_iret (pc := 383) dX0_count_383 rfl rfl rfl
theorem wv_begins : zs_mV RX5 yX5_begins cX5_begins 3 none 1 := ⟨q507, q508, q145, q509, by decide, by decide +kernel⟩
def gv_begins_L2 (T : zt_T) (i : Nat) : (Int32 × cs_S) → Option ((Int32 × cs_S) ⊕ (cs_S)) := fun t2 =>
if t2.1 < 6 then ((if t2.1 < (nI (zt_n T)) then ((zs_ix (zt_n T) t2.1).bind fun k7 =>
some (zt_hi T k7 1))
else (some 0)).bind fun (p1 : Int32) =>
(zs_ast 6 t2.1 (cs_sA t2.2 (10 + i) 0 t2.1 p1)).bind fun M2 =>
(zs_ast 6 t2.1 (cs_sA M2 (10 + i) 1 t2.1 0)).bind fun M3 =>
(zs_ast 6 t2.1 (cs_sA M3 (10 + i) 2 t2.1 0)).bind fun M4 =>
(zs_ast 6 t2.1 (cs_sA M4 (10 + i) 3 t2.1 0)).bind fun M5 =>
(zs_ast 6 t2.1 (cs_sA M5 (10 + i) 4 t2.1 0)).bind fun M6 =>
some (Sum.inl ((t2.1 + 1), M6)))
else (some (Sum.inr t2.2))
def gv_begins (T : zt_T) (M : cs_S) (i : Nat) : Option (cs_S) :=
(zs_loop 5000 (gv_begins_L2 T i) (0, M)).bind fun (r8 : cs_S) =>
(some (cs_sF r8 (10 + i) 5 0)).bind fun M9 =>
(some (cs_sF M9 (10 + i) 6 0)).bind fun M10 =>
(some (cs_sF M10 (10 + i) 7 0)).bind fun M11 =>
(some (cs_sF M11 (10 + i) 8 (zt_f T 7))).bind fun M12 =>
some M12
set_option maxHeartbeats 4000000 in
theorem kv_xbegins (D : zs_D) (W : cs_W) (P : Nat → Bool) (h0 : zs_AH) (c : Nat) (M : cs_S) (i : Nat) (hi : i < 45) : zs_Con D (cs_R W P h0 c) cs_bd zs_eV yX5_begins cX5_begins 3 none 4 [.ref (c + cs_va i), .ref (zt_ad W.2.1 0)] M ((gv_begins W.2.1 M i).map fun x => ((), x)) := by
  unfold gv_begins
  refine zs_conV (own := RX5) (nm := "begins") pl_X5 rfl rfl (Nat.le_of_ble_eq_true rfl) ?_
  refine zs_lv (lv' := [(0, .ref (c + cs_va i)), (1, .ref (zt_ad W.2.1 0))]) rfl ?_
  refine zs_iconst (pc := 0) (v := 0) dX5_begins_0 rfl ?_
  refine zs_istore_n (pc := 1) (lv' := [(0, .ref (c + cs_va i)), (1, .ref (zt_ad W.2.1 0)), (2, .int 0)]) [1, 2, 0] dX5_begins_1 rfl (by decide) rfl ?_
  refine zs_whileJ (pc := 2) (fun (t2 : Int32 × cs_S) => t2.2) (fun (t2 : Int32 × cs_S) => [(0, .ref (c + cs_va i)), (1, .ref (zt_ad W.2.1 0)), (2, .int t2.1)]) 5000 (0, M) (fun (r8 : cs_S) => r8) 77 (fun (r8 : cs_S) => [(0, .ref (c + cs_va i)), (1, .ref (zt_ad W.2.1 0))]) [] (fun r8 => ?_) (fun X2 hL2 hE2 t2 => ?_)
  · refine zs_aload_n (pc := 77) 0 dX5_begins_77 rfl rfl ?_
    refine zs_iconst (pc := 78) (v := 0) dX5_begins_78 rfl ?_
    refine cs_puti (pc := 79) (cs_va i) (10 + i) 5 (cs_pv (by omega)) zc_X5 (cs_vcl (by omega)) (by decide) (cs_vsc (by omega) 5 true (by decide)) q449 rfl rfl rfl dX5_begins_79 (fun M9 => ?_)
    refine zs_aload_n (pc := 82) 0 dX5_begins_82 rfl rfl ?_
    refine zs_iconst (pc := 83) (v := 0) dX5_begins_83 rfl ?_
    refine cs_puti (pc := 84) (cs_va i) (10 + i) 6 (cs_pv (by omega)) zc_X5 (cs_vcl (by omega)) (by decide) (cs_vsc (by omega) 6 true (by decide)) q452 rfl rfl rfl dX5_begins_84 (fun M10 => ?_)
    refine zs_aload_n (pc := 87) 0 dX5_begins_87 rfl rfl ?_
    refine zs_iconst (pc := 88) (v := 0) dX5_begins_88 rfl ?_
    refine cs_puti (pc := 89) (cs_va i) (10 + i) 7 (cs_pv (by omega)) zc_X5 (cs_vcl (by omega)) (by decide) (cs_vsc (by omega) 7 true (by decide)) q454 rfl rfl rfl dX5_begins_89 (fun M11 => ?_)
    refine zs_aload_n (pc := 92) 0 dX5_begins_92 rfl rfl ?_
    refine zs_aload_n (pc := 93) 1 dX5_begins_93 rfl rfl ?_
    refine ct_num (pc := 94) 7 (by decide) q396 dX5_begins_94 ?_
    refine cs_puti (pc := 97) (cs_va i) (10 + i) 8 (cs_pv (by omega)) zc_X5 (cs_vcl (by omega)) (by decide) (cs_vsc (by omega) 8 true (by decide)) q457 rfl rfl rfl dX5_begins_97 (fun M12 => ?_)
    exact zs_vret (pc := 100) dX5_begins_100 rfl rfl
  · unfold gv_begins_L2
    refine zs_iload_n (pc := 2) 2 dX5_begins_2 rfl rfl ?_
    refine zs_bipush (pc := 3) (v := 6) dX5_begins_3 (by decide) ?_
    refine zs_icmp_ge (pc := 5) (tgt := 77) dX5_begins_5 (by decide) ?_ ?_
    · refine zs_aload_n (pc := 8) 0 dX5_begins_8 rfl rfl ?_
      refine cs_getr (pc := 9) (cs_va i) (10 + i) 0 (v := .ref (c + (cs_va i + 1))) (cs_pv (by omega)) zc_X5 (cs_vcl (by omega)) (by decide) (cs_vsc (by omega) 0 false (by decide)) (cs_vcv (by omega) 0 1 (by decide)) q439 dX5_begins_9 ?_
      refine zs_iload_n (pc := 12) 2 dX5_begins_12 rfl rfl ?_
      refine zs_iload_n (pc := 13) 2 dX5_begins_13 rfl rfl ?_
      refine zs_aload_n (pc := 14) 1 dX5_begins_14 rfl rfl ?_
      refine ct_houses (pc := 15) q377 dX5_begins_15 ?_
      refine ct_size (pc := 18) q510 dX5_begins_18 (Nat.le_of_ble_eq_true rfl) (Nat.le_of_ble_eq_true rfl) ?_
      refine zs_join (pc := 21) (fun (p1 : Int32) => t2.2) 42 (fun (p1 : Int32) => [(0, .ref (c + cs_va i)), (1, .ref (zt_ad W.2.1 0)), (2, .int t2.1)]) (fun (p1 : Int32) => [.int p1, .int t2.1, .ref (c + (cs_va i + 1))]) (fun p1 => ?_) (fun h42 => ?_)
      · refine cs_iast (pc := 42) (cs_va i + 1) (10 + i) 0 (cs_pva (by omega) 1 (by decide) 6 rfl) dX5_begins_42 (fun M2 => ?_)
        refine zs_aload_n (pc := 43) 0 dX5_begins_43 rfl rfl ?_
        refine cs_getr (pc := 44) (cs_va i) (10 + i) 1 (v := .ref (c + (cs_va i + 2))) (cs_pv (by omega)) zc_X5 (cs_vcl (by omega)) (by decide) (cs_vsc (by omega) 1 false (by decide)) (cs_vcv (by omega) 1 2 (by decide)) q441 dX5_begins_44 ?_
        refine zs_iload_n (pc := 47) 2 dX5_begins_47 rfl rfl ?_
        refine zs_iconst (pc := 48) (v := 0) dX5_begins_48 rfl ?_
        refine cs_iast (pc := 49) (cs_va i + 2) (10 + i) 1 (cs_pva (by omega) 2 (by decide) 6 rfl) dX5_begins_49 (fun M3 => ?_)
        refine zs_aload_n (pc := 50) 0 dX5_begins_50 rfl rfl ?_
        refine cs_getr (pc := 51) (cs_va i) (10 + i) 2 (v := .ref (c + (cs_va i + 3))) (cs_pv (by omega)) zc_X5 (cs_vcl (by omega)) (by decide) (cs_vsc (by omega) 2 false (by decide)) (cs_vcv (by omega) 2 3 (by decide)) q443 dX5_begins_51 ?_
        refine zs_iload_n (pc := 54) 2 dX5_begins_54 rfl rfl ?_
        refine zs_iconst (pc := 55) (v := 0) dX5_begins_55 rfl ?_
        refine cs_iast (pc := 56) (cs_va i + 3) (10 + i) 2 (cs_pva (by omega) 3 (by decide) 6 rfl) dX5_begins_56 (fun M4 => ?_)
        refine zs_aload_n (pc := 57) 0 dX5_begins_57 rfl rfl ?_
        refine cs_getr (pc := 58) (cs_va i) (10 + i) 3 (v := .ref (c + (cs_va i + 4))) (cs_pv (by omega)) zc_X5 (cs_vcl (by omega)) (by decide) (cs_vsc (by omega) 3 false (by decide)) (cs_vcv (by omega) 3 4 (by decide)) q445 dX5_begins_58 ?_
        refine zs_iload_n (pc := 61) 2 dX5_begins_61 rfl rfl ?_
        refine zs_iconst (pc := 62) (v := 0) dX5_begins_62 rfl ?_
        refine cs_iast (pc := 63) (cs_va i + 4) (10 + i) 3 (cs_pva (by omega) 4 (by decide) 6 rfl) dX5_begins_63 (fun M5 => ?_)
        refine zs_aload_n (pc := 64) 0 dX5_begins_64 rfl rfl ?_
        refine cs_getr (pc := 65) (cs_va i) (10 + i) 4 (v := .ref (c + (cs_va i + 5))) (cs_pv (by omega)) zc_X5 (cs_vcl (by omega)) (by decide) (cs_vsc (by omega) 4 false (by decide)) (cs_vcv (by omega) 4 5 (by decide)) q447 dX5_begins_65 ?_
        refine zs_iload_n (pc := 68) 2 dX5_begins_68 rfl rfl ?_
        refine zs_iconst (pc := 69) (v := 0) dX5_begins_69 rfl ?_
        refine cs_iast (pc := 70) (cs_va i + 5) (10 + i) 4 (cs_pva (by omega) 5 (by decide) 6 rfl) dX5_begins_70 (fun M6 => ?_)
        refine zs_iinc (pc := 71) (lv' := [(0, .ref (c + cs_va i)), (1, .ref (zt_ad W.2.1 0)), (2, .int (t2.1 + 1))]) 2 [1, 2, 0] dX5_begins_71 rfl rfl (by decide) rfl ?_
        refine zs_goto (pc := 74) (tgt := 2) dX5_begins_74 (by decide) ?_
        exact hL2 ((t2.1 + 1), M6)
      · refine zs_icmp_ge (pc := 21) (tgt := 41) dX5_begins_21 (by decide) ?_ ?_
        · refine zs_aload_n (pc := 24) 1 dX5_begins_24 rfl rfl ?_
          refine ct_houses (pc := 25) q377 dX5_begins_25 ?_
          refine zs_iload_n (pc := 28) 2 dX5_begins_28 rfl rfl ?_
          refine ct_get (pc := 29) q514 dX5_begins_29 (Nat.le_of_ble_eq_true rfl) (Nat.le_of_ble_eq_true rfl) (fun k7 hk7 => ?_)
          refine ct_cast (pc := 32) hk7 q528 dX5_begins_32 ?_
          refine ct_hair (pc := 35) hk7 q1041 dX5_begins_35 ?_
          refine zs_goto (pc := 38) (tgt := 42) dX5_begins_38 (by decide) ?_
          exact h42 (zt_hi W.2.1 k7 1)
        · refine zs_iconst (pc := 41) (v := 0) dX5_begins_41 rfl ?_
          exact h42 0
    · refine zs_sub (lv' := [(0, .ref (c + cs_va i)), (1, .ref (zt_ad W.2.1 0))]) [0, 1] rfl ?_
      exact hE2 t2.2
