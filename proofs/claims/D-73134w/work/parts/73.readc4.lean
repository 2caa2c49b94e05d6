set_option maxRecDepth 100000
/-! a row of a text, by the component -/
section TD
variable {b : Nat → Int} {p : Nat} {K : List pz_T} {w : Nat → Nat} {c : Nat} {r : Nat × Nat} {M0 M : ps_S} {wst : Nat × Nat} {a : Nat} {X : pz_X}
theorem pk_begins (h : pk_H b p K c r M0 wst a M) (hk : pz_kd K a ≠ 0 ∧ pz_kd K a ≠ 3) {n m : Nat} (hb : n ≤ 100 ∧ m ≤ 100) : pw (gp_X3_begins w c M (pj n) (pj m)) (pk_O (fun q M' => pk_F r M0 q.1 q.2 M') (fun e (_ : Unit) M' => e = a + 1 ∧ pk_H b p K c r M0 wst e M' ∧ M'.2 = M.2 ∧ pk M M') (if n = m then (Sum.inl (2, pz_fr K a) : pz_R Nat) else pz_ps K a)) := by
  unfold gp_X3_begins
  by_cases c4 : n = m
  · rw [if_pos (by rw [c4]), if_pos c4]
    obtain ⟨M', e, hF⟩ := pk_wrong (w := w) h.2.1 2
    have e : gp_X3_wrong w c M 2 = some ((), M') := e
    rw [e]
    exact (pw_some _ _).2 ⟨rfl, pk_F_le h.1 hF⟩
  · rw [if_neg (by rw [pj_eqN (by omega)]; exact c4), if_neg c4]
    have e1 : ((gp_X3_pass w c M).bind (zx_sel (fun M2 => ((none : Option Unit), M2)) fun (p1 : Unit × ps_S) => some (some (), p1.2))) = gp_X3_pass w c M := by
      cases gp_X3_pass w c M with
      | none => rfl
      | some z => obtain ⟨z1, z2⟩ := z; cases z1 <;> rfl
    rw [e1]
    exact pk_H_pass h hk
theorem pk_thouse {FE : Nat → Value} (h : pk_H b p K c r M0 wst a M) (hb0 : pk_b c M0) (hT : pk_T w M0.2.1.2.1 X M) (hr : pk_rm r a M) (h20 : X.2.1 ≤ 20) (hkd : pz_kd K a = 20) (hE : M0.2.1.2.2 (w 100) = some (73, 0, FE)) (hE2 : w 100 < M0.2.1.2.1 ∧ ¬ (c ≤ w 100 ∧ w 100 < c + 561 ∧ ¬ (c + 10 ≤ w 100 ∧ w 100 < c + 20))) :
    pw ((ps_tx M).bind fun y5 =>
      (ps_gR c M y5 4 8 0).bind fun y6 =>
      (ps_ck c M y6 17).bind fun _ =>
      (gp_J5_size w c M y6).bind fun x8 =>
      (gp_X3_begins w c M x8 6).bind (zx_sel (fun M10 => ((none : Option Unit), M10)) fun (p9 : Unit × ps_S) =>
      (ps_nw p9.2 (16, 3, fun k => defaultValue (tyX16 k)) 3).bind fun z11 =>
      (gp_X3_name w c z11.2).bind (zx_sel (fun M13 => (none, M13)) fun (p12 : Nat × ps_S) =>
      (gp_X16_init w c p12.2 z11.1 p12.1).bind fun M14 =>
      (gp_X3_number w c M14 0 20).bind (zx_sel (fun M16 => (none, M16)) fun (p15 : Int32 × ps_S) =>
      (ps_pV c p15.2 z11.1 16 3 1 (.int p15.1)).bind fun M17 =>
      (gp_X3_number w c M17 1 99).bind (zx_sel (fun M19 => (none, M19)) fun (p18 : Int32 × ps_S) =>
      (ps_pV c p18.2 z11.1 16 3 2 (.int p18.1)).bind fun M20 =>
      (ps_tx M20).bind fun y21 =>
      (ps_gR c M20 y21 4 8 0).bind fun y22 =>
      (ps_ck c M20 y22 17).bind fun _ =>
      (gp_J5_add w c M20 y22 z11.1).bind fun p24 =>
      some (some (), p24.2)))))) (pk_QT b p K w c r M0 (if X.1.length = 6 then Sum.inl (2, pz_fr K a) else pz_bd (pz_ps K a) fun a1 => pz_ho b K X wst a1)) := by
  obtain ⟨x, l, la, lk, F, G, LF, KF, g⟩ := id hT
  have hc0 := hb0.1
  have tx : ∀ {A : ps_S} {x l la lk : Nat} {F G LF KF : Nat → Value}, pk_TT w M0.2.1.2.1 X A x l la lk F G LF KF → ps_tx A = some x ∧ ps_gR c A x 4 8 0 = some l ∧ ps_ck c A l 17 = some () ∧ gp_J5_size w c A l = some (pj (X.1.length : Nat)) := by
    intro A x l la lk F G LF KF g
    have ax : ps_at c A x = some (4, 8, F) := by rw [ps_atN (by have := g.2.1.1; omega)]; exact g.2.1.2
    have al : ps_at c A l = some (17, 3, G) := by rw [ps_atN (by have := g.2.2.1.1; omega)]; exact g.2.2.1.2
    refine ⟨by unfold ps_tx; rw [g.1], pk_gR ax g.2.2.2.2.2.1.1, pk_ck al, ?_⟩
    unfold gp_J5_size
    rw [pk_gI al g.2.2.2.2.2.2.1.2.2.1]; rfl
  obtain ⟨t1, t2, t3, t4⟩ := tx g
  have h6 := g.2.2.2.2.2.2.1.1
  rw [t1, Option.bind_some, t2, Option.bind_some, t3, Option.bind_some, t4, Option.bind_some]
  have hass : (if X.1.length = 6 then (Sum.inl (2, pz_fr K a) : pz_R (pz_X × (Nat × Nat) × Nat)) else pz_bd (pz_ps K a) fun a1 => pz_ho b K X wst a1) = pz_bd (if X.1.length = 6 then (Sum.inl (2, pz_fr K a) : pz_R Nat) else pz_ps K a) fun a1 => pz_ho b K X wst a1 := by
    split <;> rfl
  rw [hass]
  refine pk_sel (Q := pk_QT b p K w c r M0) (pk_begins (w := w) h (by omega) (n := X.1.length) (m := 6) (by omega)) (fun q M' hq => ⟨rfl, hq⟩) (fun e u M1 he hv => ?_)
  have hl6 : X.1.length < 6 := by
    by_cases q : X.1.length = 6
    · rw [if_pos q] at he; cases he
    · omega
  obtain ⟨rfl, H1, e1, k1⟩ := hv
  have hT1 := pk_T_eq e1 hT
  have hr1 := pk_rm_go (r := r) hr e1 1
  obtain ⟨r1, r2, r3, r4⟩ := id hr1
  have ha1 := H1.2.1.2.2.2.2.2.1
  obtain ⟨M2, n1, n2, n3, n4, n5, n6, n7⟩ := pk_nw (M := M1) (16, 3, fun k => defaultValue (tyX16 k)) (sl := 3) (by omega)
  show pw ((ps_nw M1 _ 3).bind _) _
  rw [n1, Option.bind_some]
  have H2 : pk_H b p K c r M0 wst (a + 1) M2 := ⟨pk_trans H1.1 n2, pk_C_m H1.2.1 n5 (pk_b_le n2 H1.2.1.2.1) ⟨by omega, by omega⟩, pk_w_m (fun f _ => by rw [n5]) H1.2.2⟩
  have hz0 : M0.2.1.2.1 ≤ M1.2.1.2.1 := H1.1.2.1
  unfold pz_ho
  refine pk_sel (Q := pk_QT b p K w c r M0) (pk_name (w := w) (X := X) (r := r) H2 hb0 (pk_T_le n2 hT1) ⟨by show r.1 ≤ M2.2.2.2.1 + 12 * (a + 1) + 8; omega, by show r.2 ≤ M2.2.2.2.2 + 60 * (a + 1) + 28; omega, r3, r4⟩) (fun q M' hq => ⟨rfl, hq⟩) (fun e y M3 he hv => ?_)
  obtain ⟨rfl, H3, k3, st3, hr3⟩ := hv
  obtain ⟨hkd1, -, -⟩ := pz_tk_inr he
  have k3 : pk M2 M3 := k3
  have st3 : pk_st (gq M2.2.1.2.1 M3) y (pz_nm b K (a + 1)) := st3
  have c3 := k3.2.2.1 _ _ (by omega) n4
  have b3 := H3.2.1.2.1.2
  have hzc : c + 561 ≤ M1.2.1.2.1 := by omega
  have p3 := pk_pV (c := c) (k := 0) (.ref y) hzc b3 c3
  unfold gp_X16_init
  show pw (((ps_pV c M3 M1.2.1.2.1 16 3 0 (.ref y)).bind fun M1 => some M1).bind _) _
  rw [p3, Option.bind_some, Option.bind_some]
  generalize hF1 : updV (fun k => defaultValue (tyX16 k)) 0 (.ref y) = F1
  have H4 := pk_H_up (M := M3) H3 hz0 (16, 3, F1)
  refine pk_sel (Q := pk_QT b p K w c r M0) (pk_num (w := w) H4 (lo := 0) (hi := 20) (by omega)) (fun q M' hq => ⟨rfl, hq⟩) (fun v1 y1 M5 _ hv => ?_)
  obtain ⟨rfl, H5, e5, k5, q5⟩ := hv
  have c5 : M5.2.1.2.2 M1.2.1.2.1 = some (16, 3, F1) := by rw [e5]; exact if_pos rfl
  have b5 := H5.2.1.2.1.2
  have p5 := pk_pV (c := c) (k := 1) (.int (pj (v1.1 : Nat))) hzc b5 c5
  show pw ((ps_pV c M5 M1.2.1.2.1 16 3 1 (.int (pj (v1.1 : Nat)))).bind _) _
  rw [p5, Option.bind_some]
  generalize hF2 : updV F1 1 (.int (pj (v1.1 : Nat))) = F2
  have H6 := pk_H_up (M := M5) H5 hz0 (16, 3, F2)
  refine pk_sel (Q := pk_QT b p K w c r M0) (pk_num (w := w) H6 (lo := 1) (hi := 99) (by omega)) (fun q M' hq => ⟨rfl, hq⟩) (fun v2 y2 M7 _ hv => ?_)
  obtain ⟨rfl, H7, e7, k7, q7⟩ := hv
  have c7 : M7.2.1.2.2 M1.2.1.2.1 = some (16, 3, F2) := by rw [e7]; exact if_pos rfl
  have b7 := H7.2.1.2.1.2
  have p7 := pk_pV (c := c) (k := 2) (.int (pj (v2.1 : Nat))) hzc b7 c7
  show pw ((ps_pV c M7 M1.2.1.2.1 16 3 2 (.int (pj (v2.1 : Nat)))).bind _) _
  rw [p7, Option.bind_some]
  generalize hF3 : updV F2 2 (.int (pj (v2.1 : Nat))) = F3
  have H8 := pk_H_up (M := M7) H7 hz0 (16, 3, F3)
  -- what stands behind all that
  have kk3 : pk M1 M3 := pk_trans n2 k3
  have kk4 : pk M1 (ps_up M3 M1.2.1.2.1 (16, 3, F1)) := pk_up _ kk3 (Nat.le_refl _)
  have kk6 : pk M1 (ps_up M5 M1.2.1.2.1 (16, 3, F2)) := pk_up _ (pk_trans kk4 k5) (Nat.le_refl _)
  have kk8 : pk M1 (ps_up M7 M1.2.1.2.1 (16, 3, F3)) := pk_up _ (pk_trans kk6 k7) (Nat.le_refl _)
  have gq8 : gq (M1.2.1.2.1 + 1) (ps_up M7 M1.2.1.2.1 (16, 3, F3)) = gq (M1.2.1.2.1 + 1) M3 := by
    have g5 : gq (M1.2.1.2.1 + 1) M5 = gq (M1.2.1.2.1 + 1) (ps_up M3 M1.2.1.2.1 (16, 3, F1)) := by unfold gq; rw [e5]
    have g7 : gq (M1.2.1.2.1 + 1) M7 = gq (M1.2.1.2.1 + 1) (ps_up M5 M1.2.1.2.1 (16, 3, F2)) := by unfold gq; rw [e7]
    rw [gq_upL _ (Nat.lt_succ_self _), g7, gq_upL _ (Nat.lt_succ_self _), g5, gq_upL _ (Nat.lt_succ_self _)]
  have c8 : (ps_up M7 M1.2.1.2.1 (16, 3, F3)).2.1.2.2 M1.2.1.2.1 = some (16, 3, F3) := if_pos rfl
  have s8 : (ps_up M7 M1.2.1.2.1 (16, 3, F3)).2.1.2.1 = M3.2.1.2.1 := by show M7.2.1.2.1 = _; rw [e7]; show M5.2.1.2.1 = _; rw [e5]; rfl
  have rr8 : (ps_up M7 M1.2.1.2.1 (16, 3, F3)).2.2.2 = M3.2.2.2 := by show M7.2.2.2 = _; rw [e7]; show M5.2.2.2 = _; rw [e5]; rfl
  have hT8 := pk_T_le kk8 hT1
  generalize ps_up M7 M1.2.1.2.1 (16, 3, F3) = M8 at H8 kk8 gq8 c8 s8 rr8 hT8
  obtain ⟨x8, l8, la8, lk8, FF, GG, LL, KK, g8⟩ := hT8
  obtain ⟨u1, u2, u3, u4⟩ := tx g8
  show pw ((ps_tx M8).bind _) _
  rw [u1, Option.bind_some, u2, Option.bind_some, u3, Option.bind_some]
  have hM3z : M1.2.1.2.1 < M3.2.1.2.1 := by have := k3.2.1; omega
  have hzq : gq M0.2.1.2.1 M8 M1.2.1.2.1 = some (16, 3, F3) := gq_some ⟨hz0, by rw [s8]; exact hM3z⟩ c8 rfl
  have hstr : pk_st (gq M0.2.1.2.1 M8) y (pz_nm b K (a + 1)) := by
    rw [n3, ← gq8] at st3
    exact pk_st_ic (gq_le (pk_rfl M8) (by omega)) st3
  obtain ⟨nm1, nm2⟩ := H1.2.1.1.2.1.2.1 (a + 1) hkd1
  have hEM : ps_at c M8 (w 100) = some (73, 0, FE) := by
    unfold ps_at
    rw [if_neg hE2.2]
    exact H8.1.2.2.1 _ _ hE2.1 hE
  have ha3 := H3.2.1.2.2.2.2.2.1
  obtain ⟨rr1, rr2, rr3, rr4⟩ := hr3
  obtain ⟨M9, w1, w2, w3, w4, w5, w6⟩ := pk_add (w := w) (nm := pz_nm b K (a + 1)) (v1 := v1.1) (v2 := v2.1) (s := y) hc0 H8.2.1.2.1.2 g8 hl6 hzq (by
    refine ⟨?_, ?_, ?_⟩
    · rw [← hF3, updV_n (by decide), ← hF2, updV_n (by decide), ← hF1, updV_s]
    · rw [← hF3, updV_n (by decide), ← hF2, updV_s]
    · rw [← hF3, updV_s]) hstr ⟨fun q hq => by have := nm1 q hq; omega, nm2⟩ hEM hE2.1 (by rw [rr8]; omega)
  rw [w1, Option.bind_some, pw_some]
  have kM9 := w3 M0 H8.1 (Nat.le_refl _)
  refine ⟨(), rfl, ⟨kM9, pk_C_m H8.2.1 w4 (pk_b_le kM9 hb0) ⟨by show r.1 ≤ M9.2.2.2.1 + 5000; rw [rr8] at w5; omega, by show r.2 ≤ M9.2.2.2.2 + 25000; rw [rr8] at w6; omega⟩, pk_w_m (fun f _ => by show M9.1.1 3 f = _; rw [w4]) H8.2.2⟩, w2, ⟨?_, ?_, rr3, rr4⟩, h20⟩
  · show r.1 ≤ M9.2.2.2.1 + 12 * v2.2.2 + 8
    rw [rr8] at w5
    omega
  · show r.2 ≤ M9.2.2.2.2 + 60 * v2.2.2 + 28
    rw [rr8] at w6
    omega
end TD
/-! likings told; one row, by the component -/
section TE
variable {b : Nat → Int} {p : Nat} {K : List pz_T} {w : Nat → Nat} {c : Nat} {r : Nat × Nat} {M0 M : ps_S} {wst : Nat × Nat} {a : Nat} {X : pz_X}
theorem pk_TT_rd {s0 x l la lk : Nat} {F G LF KF : Nat → Value} (hc : c + 561 ≤ s0) (g : pk_TT w s0 X M x l la lk F G LF KF) : ps_tx M = some x ∧ ps_gR c M x 4 8 0 = some l ∧ ps_gR c M x 4 8 2 = some lk ∧ ps_gI c M x 4 8 3 = some (pj (X.2.1 : Nat)) ∧ ∀ i, i < 6 → ps_aR c M lk 10 (pj (i : Nat)) = some (lk + 1 + i) := by
  have ax : ps_at c M x = some (4, 8, F) := by rw [ps_atN (by have := g.2.1.1; omega)]; exact g.2.1.2
  have ak : ps_at c M lk = some (74, 6, KF) := by rw [ps_atN (by have := g.2.2.2.2.1.1; omega)]; exact g.2.2.2.2.1.2
  obtain ⟨f0, f1, f2, f3, f4⟩ := g.2.2.2.2.2.1
  exact ⟨by unfold ps_tx; rw [g.1], pk_gR ax f0, pk_gR ax f2, pk_gI ax f3, fun i hi => pk_aR (t := 10) ak hi (by omega) (g.2.2.2.2.2.2.2.2 i hi).1⟩
/-- a liking is laid one way -/
theorem pk_lay (hb0 : pk_b c M0) (h : pk_H b p K c r M0 wst a M) (hT : pk_T w M0.2.1.2.1 X M) {i j v : Nat} (hij : i < 6 ∧ j < 6) : ∃ M', ((ps_tx M).bind fun y50 => (ps_gR c M y50 4 8 2).bind fun y51 => (ps_aR c M y51 10 (pj (i : Nat))).bind fun y52 => (ps_pA c M y52 0 (pj (j : Nat)) (.int (pj (v : Nat)))).bind fun M53 => some M53) = some M' ∧ pk_H b p K c r M0 wst a M' ∧ pk_T w M0.2.1.2.1 (X.1, X.2.1, pz_up2 X.2.2.1 i j v, X.2.2.2) M' ∧ M'.2.2 = M.2.2 := by
  obtain ⟨x, l, la, lk, F, G, LF, KF, g⟩ := hT
  obtain ⟨t1, t2, t3, t4, t5⟩ := pk_TT_rd hb0.1 g
  obtain ⟨R, q1, q2⟩ := pk_TT_row g (i := i) (j := j) (v := v) hij.1
  have hq := pk_pA (c := c) (t := 0) (i := j) (.int (pj (v : Nat))) (by have := q1.1; have := hb0.1; omega) h.2.1.2.1.2 q1.2 hij.2 (by omega)
  refine ⟨_, ?_, pk_H_up h q1.1.1 _, ⟨x, l, la, lk, F, G, LF, KF, q2⟩, rfl⟩
  rw [t1, Option.bind_some, t3, Option.bind_some, t5 i hij.1, Option.bind_some, hq]; rfl
theorem pk_tlikes (h : pk_H b p K c r M0 wst a M) (hb0 : pk_b c M0) (hT : pk_T w M0.2.1.2.1 X M) (hr : pk_rm r a M) (h20 : X.2.1 ≤ 20) (hkd : pz_kd K a = 21) :
    pw ((ps_tx M).bind fun y25 =>
      (ps_gI c M y25 4 8 3).bind fun x26 =>
      (gp_X3_begins w c M x26 20).bind (zx_sel (fun M28 => ((none : Option Unit), M28)) fun (p27 : Unit × ps_S) =>
      (ps_tx p27.2).bind fun y29 =>
      (ps_gR c p27.2 y29 4 8 0).bind fun y30 =>
      (gp_X3_known w c p27.2 y30).bind (zx_sel (fun M32 => (none, M32)) fun (p31 : Int32 × ps_S) =>
      (some (p31.2.1.1 3 3)).bind fun x33 =>
      (ps_tx p31.2).bind fun y34 =>
      (ps_gR c p31.2 y34 4 8 0).bind fun y35 =>
      (gp_X3_known w c p31.2 y35).bind (zx_sel (fun M37 => (none, M37)) fun (p36 : Int32 × ps_S) =>
      (if p31.1 < 0 then (some p36.2)
      else (if p31.1 = p36.1 then ((gp_X3_tell w c p36.2 3 x33).bind fun M54 =>
      some M54)
      else (some p36.2))).bind fun (p38 : ps_S) =>
      (gp_X3_number w c p38 0 9).bind (zx_sel (fun M40 => (none, M40)) fun (p39 : Int32 × ps_S) =>
      (if p31.1 < 0 then (some p39.2)
      else (if p36.1 < 0 then (some p39.2)
      else ((ps_tx p39.2).bind fun y50 =>
      (ps_gR c p39.2 y50 4 8 2).bind fun y51 =>
      (ps_aR c p39.2 y51 10 p31.1).bind fun y52 =>
      (ps_pA c p39.2 y52 0 p36.1 (.int p39.1)).bind fun M53 =>
      some M53))).bind fun (p41 : ps_S) =>
      (if p31.1 < 0 then (some p41)
      else (if p36.1 < 0 then (some p41)
      else ((ps_tx p41).bind fun y46 =>
      (ps_gR c p41 y46 4 8 2).bind fun y47 =>
      (ps_aR c p41 y47 10 p36.1).bind fun y48 =>
      (ps_pA c p41 y48 0 p31.1 (.int p39.1)).bind fun M49 =>
      some M49))).bind fun (p42 : ps_S) =>
      (ps_tx p42).bind fun y43 =>
      (ps_gI c p42 y43 4 8 3).bind fun x44 =>
      (ps_pV c p42 y43 4 8 3 (.int (x44 + 1))).bind fun M45 =>
      some (some (), M45)))))) (pk_QT b p K w c r M0 (if X.2.1 = 20 then Sum.inl (2, pz_fr K a) else pz_bd (pz_ps K a) fun a1 => pz_li b K X wst a1)) := by
  have hc0 := hb0.1
  obtain ⟨x, l, la, lk, F, G, LF, KF, g⟩ := id hT
  obtain ⟨t1, t2, t3, t4, t5⟩ := pk_TT_rd hc0 g
  have h6 := g.2.2.2.2.2.2.1.1
  rw [t1, Option.bind_some, t4, Option.bind_some]
  have hass : (if X.2.1 = 20 then (Sum.inl (2, pz_fr K a) : pz_R (pz_X × (Nat × Nat) × Nat)) else pz_bd (pz_ps K a) fun a1 => pz_li b K X wst a1) = pz_bd (if X.2.1 = 20 then (Sum.inl (2, pz_fr K a) : pz_R Nat) else pz_ps K a) fun a1 => pz_li b K X wst a1 := by
    split <;> rfl
  rw [hass]
  refine pk_sel (Q := pk_QT b p K w c r M0) (pk_begins (w := w) h (by omega) (n := X.2.1) (m := 20) (by omega)) (fun q M' hq => ⟨rfl, hq⟩) (fun e u M1 he hv => ?_)
  have hl20 : X.2.1 < 20 := by
    by_cases q : X.2.1 = 20
    · rw [if_pos q] at he; cases he
    · omega
  obtain ⟨rfl, H1, e1, k1⟩ := hv
  have hT1 := pk_T_eq e1 hT
  have hr1 := pk_rm_go (r := r) hr e1 1
  obtain ⟨x1, l1, la1, lk1, F1, G1, LF1, KF1, g1⟩ := id hT1
  obtain ⟨a1, a2, -⟩ := pk_TT_rd hc0 g1
  show pw ((ps_tx M1).bind _) _
  rw [a1, Option.bind_some]
  show pw ((ps_gR c M1 x1 4 8 0).bind _) _
  rw [a2, Option.bind_some]
  unfold pz_li
  refine pk_sel (Q := pk_QT b p K w c r M0) (pk_known (w := w) (r := r) H1 hb0 g1 (pk_rm_d hr1)) (fun q M' hq => ⟨rfl, hq⟩) (fun v1 y1 M2 _ hv => ?_)
  obtain ⟨rfl, H2, k2, r2, i2, q2⟩ := hv
  have hT2 := pk_T_le k2 hT1
  obtain ⟨x2, l2, la2, lk2, F2, G2, LF2, KF2, g2⟩ := id hT2
  obtain ⟨b1, b2, -⟩ := pk_TT_rd hc0 g2
  rw [Option.bind_some]
  show pw ((ps_tx M2).bind _) _
  rw [b1, Option.bind_some]
  show pw ((ps_gR c M2 x2 4 8 0).bind _) _
  rw [b2, Option.bind_some]
  refine pk_sel (Q := pk_QT b p K w c r M0) (pk_known (w := w) (r := r) H2 hb0 g2 (pk_rm_d r2)) (fun q M' hq => ⟨rfl, hq⟩) (fun v2 y2 M3 _ hv => ?_)
  obtain ⟨rfl, H3, k3, r3, i3, q3⟩ := hv
  have hT3 := pk_T_le k3 hT2
  have hix : ∀ (n k : Nat), pz_ix X.1 (pz_nm b K n) = some k → k < 6 := fun n k e => by have := pz_ix_lt e; omega
  have hx : ∀ k, v1.1 = some k → k < 6 := fun k e => hix _ k (i2 ▸ e)
  have hy : ∀ k, v2.1 = some k → k < 6 := fun k e => hix _ k (i3 ▸ e)
  have bx := pz_oi_bd hx
  have by' := pz_oi_bd hy
  have hat : M2.1.1 3 3 = pj (v1.2.2 : Nat) := H2.2.1.2.2.1
  -- both the same
  have hmid : ∃ M4, (if pj (pz_oi v1.1) < 0 then (some M3) else (if pj (pz_oi v1.1) = pj (pz_oi v2.1) then ((gp_X3_tell w c M3 3 (M2.1.1 3 3)).bind fun M54 => some M54) else (some M3))) = some M4 ∧ pk_H b p K c r M0 (if v1.1.isSome = true ∧ v1.1 = v2.1 then pz_wr v2.2.1 3 v1.2.2 else v2.2.1) v2.2.2 M4 ∧ M4.2 = M3.2 := by
    cases ho : v1.1 with
    | none =>
      rw [if_pos ((py_lt0 (by rw [ho] at bx; omega)).2 (by decide)), if_neg (fun q => by cases q.1)]
      exact ⟨M3, rfl, H3, rfl⟩
    | some k =>
      rw [if_neg (fun q => absurd ((py_lt0 (by rw [ho] at bx; omega)).1 q) (by show ¬ ((k : Nat) : Int) < 0; omega))]
      by_cases cc : some k = v2.1
      · rw [if_pos (by rw [cc]), if_pos ⟨rfl, cc⟩, hat]
        obtain ⟨M4, u1, u2, u3, u4⟩ := pk_tell (w := w) H3 (n := 3) (t := v1.2.2) (by omega) ⟨H2.2.1.2.2.2.2.1, H2.2.1.2.2.2.2.2.1⟩
        have u1 : gp_X3_tell w c M3 3 (pj (v1.2.2 : Nat)) = some M4 := u1
        rw [u1]
        exact ⟨M4, rfl, u2, u3⟩
      · have : ¬ pj (pz_oi (some k)) = pj (pz_oi v2.1) := fun q => cc (pz_oi_inj ((pj_eq (by rw [ho] at bx; omega) (by omega)).1 q))
        rw [if_neg this, if_neg (fun q => cc q.2)]
        exact ⟨M3, rfl, H3, rfl⟩
  obtain ⟨M4, m1, H4, e4⟩ := hmid
  show pw ((if pj (pz_oi v1.1) < 0 then (some M3) else (if pj (pz_oi v1.1) = pj (pz_oi v2.1) then ((gp_X3_tell w c M3 3 (M2.1.1 3 3)).bind fun M54 => some M54) else (some M3))).bind _) _
  rw [m1, Option.bind_some]
  refine pk_sel (Q := pk_QT b p K w c r M0) (pk_num (w := w) H4 (lo := 0) (hi := 9) (by omega)) (fun q M' hq => ⟨rfl, hq⟩) (fun v3 y3 M5 _ hv => ?_)
  obtain ⟨rfl, H5, e5, k5, q5⟩ := hv
  have hT5 : pk_T w M0.2.1.2.1 X M5 := pk_T_eq (e5.trans e4) hT3
  have hrm5 : pk_rm r v3.2.2 M5 := by rw [q5]; exact pk_rm_go r3 (e5.trans e4) 1
  -- laid both ways
  have hfin : ∀ (M7 : ps_S) (X7 : pz_X), X7.1 = X.1 → X7.2.1 = X.2.1 → X7.2.2.2 = X.2.2.2 → X7.2.2.1 = pz_lk2 X.2.2.1 v1.1 v2.1 v3.1 → pk_H b p K c r M0 v3.2.1 v3.2.2 M7 → pk_T w M0.2.1.2.1 X7 M7 → M7.2.2 = M5.2.2 → pw ((ps_tx M7).bind fun y43 => (ps_gI c M7 y43 4 8 3).bind fun x44 => (ps_pV c M7 y43 4 8 3 (.int (x44 + 1))).bind fun M45 => some ((some () : Option Unit), M45)) (pk_QT b p K w c r M0 (Sum.inr ((X.1, X.2.1 + 1, pz_lk2 X.2.2.1 v1.1 v2.1 v3.1, X.2.2.2), v3.2.1, v3.2.2))) := by
    intro M7 X7 x1' x2' x3' x4' H7 hT7 e7
    obtain ⟨x, l, la, lk, F, G, LF, KF, g⟩ := hT7
    obtain ⟨t1, t2, t3, t4, t5⟩ := pk_TT_rd hc0 g
    have hp := pk_pV (c := c) (k := 3) (.int (pj (X7.2.1 : Nat) + 1)) (by have := g.2.1.1; omega) H7.2.1.2.1.2 g.2.1.2
    rw [t1, Option.bind_some, t4, Option.bind_some, hp, Option.bind_some, pw_some]
    obtain ⟨f0, f1, f2, f3, f4⟩ := g.2.2.2.2.2.1
    refine ⟨(), rfl, pk_H_up H7 g.2.1.1.1 _, ⟨x, l, la, lk, _, G, LF, KF, pk_TT_x (X' := (X.1, X.2.1 + 1, pz_lk2 X.2.2.1 v1.1 v2.1 v3.1, X.2.2.2)) g ⟨?_, ?_, ?_, ?_, fun j h1 h2 => ?_⟩ x1'.symm x4'.symm (by rw [x3'])⟩, ?_, by show X.2.1 + 1 ≤ 20; omega⟩
    · rw [updV_n (by omega)]; exact f0
    · rw [updV_n (by omega)]; exact f1
    · rw [updV_n (by omega)]; exact f2
    · rw [updV_s, pj_1, pj_add, x2']; rfl
    · rw [updV_n (by omega), f4 j h1 h2, x3']
    · obtain ⟨s1, s2, s3, s4⟩ := pk_rm_d hrm5
      refine ⟨?_, ?_, s3, s4⟩
      · show r.1 ≤ M7.2.2.2.1 + 12 * v3.2.2 + 8
        rw [e7]; exact s1
      · show r.2 ≤ M7.2.2.2.2 + 60 * v3.2.2 + 28
        rw [e7]; exact s2
  show pw ((if pj (pz_oi v1.1) < 0 then (some M5) else (if pj (pz_oi v2.1) < 0 then (some M5) else ((ps_tx M5).bind fun y50 => (ps_gR c M5 y50 4 8 2).bind fun y51 => (ps_aR c M5 y51 10 (pj (pz_oi v1.1))).bind fun y52 => (ps_pA c M5 y52 0 (pj (pz_oi v2.1)) (.int (pj (v3.1 : Nat)))).bind fun M53 => some M53))).bind fun (p41 : ps_S) =>
      (if pj (pz_oi v1.1) < 0 then (some p41)
      else (if pj (pz_oi v2.1) < 0 then (some p41)
      else ((ps_tx p41).bind fun y46 =>
      (ps_gR c p41 y46 4 8 2).bind fun y47 =>
      (ps_aR c p41 y47 10 (pj (pz_oi v2.1))).bind fun y48 =>
      (ps_pA c p41 y48 0 (pj (pz_oi v1.1)) (.int (pj (v3.1 : Nat)))).bind fun M49 =>
      some M49))).bind fun (p42 : ps_S) =>
      (ps_tx p42).bind fun y43 =>
      (ps_gI c p42 y43 4 8 3).bind fun x44 =>
      (ps_pV c p42 y43 4 8 3 (.int (x44 + 1))).bind fun M45 =>
      some ((some () : Option Unit), M45)) _
  cases ho : v1.1 with
  | none =>
    have hlt := (py_lt0 (z := pz_oi none) (by decide)).2 (by decide)
    rw [if_pos hlt, Option.bind_some, if_pos hlt, Option.bind_some]
    have := hfin M5 X rfl rfl rfl (by rw [ho]; rfl) H5 hT5 rfl
    rw [ho] at this
    exact this
  | some i =>
    have hi := hx i ho
    have hnlt : ¬ pj (pz_oi (some i)) < 0 := by rw [py_lt0 (by show -1 ≤ ((i : Nat) : Int) ∧ ((i : Nat) : Int) < 1000; omega)]; show ¬ ((i : Nat) : Int) < 0; omega
    rw [if_neg hnlt]
    cases ho2 : v2.1 with
    | none =>
      have hlt := (py_lt0 (z := pz_oi none) (by decide)).2 (by decide)
      rw [if_pos hlt, Option.bind_some, if_neg hnlt, if_pos hlt, Option.bind_some]
      have := hfin M5 X rfl rfl rfl (by rw [ho, ho2]; rfl) H5 hT5 rfl
      rw [ho, ho2] at this
      exact this
    | some j =>
      have hj := hy j ho2
      have hnlt2 : ¬ pj (pz_oi (some j)) < 0 := by rw [py_lt0 (by show -1 ≤ ((j : Nat) : Int) ∧ ((j : Nat) : Int) < 1000; omega)]; show ¬ ((j : Nat) : Int) < 0; omega
      obtain ⟨M6, s1, s2, s3, s4⟩ := pk_lay (i := i) (j := j) (v := v3.1) hb0 H5 hT5 ⟨hi, hj⟩
      obtain ⟨M7, s5, s6, s7, s8⟩ := pk_lay (i := j) (j := i) (v := v3.1) hb0 s2 s3 ⟨hj, hi⟩
      have s1' : ((ps_tx M5).bind fun y50 => (ps_gR c M5 y50 4 8 2).bind fun y51 => (ps_aR c M5 y51 10 (pj (pz_oi (some i)))).bind fun y52 => (ps_pA c M5 y52 0 (pj (pz_oi (some j))) (.int (pj (v3.1 : Nat)))).bind fun M53 => some M53) = some M6 := s1
      have s5' : ((ps_tx M6).bind fun y50 => (ps_gR c M6 y50 4 8 2).bind fun y51 => (ps_aR c M6 y51 10 (pj (pz_oi (some j)))).bind fun y52 => (ps_pA c M6 y52 0 (pj (pz_oi (some i))) (.int (pj (v3.1 : Nat)))).bind fun M53 => some M53) = some M7 := s5
      rw [if_neg hnlt2, s1', Option.bind_some, if_neg hnlt, if_neg hnlt2, s5', Option.bind_some]
      have := hfin M7 (X.1, X.2.1, pz_up2 (pz_up2 X.2.2.1 i j v3.1) j i v3.1, X.2.2.2) rfl rfl rfl (by rw [ho, ho2]; rfl) s6 s7 (s8.trans s4)
      rw [ho, ho2] at this
      exact this
end TE
/-! one row; all rows, by the component -/
section TG
variable {b : Nat → Int} {p : Nat} {K : List pz_T} {w : Nat → Nat} {c : Nat} {r : Nat × Nat} {M0 M : ps_S} {wst : Nat × Nat} {a : Nat} {X : pz_X} {FE : Nat → Value}
theorem pk_told (h : pk_H b p K c r M0 wst a M) (hb0 : pk_b c M0) (hT : pk_T w M0.2.1.2.1 X M) (hr : pk_rm r a M) (h20 : X.2.1 ≤ 20) (hE : M0.2.1.2.2 (w 100) = some (73, 0, FE)) (hE2 : w 100 < M0.2.1.2.1 ∧ ¬ (c ≤ w 100 ∧ w 100 < c + 561 ∧ ¬ (c + 10 ≤ w 100 ∧ w 100 < c + 20))) :
    pw (gp_X3_told w c M) (pk_QT b p K w c r M0 (pz_told b K X wst a)) := by
  obtain ⟨hb1, hb2, hb3⟩ := pk_C_K h.2.1
  have hs := pc_st_bd (pz_kd K a)
  unfold gp_X3_told pz_told
  by_cases d3 : pz_kd K a = 3
  · obtain ⟨M', e, hF⟩ := pk_sortBad (w := w) h.2.1 d3
    rw [e, if_neg (by omega), if_neg (by omega), if_neg (by omega), if_neg (by omega), if_neg (by omega), if_neg (by omega), if_neg (by omega)]
    exact (pw_some _ _).2 ⟨rfl, pk_F_le h.1 hF⟩
  rw [pk_sortOk h.2.1 d3, Option.bind_some]
  show pw ((if pj (pc_st (pz_kd K a) : Nat) = 3 then ((zs_ald 2001 (M.1.2 2 6) (M.1.1 3 3)).bind fun x87 => some x87) else some (-1)).bind _) _
  have hp3 : (if pj (pc_st (pz_kd K a) : Nat) = 3 then ((zs_ald 2001 (M.1.2 2 6) (M.1.1 3 3)).bind fun x87 => some x87) else some (-1)) = some (pj (if 20 ≤ pz_kd K a then ((pz_kd K a - 20 : Nat) : Int) else -1)) := by
    by_cases d20 : 20 ≤ pz_kd K a
    · have hw : pc_wh (pz_kd K a) = pz_kd K a - 20 := by
        unfold pc_wh; repeat' split
        all_goals omega
      rw [if_pos (by rw [show (3 : Int32) = pj ((3 : Nat) : Int) from rfl, pj_eqN (by omega), pc_st3]; exact d20), pk_ald6 h.2.1 (by omega), if_pos d20, hw]; rfl
    · rw [if_neg (by rw [show (3 : Int32) = pj ((3 : Nat) : Int) from rfl, pj_eqN (by omega), pc_st3]; exact d20), if_neg d20]; rfl
  rw [hp3, Option.bind_some]
  have hz : ∃ z : Int, (if 20 ≤ pz_kd K a then ((pz_kd K a - 20 : Nat) : Int) else -1) = z ∧ (-1 ≤ z ∧ z ≤ 21) ∧ ∀ v : Nat, v ≤ 21 → (z = (v : Nat) ↔ pz_kd K a = 20 + v) := by
    refine ⟨_, rfl, ?_, fun v hv => ?_⟩
    · split <;> omega
    · split <;> omega
  obtain ⟨z, hz1, hz2, hz3⟩ := hz
  rw [hz1]
  have hcmp : ∀ v : Nat, v ≤ 21 → (pj z = pj (v : Nat) ↔ pz_kd K a = 20 + v) := fun v hv => by
    rw [pj_eq (by omega) (by omega)]; exact hz3 v hv
  rw [pw_let]
  dsimp only
  by_cases dl : 24 ≤ pz_kd K a ∧ pz_kd K a ≤ 27
  · have hzz : z = ((pz_kd K a - 20 : Nat) : Int) := by rw [← hz1, if_pos (by omega)]
    rw [if_neg (show ¬ pj z < 4 by rw [show (4 : Int32) = pj 4 from rfl, pj_lt (by omega) (by omega)]; omega), if_neg (show ¬ 7 < pj z by rw [show (7 : Int32) = pj 7 from rfl, pj_lt (by omega) (by omega)]; omega), if_neg (by omega), if_neg (by omega), if_neg (by omega), if_neg (by omega), if_neg (by omega), if_neg (by omega), if_pos dl]
    exact pk_tlaw h hb0 hT hr h20 (k := pz_kd K a - 24) (by omega) (by omega) (by rw [hzz, show (4 : Int32) = pj 4 from rfl, pj_sub]; congr 1; omega)
  have hJ : pw (if pj z = 0 then ((ps_tx M).bind fun y5 =>
      (ps_gR c M y5 4 8 0).bind fun y6 =>
      (ps_ck c M y6 17).bind fun _ =>
      (gp_J5_size w c M y6).bind fun x8 =>
      (gp_X3_begins w c M x8 6).bind (zx_sel (fun M10 => ((none : Option Unit), M10)) fun (p9 : Unit × ps_S) =>
      (ps_nw p9.2 (16, 3, fun k => defaultValue (tyX16 k)) 3).bind fun z11 =>
      (gp_X3_name w c z11.2).bind (zx_sel (fun M13 => (none, M13)) fun (p12 : Nat × ps_S) =>
      (gp_X16_init w c p12.2 z11.1 p12.1).bind fun M14 =>
      (gp_X3_number w c M14 0 20).bind (zx_sel (fun M16 => (none, M16)) fun (p15 : Int32 × ps_S) =>
      (ps_pV c p15.2 z11.1 16 3 1 (.int p15.1)).bind fun M17 =>
      (gp_X3_number w c M17 1 99).bind (zx_sel (fun M19 => (none, M19)) fun (p18 : Int32 × ps_S) =>
      (ps_pV c p18.2 z11.1 16 3 2 (.int p18.1)).bind fun M20 =>
      (ps_tx M20).bind fun y21 =>
      (ps_gR c M20 y21 4 8 0).bind fun y22 =>
      (ps_ck c M20 y22 17).bind fun _ =>
      (gp_J5_add w c M20 y22 z11.1).bind fun p24 =>
      some (some (), p24.2))))))
      else if pj z = 1 then ((ps_tx M).bind fun y25 =>
      (ps_gI c M y25 4 8 3).bind fun x26 =>
      (gp_X3_begins w c M x26 20).bind (zx_sel (fun M28 => ((none : Option Unit), M28)) fun (p27 : Unit × ps_S) =>
      (ps_tx p27.2).bind fun y29 =>
      (ps_gR c p27.2 y29 4 8 0).bind fun y30 =>
      (gp_X3_known w c p27.2 y30).bind (zx_sel (fun M32 => (none, M32)) fun (p31 : Int32 × ps_S) =>
      (some (p31.2.1.1 3 3)).bind fun x33 =>
      (ps_tx p31.2).bind fun y34 =>
      (ps_gR c p31.2 y34 4 8 0).bind fun y35 =>
      (gp_X3_known w c p31.2 y35).bind (zx_sel (fun M37 => (none, M37)) fun (p36 : Int32 × ps_S) =>
      (if p31.1 < 0 then (some p36.2)
      else (if p31.1 = p36.1 then ((gp_X3_tell w c p36.2 3 x33).bind fun M54 =>
      some M54)
      else (some p36.2))).bind fun (p38 : ps_S) =>
      (gp_X3_number w c p38 0 9).bind (zx_sel (fun M40 => (none, M40)) fun (p39 : Int32 × ps_S) =>
      (if p31.1 < 0 then (some p39.2)
      else (if p36.1 < 0 then (some p39.2)
      else ((ps_tx p39.2).bind fun y50 =>
      (ps_gR c p39.2 y50 4 8 2).bind fun y51 =>
      (ps_aR c p39.2 y51 10 p31.1).bind fun y52 =>
      (ps_pA c p39.2 y52 0 p36.1 (.int p39.1)).bind fun M53 =>
      some M53))).bind fun (p41 : ps_S) =>
      (if p31.1 < 0 then (some p41)
      else (if p36.1 < 0 then (some p41)
      else ((ps_tx p41).bind fun y46 =>
      (ps_gR c p41 y46 4 8 2).bind fun y47 =>
      (ps_aR c p41 y47 10 p36.1).bind fun y48 =>
      (ps_pA c p41 y48 0 p31.1 (.int p39.1)).bind fun M49 =>
      some M49))).bind fun (p42 : ps_S) =>
      (ps_tx p42).bind fun y43 =>
      (ps_gI c p42 y43 4 8 3).bind fun x44 =>
      (ps_pV c p42 y43 4 8 3 (.int (x44 + 1))).bind fun M45 =>
      some (some (), M45))))))
      else if pj z = 2 then ((gp_X3_pass w c M).bind (zx_sel (fun M56 => ((none : Option Unit), M56)) fun (p55 : Unit × ps_S) =>
      (ps_tx p55.2).bind fun y57 =>
      (gp_X3_number w c p55.2 1 99).bind (zx_sel (fun M59 => (none, M59)) fun (p58 : Int32 × ps_S) =>
      (ps_pV c p58.2 y57 4 8 4 (.int p58.1)).bind fun M60 =>
      some (some (), M60))))
      else if pj z = 3 then ((gp_X3_pass w c M).bind (zx_sel (fun M62 => ((none : Option Unit), M62)) fun (p61 : Unit × ps_S) =>
      (ps_tx p61.2).bind fun y63 =>
      (gp_X3_number w c p61.2 0 99).bind (zx_sel (fun M65 => (none, M65)) fun (p64 : Int32 × ps_S) =>
      (ps_pV c p64.2 y63 4 8 5 (.int p64.1)).bind fun M66 =>
      some (some (), M66))))
      else if pj z = 8 then ((gp_X3_pass w c M).bind (zx_sel (fun M68 => ((none : Option Unit), M68)) fun (p67 : Unit × ps_S) =>
      (ps_tx p67.2).bind fun y69 =>
      (gp_X3_number w c p67.2 0 100).bind (zx_sel (fun M71 => (none, M71)) fun (p70 : Int32 × ps_S) =>
      (ps_pV c p70.2 y69 4 8 6 (.int p70.1)).bind fun M72 =>
      some (some (), M72))))
      else if pj z = 9 then ((gp_X3_pass w c M).bind (zx_sel (fun M74 => ((none : Option Unit), M74)) fun (p73 : Unit × ps_S) =>
      (ps_tx p73.2).bind fun y75 =>
      (gp_X3_number w c p73.2 0 9999).bind (zx_sel (fun M77 => (none, M77)) fun (p76 : Int32 × ps_S) =>
      (ps_pV c p76.2 y75 4 8 7 (.int p76.1)).bind fun M78 =>
      some (some (), M78))))
      else ((gp_X3_wrong w c M 1).bind fun p79 =>
      some (none, p79.2))) (pk_QT b p K w c r M0 (if pz_kd K a = 20 then (if X.1.length = 6 then Sum.inl (2, pz_fr K a) else pz_bd (pz_ps K a) fun a1 => pz_ho b K X wst a1)
      else if pz_kd K a = 21 then (if X.2.1 = 20 then Sum.inl (2, pz_fr K a) else pz_bd (pz_ps K a) fun a1 => pz_li b K X wst a1)
      else if pz_kd K a = 22 then pz_bd (pz_ps K a) fun a1 => pz_fi K X wst 4 1 99 a1
      else if pz_kd K a = 23 then pz_bd (pz_ps K a) fun a1 => pz_fi K X wst 5 0 99 a1
      else if pz_kd K a = 28 then pz_bd (pz_ps K a) fun a1 => pz_fi K X wst 6 0 100 a1
      else if pz_kd K a = 29 then pz_bd (pz_ps K a) fun a1 => pz_fi K X wst 7 0 9999 a1
      else Sum.inl (1, pz_fr K a))) := by
    have q0 : pj z = 0 ↔ pz_kd K a = 20 + 0 := hcmp 0 (by omega)
    have q1 : pj z = 1 ↔ pz_kd K a = 20 + 1 := hcmp 1 (by omega)
    have q2 : pj z = 2 ↔ pz_kd K a = 20 + 2 := hcmp 2 (by omega)
    have q3 : pj z = 3 ↔ pz_kd K a = 20 + 3 := hcmp 3 (by omega)
    have q8 : pj z = 8 ↔ pz_kd K a = 20 + 8 := hcmp 8 (by omega)
    have q9 : pj z = 9 ↔ pz_kd K a = 20 + 9 := hcmp 9 (by omega)
    by_cases e0 : pz_kd K a = 20
    · rw [if_pos (q0.2 e0), if_pos e0]
      exact pk_thouse h hb0 hT hr h20 e0 hE hE2
    rw [if_neg (fun q => e0 (q0.1 q)), if_neg e0]
    by_cases e1 : pz_kd K a = 21
    · rw [if_pos (q1.2 e1), if_pos e1]
      exact pk_tlikes h hb0 hT hr h20 e1
    rw [if_neg (fun q => e1 (q1.1 q)), if_neg e1]
    by_cases e2 : pz_kd K a = 22
    · rw [if_pos (q2.2 e2), if_pos e2]
      exact pk_fi h hb0 hT hr h20 (by omega) (lo := 1) (hi := 99) (k := 4) (by omega) (by omega)
    rw [if_neg (fun q => e2 (q2.1 q)), if_neg e2]
    by_cases e3 : pz_kd K a = 23
    · rw [if_pos (q3.2 e3), if_pos e3]
      exact pk_fi h hb0 hT hr h20 (by omega) (lo := 0) (hi := 99) (k := 5) (by omega) (by omega)
    rw [if_neg (fun q => e3 (q3.1 q)), if_neg e3]
    by_cases e8 : pz_kd K a = 28
    · rw [if_pos (q8.2 e8), if_pos e8]
      exact pk_fi h hb0 hT hr h20 (by omega) (lo := 0) (hi := 100) (k := 6) (by omega) (by omega)
    rw [if_neg (fun q => e8 (q8.1 q)), if_neg e8]
    by_cases e9 : pz_kd K a = 29
    · rw [if_pos (q9.2 e9), if_pos e9]
      exact pk_fi h hb0 hT hr h20 (by omega) (lo := 0) (hi := 9999) (k := 7) (by omega) (by omega)
    rw [if_neg (fun q => e9 (q9.1 q)), if_neg e9]
    obtain ⟨M', e, hF⟩ := pk_wrong (w := w) h.2.1 1
    have e : gp_X3_wrong w c M 1 = some ((), M') := e
    rw [e]
    exact (pw_some _ _).2 ⟨rfl, pk_F_le h.1 hF⟩
  rw [if_neg (show ¬ (24 ≤ pz_kd K a ∧ pz_kd K a ≤ 27) from dl)]
  by_cases c1 : pj z < 4
  · rw [if_pos c1]; exact hJ
  · rw [if_neg c1]
    rw [show (4 : Int32) = pj 4 from rfl, pj_lt (by omega) (by omega)] at c1
    have h7 : 7 < pj z := by
      rw [show (7 : Int32) = pj 7 from rfl, pj_lt (by omega) (by omega), ← hz1]
      split <;> omega
    rw [if_pos h7]; exact hJ
def pk_QL (b : Nat → Int) (p : Nat) (K : List pz_T) (w : Nat → Nat) (c : Nat) (r : Nat × Nat) (M0 : ps_S) (res : pz_R (pz_X × (Nat × Nat))) (s : ps_S ⊕ (Option Nat × ps_S)) : Prop := Sum.elim (fun q => ∃ M', s = Sum.inr (none, M') ∧ pk_F r M0 q.1 q.2 M') (fun v => ∃ M' a', s = Sum.inl M' ∧ pk_H b p K c r M0 v.2 a' M' ∧ pk_T w M0.2.1.2.1 v.1 M') res
def pk_QB (b : Nat → Int) (p : Nat) (K : List pz_T) (w : Nat → Nat) (c : Nat) (r : Nat × Nat) (M0 : ps_S) (res : pz_R (pz_X × (Nat × Nat) × Nat)) (s : ps_S ⊕ (ps_S ⊕ (Option Nat × ps_S))) : Prop := Sum.elim (fun q => ∃ M', s = Sum.inr (Sum.inr (none, M')) ∧ pk_F r M0 q.1 q.2 M') (fun v => ∃ M', s = Sum.inl M' ∧ pk_H b p K c r M0 v.2.1 v.2.2 M' ∧ pk_T w M0.2.1.2.1 v.1 M' ∧ pk_rm r v.2.2 M' ∧ v.1.2.1 ≤ 20) res
theorem pk_row (h : pk_H b p K c r M0 wst a M) (hb0 : pk_b c M0) (hT : pk_T w M0.2.1.2.1 X M) (hr : pk_rm r a M) (h20 : X.2.1 ≤ 20) (hE : M0.2.1.2.2 (w 100) = some (73, 0, FE)) (hE2 : w 100 < M0.2.1.2.1 ∧ ¬ (c ≤ w 100 ∧ w 100 < c + 561 ∧ ¬ (c + 10 ≤ w 100 ∧ w 100 < c + 20))) (hk : pz_kd K a ≠ 0) :
    pw (g_X3_read_L33 w c M) (pk_QB b p K w c r M0 (pz_tell b K X wst a)) := by
  have hs := pc_st_bd (pz_kd K a)
  unfold g_X3_read_L33 pz_tell
  by_cases d3 : pz_kd K a = 3
  · obtain ⟨M', e, hF⟩ := pk_sortBad (w := w) h.2.1 d3
    rw [e]
    unfold pz_told
    rw [if_neg (by omega), if_neg (by omega), if_neg (by omega), if_neg (by omega), if_neg (by omega), if_neg (by omega), if_neg (by omega)]
    exact (pw_some _ _).2 ⟨M', rfl, pk_F_le h.1 hF⟩
  rw [pk_sortOk h.2.1 d3, Option.bind_some]
  show pw (if pj (pc_st (pz_kd K a) : Nat) = 4 then _ else _) _
  rw [if_neg (by rw [show (4 : Int32) = pj ((4 : Nat) : Int) from rfl, pj_eqN (by omega), pc_st4]; exact hk)]
  refine pk_sel (Q := pk_QB b p K w c r M0) (pk_told (w := w) h hb0 hT hr h20 hE hE2) (fun q M' hq => ⟨M', rfl, hq⟩) (fun v u M1 _ hv => ?_)
  obtain ⟨H1, T1, R1, l20⟩ := hv
  unfold pz_sc
  refine pk_sel (Q := pk_QB b p K w c r M0) (pk_H_sign (w := w) H1 (k := 4) (by omega)) (fun q M' hq => ⟨M', rfl, hq⟩) (fun e u M2 _ hv => ?_)
  obtain ⟨rfl, H2, e2, k2⟩ := hv
  obtain ⟨r1, r2, r3, r4⟩ := R1
  refine (pw_some _ _).2 ⟨M2, rfl, H2, pk_T_eq e2 T1, ⟨?_, ?_, r3, r4⟩, l20⟩
  · show r.1 ≤ M2.2.2.2.1 + 12 * (v.2.2 + 1)
    rw [e2]; omega
  · show r.2 ≤ M2.2.2.2.2 + 60 * (v.2.2 + 1)
    rw [e2]; omega
theorem pk_rows (hb0 : pk_b c M0) (hE : M0.2.1.2.2 (w 100) = some (73, 0, FE)) (hE2 : w 100 < M0.2.1.2.1 ∧ ¬ (c ≤ w 100 ∧ w 100 < c + 561 ∧ ¬ (c + 10 ≤ w 100 ∧ w 100 < c + 20))) : ∀ (n : Nat) (X : pz_X) (wst : Nat × Nat) (a : Nat) (M : ps_S) (f : Nat), 401 ≤ a + n → n < f → pk_H b p K c r M0 wst a M → pk_T w M0.2.1.2.1 X M → pk_rm r a M → X.2.1 ≤ 20 →
    pw (zs_loop f (g_X3_read_L33 w c) M) (pk_QL b p K w c r M0 (pz_all b K n X wst a))
  | 0, X, wst, a, M, f, h1, h2, h, _, _, _ => absurd h.2.1.2.2.2.2.2.1 (by omega)
  | n + 1, X, wst, a, M, f, h1, h2, h, hT, hr, h20 => by
    obtain ⟨f, rfl⟩ : ∃ g, f = g + 1 := ⟨f - 1, by omega⟩
    have hs := pc_st_bd (pz_kd K a)
    show pw ((g_X3_read_L33 w c M).bind fun s => Sum.elim (fun t' => zs_loop f (g_X3_read_L33 w c) t') some s) _
    unfold pz_all
    by_cases hk : pz_kd K a = 0
    · rw [if_pos hk]
      have hbody : g_X3_read_L33 w c M = some (Sum.inr (Sum.inl M)) := by
        unfold g_X3_read_L33
        rw [pk_sortOk h.2.1 (by omega), Option.bind_some]
        show (if pj (pc_st (pz_kd K a) : Nat) = 4 then _ else _) = _
        rw [if_pos (by rw [show (4 : Int32) = pj ((4 : Nat) : Int) from rfl, pj_eqN (by omega), pc_st4]; exact hk)]
      rw [hbody]
      exact (pw_some _ _).2 ⟨M, a, rfl, h, hT⟩
    · rw [if_neg hk]
      refine pw_seq (pk_row (w := w) h hb0 hT hr h20 hE hE2 hk) (fun s hs => ?_)
      cases ht : pz_tell b K X wst a with
      | inl q =>
        rw [ht] at hs
        obtain ⟨M', rfl, hF⟩ := hs
        exact (pw_some _ _).2 ⟨M', rfl, hF⟩
      | inr v =>
        rw [ht] at hs
        obtain ⟨M', rfl, q1, q2, q3, q4⟩ := hs
        have := pz_tell_lt h.2.1.1.2.1.1 ht
        exact pk_rows hb0 hE hE2 n v.1 v.2.1 v.2.2 M' f (by omega) (by omega) q1 q2 q3 q4
end TG
