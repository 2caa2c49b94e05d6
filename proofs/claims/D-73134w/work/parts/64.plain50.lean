set_option maxRecDepth 100000
/-! who would give, by the model -/
/-- the model's state in which givers are told -/
def pm_V2 (T : zt_T) (s : Nat) (V : pv_V) (Z : zm_S) : Prop := pm_T T s Z ∧ pv_row (Z.2.1 48) V ∧ ∀ h, h < 6 → Z.2.1 55 h = pj (pv_lg V h)
theorem pm_V2_e {T : zt_T} {s : Nat} {V : pv_V} {Z Z' : zm_S} (h : pm_e Z Z') (g : pm_V2 T s V Z) : pm_V2 T s V Z' := ⟨pm_T_e h g.1, pm_row_e h g.2.1, by rw [h.2.1 55 (by decide) (by decide)]; exact g.2.2⟩
theorem pm_givers {T : zt_T} {s : Nat} {V : pv_V} {Z : zm_S} (ho : pv_ok (zt_n T) V) (hZ : pm_V2 T s V Z) : gm_givesBits Z = some (pj (pg_G V : Nat)) := by
  unfold gm_givesBits
  have : zs_loop 5000 (gm_givesBits_L4 Z) (pj 0, pj 0) = some (pj (pg_G V : Nat)) := by
    refine pw_forE 6 (fun k => (pj (pb_set (fun h => decide (0 < pv_lg V h)) k : Nat), pj (k : Nat))) 5000 (by omega) ?_ ?_
    · intro k hk
      have hlt : (k : Int) < 6 := by omega
      have hb := pv_lg_bd ho hk
      have c := hZ.2.2 k hk
      have hp := pb_step2 (fun h => decide (0 < pv_lg V h)) (k := k) hk
      unfold gm_givesBits_L4
      simp (disch := omega) only [pj_lit, pj_add, pj_sub, pj_neg, pj_mul, pj_lt, pj_eq, pj_nat, pj_ald, pj_ast, pj_ix, pw_bind, pw_ite, pw_some, pw_none, pw_let, Option.bind_some, Int.toNat_natCast, Sum.elim_inl, Sum.elim_inr, Int.cast_ofNat_Int, Int.reduceLT, Int.reduceLE, Int.reduceEq, Int.reduceAdd, Int.reduceSub, Int.reduceMul, Int.reduceNeg, Int.reduceToNat, Nat.reduceAdd, Nat.reduceSub, Nat.reduceMul, Nat.reduceEqDiff, Nat.reduceLT, reduceIte, reduceCtorEq, true_and, and_true, forall_const, not_true_eq_false, not_false_eq_true, false_implies, implies_true, hlt, c, ← hp]
      by_cases q : 0 < pv_lg V k
      · rw [if_pos q, if_pos (decide_eq_true q)]; rfl
      · rw [if_neg q, if_neg (by simpa using q)]; rfl
    · unfold gm_givesBits_L4
      simp (disch := omega) only [pj_lit, pj_add, pj_sub, pj_neg, pj_mul, pj_lt, pj_eq, pj_nat, pj_ald, pj_ast, pj_ix, pw_bind, pw_ite, pw_some, pw_none, pw_let, Option.bind_some, Int.toNat_natCast, Sum.elim_inl, Sum.elim_inr, Int.cast_ofNat_Int, Int.reduceLT, Int.reduceLE, Int.reduceEq, Int.reduceAdd, Int.reduceSub, Int.reduceMul, Int.reduceNeg, Int.reduceToNat, Nat.reduceAdd, Nat.reduceSub, Nat.reduceMul, Nat.reduceEqDiff, Nat.reduceLT, reduceIte, reduceCtorEq, true_and, and_true, forall_const, not_true_eq_false, not_false_eq_true, false_implies, implies_true, Int.lt_irrefl]
      rfl
  rw [pj_0, this]; rfl
theorem pm_isEnough {T : zt_T} {s : Nat} {V : pv_V} {Z : zm_S} (hT : pt_ok T) (ho : pv_ok (zt_n T) V) (hZ : pm_V2 T s V Z) {S : Nat} (hS : S < 64) : gm_isEnough Z (pj S) = some (pg_en T V S) := by
  have hb := pg_sum_bd ho S
  have hf := hT.2.2.2.1
  have e27 := hZ.1.2.2.2.2.2.1
  have hs := hZ.1.1
  unfold gm_isEnough
  have : zs_loop 5000 (gm_isEnough_L4 (pj S) Z) (pj 0, pj 0) = some (pj (pg_sum V S)) := by
    refine pw_forE 6 (fun k => (pj (pv_sm (fun h => if S.testBit h then pv_lg V h else 0) k), pj (k : Nat))) 5000 (by omega) ?_ ?_
    · intro k hk
      have hlt : (k : Int) < 6 := by omega
      have c := hZ.2.2 k hk
      show gm_isEnough_L4 (pj S) Z (pj (pv_sm (fun h => if S.testBit h then pv_lg V h else 0) k), pj (k : Nat)) = some (Sum.inl (pj (pv_sm (fun h => if S.testBit h then pv_lg V h else 0) k + if S.testBit k then pv_lg V k else 0), pj ((k + 1 : Nat) : Int)))
      generalize pv_sm (fun h => if S.testBit h then pv_lg V h else 0) k = acc
      unfold gm_isEnough_L4
      simp (disch := omega) only [pj_lit, pj_add, pj_sub, pj_neg, pj_mul, pj_lt, pj_eq, pj_nat, pj_ald, pj_ast, pj_ix, pw_bind, pw_ite, pw_some, pw_none, pw_let, Option.bind_some, Int.toNat_natCast, Sum.elim_inl, Sum.elim_inr, Int.cast_ofNat_Int, Int.reduceLT, Int.reduceLE, Int.reduceEq, Int.reduceAdd, Int.reduceSub, Int.reduceMul, Int.reduceNeg, Int.reduceToNat, Nat.reduceAdd, Nat.reduceSub, Nat.reduceMul, Nat.reduceEqDiff, Nat.reduceLT, reduceIte, reduceCtorEq, true_and, and_true, forall_const, not_true_eq_false, not_false_eq_true, false_implies, implies_true, hlt, pj_bitx hS (show k < 6 by omega), c]
      by_cases q : S.testBit k = true
      · rw [if_pos q, if_pos q]; rfl
      · rw [if_neg q, if_neg q, Int.add_zero]; rfl
    · unfold gm_isEnough_L4
      simp (disch := omega) only [pj_lit, pj_add, pj_sub, pj_neg, pj_mul, pj_lt, pj_eq, pj_nat, pj_ald, pj_ast, pj_ix, pw_bind, pw_ite, pw_some, pw_none, pw_let, Option.bind_some, Int.toNat_natCast, Sum.elim_inl, Sum.elim_inr, Int.cast_ofNat_Int, Int.reduceLT, Int.reduceLE, Int.reduceEq, Int.reduceAdd, Int.reduceSub, Int.reduceMul, Int.reduceNeg, Int.reduceToNat, Nat.reduceAdd, Nat.reduceSub, Nat.reduceMul, Nat.reduceEqDiff, Nat.reduceLT, reduceIte, reduceCtorEq, true_and, and_true, forall_const, not_true_eq_false, not_false_eq_true, false_implies, implies_true, Int.lt_irrefl]
      rfl
  rw [pj_0, this, Option.bind_some, hZ.1.2.1]
  unfold pg_en
  simp (disch := omega) only [pj_lit, pj_add, pj_sub, pj_neg, pj_mul, pj_lt, pj_eq, pj_nat, pj_ald, pj_ast, pj_ix, pw_bind, pw_ite, pw_some, pw_none, pw_let, Option.bind_some, Int.toNat_natCast, Sum.elim_inl, Sum.elim_inr, Int.cast_ofNat_Int, Int.reduceLT, Int.reduceLE, Int.reduceEq, Int.reduceAdd, Int.reduceSub, Int.reduceMul, Int.reduceNeg, Int.reduceToNat, Nat.reduceAdd, Nat.reduceSub, Nat.reduceMul, Nat.reduceEqDiff, Nat.reduceLT, reduceIte, reduceCtorEq, true_and, and_true, forall_const, not_true_eq_false, not_false_eq_true, false_implies, implies_true, e27]
  by_cases q : pg_sum V S < pt_f T 4
  · rw [if_pos q, decide_eq_false (by omega)]
  · rw [if_neg q, decide_eq_true (by omega)]
theorem pm_hasOf {T : zt_T} {s : Nat} {V : pv_V} {Z : zm_S} (hT : pt_ok T) (ho : pv_ok (zt_n T) V) (hZ : pm_V2 T s V Z) {S h : Nat} (hS : S < 64) (hh : h < zt_n T) : pw (gm_hasOf Z (pj h) (pj S)) (fun p => p.1 = pj (pg_wo T V S h) ∧ pm_e Z p.2) := by
  have hn := ho.1
  have e28 := hZ.1.2.2.2.2.2.2.1
  have hs := hZ.1.1
  unfold gm_hasOf gm_givesCost pg_wo
  rw [pm_isEnough hT ho hZ hS, Option.bind_some, hZ.1.2.1]
  have e5 : (if pg_en T V S = true then (zs_ald 2 (Z.2.1 28) (pj s)).bind fun x4 => some x4 else some 0) = some (pj (if pg_en T V S = true then pt_f T 5 else 0)) := by
    split
    · simp (disch := omega) only [pj_lit, pj_add, pj_sub, pj_neg, pj_mul, pj_lt, pj_eq, pj_nat, pj_ald, pj_ast, pj_ix, pw_bind, pw_ite, pw_some, pw_none, pw_let, Option.bind_some, Int.toNat_natCast, Sum.elim_inl, Sum.elim_inr, Int.cast_ofNat_Int, Int.reduceLT, Int.reduceLE, Int.reduceEq, Int.reduceAdd, Int.reduceSub, Int.reduceMul, Int.reduceNeg, Int.reduceToNat, Nat.reduceAdd, Nat.reduceSub, Nat.reduceMul, Nat.reduceEqDiff, Nat.reduceLT, reduceIte, reduceCtorEq, true_and, and_true, forall_const, not_true_eq_false, not_false_eq_true, false_implies, implies_true, e28]
    · rfl
  rw [e5, Option.bind_some]
  generalize (if pg_en T V S = true then pt_f T 5 else 0) = u
  simp (disch := omega) only [pj_lit, pj_add, pj_sub, pj_neg, pj_mul, pj_lt, pj_eq, pj_nat, pj_ald, pj_ast, pj_ix, pw_bind, pw_ite, pw_some, pw_none, pw_let, Option.bind_some, Int.toNat_natCast, Sum.elim_inl, Sum.elim_inr, Int.cast_ofNat_Int, Int.reduceLT, Int.reduceLE, Int.reduceEq, Int.reduceAdd, Int.reduceSub, Int.reduceMul, Int.reduceNeg, Int.reduceToNat, Nat.reduceAdd, Nat.reduceSub, Nat.reduceMul, Nat.reduceEqDiff, Nat.reduceLT, reduceIte, reduceCtorEq, true_and, and_true, forall_const, not_true_eq_false, not_false_eq_true, false_implies, implies_true, pj_bitx hS (show h < 6 by omega), pm_has hZ.2.1 ho h (by omega), decide_eq_true_eq]
  refine ⟨fun q => ⟨fun q2 => ⟨?_, pm_e_rfl Z⟩, fun q2 => ?_⟩, fun q => ⟨?_, pm_e_rfl Z⟩⟩
  · rw [if_neg (fun z => z.2 q2)]
  · refine pw_mono (pm_costs hZ.1 hZ.2.1 ho hh) (fun p hp => ⟨?_, hp.2⟩)
    rw [hp.1, pj_sub, if_pos ⟨q, q2⟩]
  · rw [if_neg (fun z => q z.1)]
theorem pm_isRest {T : zt_T} {s : Nat} {V : pv_V} {Z : zm_S} (hT : pt_ok T) (ho : pv_ok (zt_n T) V) (hZ : pm_V2 T s V Z) {S : Nat} (hS : S < 64) : pw (gm_isRest Z (pj S)) (fun p => p.1 = pg_rs T V S ∧ pm_e Z p.2) := by
  have hn := ho.1
  unfold gm_isRest
  rw [pm_givers ho hZ, Option.bind_some]
  refine pw_seq (Q := fun p => p.1 = pg_rs T V S ∧ pm_e Z p.2) ?_ (fun M' h => (pw_some _ _).2 h)
  rw [pj_0]
  refine pw_for (zt_n T) (fun k t => ∃ M', t = (pj (k : Nat), M') ∧ pm_e Z M' ∧ ∀ j, j < k → (pg_G V).testBit j = true → pg_wo T V (S ^^^ 1 <<< j) j ≤ pg_wo T V S j) 5000 (by omega) ?_ ?_ _ ⟨Z, rfl, pm_e_rfl Z, fun j hj => absurd hj (Nat.not_lt_zero j)⟩
  · rintro k t hk ⟨M1, rfl, h1, h2⟩
    have hlt : (k : Int) < (zt_n T : Nat) := by omega
    have hZ1 := pm_V2_e h1 hZ
    have e22 := hZ1.1.2.2.1
    have hs := hZ1.1.1
    have hx := pj_xor S hS (1 <<< k) (pg_shl (show k < 6 by omega))
    have hS2 := po_rem_lt hS (show k < 6 by omega)
    have w1 := pg_wo_bd hT ho S (show k < 6 by omega)
    have w2 := pg_wo_bd hT ho (S ^^^ 1 <<< k) (show k < 6 by omega)
    unfold gm_isRest_L7
    simp (disch := omega) only [pj_lit, pj_add, pj_sub, pj_neg, pj_mul, pj_lt, pj_eq, pj_nat, pj_ald, pj_ast, pj_ix, pw_bind, pw_ite, pw_some, pw_none, pw_let, Option.bind_some, Int.toNat_natCast, Sum.elim_inl, Sum.elim_inr, Int.cast_ofNat_Int, Int.reduceLT, Int.reduceLE, Int.reduceEq, Int.reduceAdd, Int.reduceSub, Int.reduceMul, Int.reduceNeg, Int.reduceToNat, Nat.reduceAdd, Nat.reduceSub, Nat.reduceMul, Nat.reduceEqDiff, Nat.reduceLT, reduceIte, reduceCtorEq, true_and, and_true, forall_const, not_true_eq_false, not_false_eq_true, false_implies, implies_true, hZ1.1.2.1, e22, hlt, pj_bitx (pg_G_lt V) (show k < 6 by omega), pj_shl1 k (show k < 7 by omega), hx]
    refine ⟨fun q => ?_, fun q => ⟨M1, rfl, h1, fun j hj hg => ?_⟩⟩
    · refine pw_mono (pm_hasOf hT ho hZ1 hS2 hk) (fun p hp => ?_)
      have h3 := pm_e_trans h1 hp.2
      refine pw_mono (pm_hasOf hT ho (pm_V2_e h3 hZ) hS hk) (fun p2 hp2 => ?_)
      have h4 := pm_e_trans h3 hp2.2
      simp (disch := omega) only [pj_lit, pj_add, pj_sub, pj_neg, pj_mul, pj_lt, pj_eq, pj_nat, pj_ald, pj_ast, pj_ix, pw_bind, pw_ite, pw_some, pw_none, pw_let, Option.bind_some, Int.toNat_natCast, Sum.elim_inl, Sum.elim_inr, Int.cast_ofNat_Int, Int.reduceLT, Int.reduceLE, Int.reduceEq, Int.reduceAdd, Int.reduceSub, Int.reduceMul, Int.reduceNeg, Int.reduceToNat, Nat.reduceAdd, Nat.reduceSub, Nat.reduceMul, Nat.reduceEqDiff, Nat.reduceLT, reduceIte, reduceCtorEq, true_and, and_true, forall_const, not_true_eq_false, not_false_eq_true, false_implies, implies_true, hp.1, hp2.1]
      refine ⟨fun c => ⟨(pg_rs_no hk q c).symm, h4⟩, fun c => ⟨p2.2, rfl, h4, fun j hj hg => ?_⟩⟩
      by_cases e : j = k
      · rw [e]; omega
      · exact h2 j (by omega) hg
    · by_cases e : j = k
      · rw [e] at hg; exact absurd hg q
      · exact h2 j (by omega) hg
  · rintro t ⟨M1, rfl, h1, h2⟩
    have hZ1 := pm_V2_e h1 hZ
    have e22 := hZ1.1.2.2.1
    have hs := hZ1.1.1
    unfold gm_isRest_L7
    simp (disch := omega) only [pj_lit, pj_add, pj_sub, pj_neg, pj_mul, pj_lt, pj_eq, pj_nat, pj_ald, pj_ast, pj_ix, pw_bind, pw_ite, pw_some, pw_none, pw_let, Option.bind_some, Int.toNat_natCast, Sum.elim_inl, Sum.elim_inr, Int.cast_ofNat_Int, Int.reduceLT, Int.reduceLE, Int.reduceEq, Int.reduceAdd, Int.reduceSub, Int.reduceMul, Int.reduceNeg, Int.reduceToNat, Nat.reduceAdd, Nat.reduceSub, Nat.reduceMul, Nat.reduceEqDiff, Nat.reduceLT, reduceIte, reduceCtorEq, true_and, and_true, forall_const, not_true_eq_false, not_false_eq_true, false_implies, implies_true, hZ1.1.2.1, e22, Int.lt_irrefl]
    exact ⟨(pg_rs_yes h2).symm, h1⟩
theorem pm_rests {T : zt_T} {s : Nat} {Z : zm_S} {V : pv_V} (hT : pt_ok T) (hm : pm_T T s Z) (ho : pv_ok (zt_n T) V) (hrow : pv_row (Z.2.1 47) V) (a : Int32) (ha : 0 ≤ a.toInt ∧ a.toInt ≤ 1) :
    pw (gm_rests Z a) (fun p => p.1 = (if a = 0 then pj ((pg_R T V 64).1 : Nat) else pj (pg_R T V 64).2) ∧ pm_k Z p.2) := by
  obtain ⟨Z1, eZ, hc⟩ := pm_copies hm ho hrow
  have hk1 := pm_c_k hc
  obtain ⟨hm1, hr1, -⟩ := hc
  unfold gm_rests
  rw [show gm_in a 0 1 = some (decide (0 ≤ a.toInt ∧ a.toInt ≤ 1)) from pm_isIn (lo := 0) (hi := 1) a (by omega) (by omega), decide_eq_true ha, Option.bind_some, if_pos rfl, eZ, Option.bind_some]
  refine pw_seq (pm_plan hT hm1 hr1 ho) (fun Z2 h2 => ?_)
  obtain ⟨hB, hPP, hq⟩ := h2
  have hk2 := pm_k_trans hk1 (pm_q_k hq)
  have hZ2 : pm_V2 T s V Z2 := ⟨hB.1, pm_row_q hq hr1, hB.2.1⟩
  refine pw_seq (Q := fun r : Int32 × Int32 × zm_S => r.1 = pj ((pg_R T V 64).1 : Nat) ∧ r.2.1 = pj (pg_R T V 64).2 ∧ pm_e Z2 r.2.2) ?_ ?_
  · refine pw_for 64 (fun k t => ∃ M', t = (pj ((pg_R T V k).1 : Nat), pj (pg_R T V k).2, pj (k : Nat), M') ∧ pm_e Z2 M') 5000 (by omega) ?_ ?_ _ ⟨Z2, rfl, pm_e_rfl Z2⟩
    · rintro k t hk ⟨M1, rfl, h1⟩
      have hlt : (k : Int) < 64 := by omega
      have hZ1 := pm_V2_e h1 hZ2
      have hb := pg_R_bd T V k
      have hnot := pg_not k (by omega) _ (pg_G_lt V)
      have hnl := pg_63 k (by omega) _ (pg_G_lt V)
      have hstep : pg_R T V (k + 1) = if pg_C T V k = true then ((pg_R T V k).1 + 1, if (pg_R T V k).2 < 0 ∨ po_pc k < po_pc (pg_R T V k).2.toNat then ((k : Nat) : Int) else (pg_R T V k).2) else pg_R T V k := rfl
      rw [hstep]
      unfold gm_rests_L27 pg_C
      generalize pg_R T V k = st at hb
      obtain ⟨m, b⟩ := st
      dsimp only at hb ⊢
      have hbc := pg_bits k (by omega)
      have hpk : po_pc k ≤ 6 := by
        have := List.countP_le_length (p := fun h => k.testBit h) (l := List.range 6)
        rw [List.length_range] at this
        exact this
      by_cases c1 : k &&& (63 ^^^ pg_G V) = 0
      · have c1' : ((k &&& (63 ^^^ pg_G V) : Nat) : Int) = 0 := by omega
        simp (disch := omega) only [pj_lit, pj_add, pj_sub, pj_neg, pj_mul, pj_lt, pj_eq, pj_nat, pj_ald, pj_ast, pj_ix, pw_bind, pw_ite, pw_some, pw_none, pw_let, Option.bind_some, Int.toNat_natCast, Sum.elim_inl, Sum.elim_inr, Int.cast_ofNat_Int, Int.reduceLT, Int.reduceLE, Int.reduceEq, Int.reduceAdd, Int.reduceSub, Int.reduceMul, Int.reduceNeg, Int.reduceToNat, Nat.reduceAdd, Nat.reduceSub, Nat.reduceMul, Nat.reduceEqDiff, Nat.reduceLT, reduceIte, reduceCtorEq, true_and, and_true, forall_const, not_true_eq_false, not_false_eq_true, false_implies, implies_true, hlt, pm_givers ho hZ1, hnot, c1']
        refine pw_mono (pm_isRest hT ho hZ1 (show k < 64 by omega)) (fun p hp => ?_)
        have h3 := pm_e_trans h1 hp.2
        rw [decide_eq_true c1, Bool.true_and, hp.1]
        refine ⟨fun q => ⟨fun q2 => ?_, fun q2 => ?_⟩, fun q => ?_⟩
        · rw [if_pos q, if_pos (Or.inl q2)]
          exact ⟨p.2, rfl, h3⟩
        · obtain ⟨j, rfl⟩ : ∃ j : Nat, b = j := ⟨b.toNat, by omega⟩
          have hbj := pg_bits j (by omega)
          have hpj : po_pc j ≤ 6 := by
            have := List.countP_le_length (p := fun h => j.testBit h) (l := List.range 6)
            rw [List.length_range] at this
            exact this
          have hj0 : ¬ ((j : Nat) : Int) < 0 := by omega
          rw [if_pos q]
          simp (disch := omega) only [pj_lit, pj_add, pj_sub, pj_neg, pj_mul, pj_lt, pj_eq, pj_nat, pj_ald, pj_ast, pj_ix, pw_bind, pw_ite, pw_some, pw_none, pw_let, Option.bind_some, Int.toNat_natCast, Sum.elim_inl, Sum.elim_inr, Int.cast_ofNat_Int, Int.reduceLT, Int.reduceLE, Int.reduceEq, Int.reduceAdd, Int.reduceSub, Int.reduceMul, Int.reduceNeg, Int.reduceToNat, Nat.reduceAdd, Nat.reduceSub, Nat.reduceMul, Nat.reduceEqDiff, Nat.reduceLT, reduceIte, reduceCtorEq, true_and, and_true, forall_const, not_true_eq_false, not_false_eq_true, false_implies, implies_true, hbc, hbj, hj0, false_or]
          refine ⟨fun q3 => ?_, fun q3 => ?_⟩
          · rw [if_pos (by omega)]; exact ⟨p.2, rfl, h3⟩
          · rw [if_neg (by omega)]; exact ⟨p.2, rfl, h3⟩
        · rw [if_neg q]
          exact ⟨p.2, rfl, h3⟩
      · have c1' : ¬ ((k &&& (63 ^^^ pg_G V) : Nat) : Int) = 0 := by omega
        simp (disch := omega) only [pj_lit, pj_add, pj_sub, pj_neg, pj_mul, pj_lt, pj_eq, pj_nat, pj_ald, pj_ast, pj_ix, pw_bind, pw_ite, pw_some, pw_none, pw_let, Option.bind_some, Int.toNat_natCast, Sum.elim_inl, Sum.elim_inr, Int.cast_ofNat_Int, Int.reduceLT, Int.reduceLE, Int.reduceEq, Int.reduceAdd, Int.reduceSub, Int.reduceMul, Int.reduceNeg, Int.reduceToNat, Nat.reduceAdd, Nat.reduceSub, Nat.reduceMul, Nat.reduceEqDiff, Nat.reduceLT, reduceIte, reduceCtorEq, true_and, and_true, forall_const, not_true_eq_false, not_false_eq_true, false_implies, implies_true, hlt, pm_givers ho hZ1, hnot, c1', decide_eq_false c1, Bool.false_and, Bool.false_eq_true]
        exact ⟨M1, rfl, h1⟩
    · rintro t ⟨M1, rfl, h1⟩
      unfold gm_rests_L27
      simp (disch := omega) only [pj_lit, pj_add, pj_sub, pj_neg, pj_mul, pj_lt, pj_eq, pj_nat, pj_ald, pj_ast, pj_ix, pw_bind, pw_ite, pw_some, pw_none, pw_let, Option.bind_some, Int.toNat_natCast, Sum.elim_inl, Sum.elim_inr, Int.cast_ofNat_Int, Int.reduceLT, Int.reduceLE, Int.reduceEq, Int.reduceAdd, Int.reduceSub, Int.reduceMul, Int.reduceNeg, Int.reduceToNat, Nat.reduceAdd, Nat.reduceSub, Nat.reduceMul, Nat.reduceEqDiff, Nat.reduceLT, reduceIte, reduceCtorEq, true_and, and_true, forall_const, not_true_eq_false, not_false_eq_true, false_implies, implies_true, Int.lt_irrefl]
      exact h1
  · rintro ⟨x, y, M1⟩ ⟨q1, q2, q3⟩
    dsimp only at q1 q2 q3
    subst q1 q2
    have hk := pm_k_trans hk2 (pm_e_k q3)
    simp (disch := omega) only [pj_lit, pj_add, pj_sub, pj_neg, pj_mul, pj_lt, pj_eq, pj_nat, pj_ald, pj_ast, pj_ix, pw_bind, pw_ite, pw_some, pw_none, pw_let, Option.bind_some, Int.toNat_natCast, Sum.elim_inl, Sum.elim_inr, Int.cast_ofNat_Int, Int.reduceLT, Int.reduceLE, Int.reduceEq, Int.reduceAdd, Int.reduceSub, Int.reduceMul, Int.reduceNeg, Int.reduceToNat, Nat.reduceAdd, Nat.reduceSub, Nat.reduceMul, Nat.reduceEqDiff, Nat.reduceLT, reduceIte, reduceCtorEq, true_and, and_true, forall_const, not_true_eq_false, not_false_eq_true, false_implies, implies_true]
    exact ⟨fun q => ⟨by rw [if_pos q], hk⟩, fun q => ⟨by rw [if_neg q], hk⟩⟩
theorem pq_rests {T : zt_T} {M : cs_S} {Z : zm_S} {s : Nat} {V : pv_V} {H : List pv_V} {at_ : Nat} (h : pr_R0 T M Z s V H at_) (a : Int32) :
    pw (gh_rests T M a) (fun p => pw (gm_rests Z a) (fun q => p.1 = q.1 ∧ pr_R T p.2 q.2)) := by
  obtain ⟨hT, hm, ho, hV, hsd, hrow, -⟩ := id h
  by_cases hh : 0 ≤ a.toInt ∧ a.toInt ≤ 1
  · exact pr_q h _ (pc_rests hT hV ho a hh) (pm_rests hT hm ho hrow a hh)
  · unfold gh_rests gm_rests
    simp (disch := omega) only [pj_lit, pj_add, pj_sub, pj_neg, pj_mul, pj_lt, pj_eq, pj_nat, pj_ald, pj_ast, pj_ix, pw_bind, pw_ite, pw_some, pw_none, pw_let, Option.bind_some, Int.toNat_natCast, Sum.elim_inl, Sum.elim_inr, Int.cast_ofNat_Int, Int.reduceLT, Int.reduceLE, Int.reduceEq, Int.reduceAdd, Int.reduceSub, Int.reduceMul, Int.reduceNeg, Int.reduceToNat, Nat.reduceAdd, Nat.reduceSub, Nat.reduceMul, Nat.reduceEqDiff, Nat.reduceLT, reduceIte, reduceCtorEq, true_and, and_true, forall_const, not_true_eq_false, not_false_eq_true, false_implies, implies_true, pc_isIn, pm_isIn, decide_eq_false hh, Bool.false_eq_true]
    exact ⟨s, V, H, at_, h⟩
theorem pq_pivots {T : zt_T} {M : cs_S} {Z : zm_S} {s : Nat} {V : pv_V} {H : List pv_V} {at_ : Nat} (h : pr_R0 T M Z s V H at_) :
    pw (gh_pivots T M) (fun p => pw (gm_pivots Z) (fun q => p = q.1 ∧ pr_R T M q.2)) := by
  obtain ⟨hT, hm, ho, hV, hsd, hrow, -⟩ := id h
  have hn := hT.1
  obtain ⟨Z1, eZ, hc⟩ := pm_copies hm ho hrow
  have hk1 := pm_c_k hc
  obtain ⟨hm1, hr1, -⟩ := hc
  rw [pc_pivots hT hV ho, pw_some]
  unfold gm_pivots
  rw [eZ, Option.bind_some]
  refine pw_seq (pm_plan hT hm1 hr1 ho) (fun Z2 h2 => ?_)
  obtain ⟨hB, hPP, hq⟩ := h2
  have hk2 := pm_k_trans hk1 (pm_q_k hq)
  have hZ2 : pm_V2 T s V Z2 := ⟨hB.1, pm_row_q hq hr1, hB.2.1⟩
  have e22 := hZ2.1.2.2.1
  have hs := hZ2.1.1
  have : zs_loop 5000 (gm_pivots_L12 Z2) (pj 0, pj 0) = some (pj (pb_set (fun h => !pg_en T V (pg_G V &&& (63 ^^^ 1 <<< h))) (zt_n T) : Nat), Z2) := by
    refine pw_forE (zt_n T) (fun k => (pj (pb_set (fun h => !pg_en T V (pg_G V &&& (63 ^^^ 1 <<< h))) k : Nat), pj (k : Nat))) 5000 (by omega) ?_ ?_
    · intro k hk
      have hlt : (k : Int) < (zt_n T : Nat) := by omega
      have hp := pb_step2 (fun h => !pg_en T V (pg_G V &&& (63 ^^^ 1 <<< h))) (k := k) (by omega)
      have hclr := pg_clr _ (pg_G_lt V) k (by omega)
      have hen := pm_isEnough hT ho hZ2 (S := pg_G V &&& (63 ^^^ 1 <<< k)) (Nat.lt_of_le_of_lt Nat.and_le_left (pg_G_lt V))
      unfold gm_pivots_L12
      simp (disch := omega) only [pj_lit, pj_add, pj_sub, pj_neg, pj_mul, pj_lt, pj_eq, pj_nat, pj_ald, pj_ast, pj_ix, pw_bind, pw_ite, pw_some, pw_none, pw_let, Option.bind_some, Int.toNat_natCast, Sum.elim_inl, Sum.elim_inr, Int.cast_ofNat_Int, Int.reduceLT, Int.reduceLE, Int.reduceEq, Int.reduceAdd, Int.reduceSub, Int.reduceMul, Int.reduceNeg, Int.reduceToNat, Nat.reduceAdd, Nat.reduceSub, Nat.reduceMul, Nat.reduceEqDiff, Nat.reduceLT, reduceIte, reduceCtorEq, true_and, and_true, forall_const, not_true_eq_false, not_false_eq_true, false_implies, implies_true, hZ2.1.2.1, e22, hlt, pm_givers ho hZ2, hclr, hen, ← hp]
      by_cases q : pg_en T V (pg_G V &&& (63 ^^^ 1 <<< k)) = true
      · rw [if_pos q, if_neg (by simp [q])]; rfl
      · rw [if_neg q, if_pos (by simpa using q)]; rfl
    · unfold gm_pivots_L12
      simp (disch := omega) only [pj_lit, pj_add, pj_sub, pj_neg, pj_mul, pj_lt, pj_eq, pj_nat, pj_ald, pj_ast, pj_ix, pw_bind, pw_ite, pw_some, pw_none, pw_let, Option.bind_some, Int.toNat_natCast, Sum.elim_inl, Sum.elim_inr, Int.cast_ofNat_Int, Int.reduceLT, Int.reduceLE, Int.reduceEq, Int.reduceAdd, Int.reduceSub, Int.reduceMul, Int.reduceNeg, Int.reduceToNat, Nat.reduceAdd, Nat.reduceSub, Nat.reduceMul, Nat.reduceEqDiff, Nat.reduceLT, reduceIte, reduceCtorEq, true_and, and_true, forall_const, not_true_eq_false, not_false_eq_true, false_implies, implies_true, hZ2.1.2.1, e22, Int.lt_irrefl]
  rw [pj_0, this, Option.bind_some, pw_some]
  exact ⟨rfl, s, V, H, at_, pr_R_k (pc_k_rfl M) hk2 h⟩
/-! rows of a length, by the component -/
def pf_RL (n : Nat) : Nat → Nat → List (List Nat)
  | 0, _ => [[]]
  | m + 1, S => (List.range n).flatMap fun h => if S.testBit h = true then [] else (pf_RL n m (S ||| 1 <<< h)).map (h :: ·)
/-- whether a row is as was told -/
def pf_so (st : Nat → Int) (tp : Nat → Nat) (tv : Nat → Int) (ts : Nat → Int32) (k l : Nat) (o : List Nat) : Bool := (List.range k).all fun i => decide (tp i < l) && decide ((if st (o.getD (tp i) 0) < tv i then (0 : Int32) else 1) = ts i)
def pf_tp (M : cs_S) (i : Nat) : Nat := (M.2 0 22 i).toInt.toNat
def pf_tv (M : cs_S) (i : Nat) : Int := (M.2 0 23 i).toInt
def pf_ts (M : cs_S) (i : Nat) : Int32 := M.2 0 24 i
/-- what is told, of the first k -/
def pf_T (M : cs_S) (k : Nat) : Prop := k ≤ 20 ∧ ∀ i, i < k → pf_tp M i < 6 ∧ M.2 0 22 i = pj (pf_tp M i) ∧ M.2 0 23 i = pj (pf_tv M i) ∧ 0 ≤ pf_tv M i ∧ pf_tv M i ≤ 99
/-- all but what the rows are told in -/
def pc_h (M M' : cs_S) : Prop := (∀ o f, ¬ (o = 0 ∧ (f = 20 ∨ f = 21)) → M'.1 o f = M.1 o f) ∧ ∀ o f, o ≠ 62 → ¬ (o = 0 ∧ f = 25) → M'.2 o f = M.2 o f
theorem pc_h_rfl (M : cs_S) : pc_h M M := ⟨fun _ _ _ => rfl, fun _ _ _ _ => rfl⟩
theorem pc_h_trans {A B C : cs_S} (h : pc_h A B) (g : pc_h B C) : pc_h A C := ⟨fun o f a => (g.1 o f a).trans (h.1 o f a), fun o f a b => (g.2 o f a b).trans (h.2 o f a b)⟩
theorem pc_h_k {M M' : cs_S} (h : pc_h M M') : pc_k M M' := ⟨fun o f _ _ a => h.1 o f a, fun o f _ _ _ _ a b => h.2 o f a (by omega), by rw [h.2 0 16 (by omega) (by omega)]⟩
theorem pc_h_tp {M M' : cs_S} (h : pc_h M M') : pf_tp M' = pf_tp M ∧ pf_tv M' = pf_tv M ∧ pf_ts M' = pf_ts M := by
  unfold pf_tp pf_tv pf_ts
  rw [h.2 0 22 (by omega) (by omega), h.2 0 23 (by omega) (by omega), h.2 0 24 (by omega) (by omega)]
  exact ⟨rfl, rfl, rfl⟩
theorem pf_T_h {M M' : cs_S} {k : Nat} (h : pc_h M M') (g : pf_T M k) : pf_T M' k := by
  unfold pf_T
  obtain ⟨e1, e2, e3⟩ := pc_h_tp h
  rw [e1, e2, h.2 0 22 (by omega) (by omega), h.2 0 23 (by omega) (by omega)]
  exact g
theorem pc_isSo {T : zt_T} {M : cs_S} {V : pv_V} {k l : Nat} {o : List Nat} (hT : pt_ok T) (hV : pc_V M 0 V) (ho : pv_ok (zt_n T) V) (ht : pf_T M k) (hl : o.length = l) (hl6 : l ≤ 6) (hon : ∀ x ∈ o, x < zt_n T) (hf : ∀ (i x : Nat), o[i]? = some x → M.2 0 25 i = pj x) :
    gh_isSo T M (pj k) (pj l) = some (pf_so (pv_st T V) (pf_tp M) (pf_tv M) (pf_ts M) k l o) := by
  obtain ⟨hk, ht⟩ := ht
  unfold gh_isSo
  have step : ∀ i, i < k → gh_isSo_L2 (pj k) M (pj l) T (pj (i : Nat)) = some (if (decide (pf_tp M i < l) && decide ((if pv_st T V (o.getD (pf_tp M i) 0) < pf_tv M i then (0 : Int32) else 1) = pf_ts M i)) = true then Sum.inl (pj ((i + 1 : Nat) : Int)) else Sum.inr false) := by
    intro i hi
    obtain ⟨t1, t2, t3, t4, t5⟩ := ht i hi
    have hlt : (i : Int) < (k : Nat) := by omega
    unfold gh_isSo_L2
    by_cases c : pf_tp M i < l
    · have c' : ((pf_tp M i : Nat) : Int) < (l : Nat) := by omega
      have hx := pv_get (l := o) (k := pf_tp M i) (by omega)
      have hcell := hf _ _ hx
      have hxn := hon _ (List.mem_of_getElem? hx)
      generalize o.getD (pf_tp M i) 0 = x at hcell hxn
      have hsb := pv_st_bd hT ho hxn
      have e24 : M.2 0 24 i = pf_ts M i := rfl
      rw [decide_eq_true c, Bool.true_and]
      simp (disch := omega) only [pj_lit, pj_add, pj_sub, pj_neg, pj_mul, pj_lt, pj_eq, pj_nat, pj_ald, pj_ast, pj_ix, pw_bind, pw_ite, pw_some, pw_none, pw_let, Option.bind_some, Int.toNat_natCast, Sum.elim_inl, Sum.elim_inr, Int.cast_ofNat_Int, Int.reduceLT, Int.reduceLE, Int.reduceEq, Int.reduceAdd, Int.reduceSub, Int.reduceMul, Int.reduceNeg, Int.reduceToNat, Nat.reduceAdd, Nat.reduceSub, Nat.reduceMul, Nat.reduceEqDiff, Nat.reduceLT, reduceIte, reduceCtorEq, true_and, and_true, forall_const, not_true_eq_false, not_false_eq_true, false_implies, implies_true, hlt, t2, c', hcell, pc_str hT hV ho x hxn, t3, e24]
      by_cases d : pv_st T V x < pf_tv M i
      · rw [if_pos d, if_pos d]
        by_cases e : pj 0 = pf_ts M i
        · rw [Option.bind_some, if_pos e, if_pos (decide_eq_true e)]; rfl
        · rw [Option.bind_some, if_neg e, if_neg (by simpa using e)]
      · rw [if_neg d, if_neg d]
        by_cases e : pj 1 = pf_ts M i
        · rw [Option.bind_some, if_pos e, if_pos (decide_eq_true e)]; rfl
        · rw [Option.bind_some, if_neg e, if_neg (by simpa using e)]
    · have c' : ¬ ((pf_tp M i : Nat) : Int) < (l : Nat) := by omega
      have hbool : (decide (pf_tp M i < l) && decide ((if pv_st T V (o.getD (pf_tp M i) 0) < pf_tv M i then (0 : Int32) else 1) = pf_ts M i)) = false := by rw [decide_eq_false c]; rfl
      rw [hbool]
      simp (disch := omega) only [pj_lit, pj_add, pj_sub, pj_neg, pj_mul, pj_lt, pj_eq, pj_nat, pj_ald, pj_ast, pj_ix, pw_bind, pw_ite, pw_some, pw_none, pw_let, Option.bind_some, Int.toNat_natCast, Sum.elim_inl, Sum.elim_inr, Int.cast_ofNat_Int, Int.reduceLT, Int.reduceLE, Int.reduceEq, Int.reduceAdd, Int.reduceSub, Int.reduceMul, Int.reduceNeg, Int.reduceToNat, Nat.reduceAdd, Nat.reduceSub, Nat.reduceMul, Nat.reduceEqDiff, Nat.reduceLT, reduceIte, reduceCtorEq, true_and, and_true, forall_const, not_true_eq_false, not_false_eq_true, false_implies, implies_true, hlt, t2, c', Bool.false_eq_true]
  by_cases hall : ∃ i, i < k ∧ ¬ (decide (pf_tp M i < l) && decide ((if pv_st T V (o.getD (pf_tp M i) 0) < pf_tv M i then (0 : Int32) else 1) = pf_ts M i)) = true
  · -- the first that is not
    have hfind : ∃ i, (i < k ∧ ¬ (decide (pf_tp M i < l) && decide ((if pv_st T V (o.getD (pf_tp M i) 0) < pf_tv M i then (0 : Int32) else 1) = pf_ts M i)) = true) ∧ ∀ j, j < i → (decide (pf_tp M j < l) && decide ((if pv_st T V (o.getD (pf_tp M j) 0) < pf_tv M j then (0 : Int32) else 1) = pf_ts M j)) = true := by
      obtain ⟨i, hi⟩ := hall
      have key : ∀ m i, i ≤ m → (i < k ∧ ¬ (decide (pf_tp M i < l) && decide ((if pv_st T V (o.getD (pf_tp M i) 0) < pf_tv M i then (0 : Int32) else 1) = pf_ts M i)) = true) → ∃ i, (i < k ∧ ¬ (decide (pf_tp M i < l) && decide ((if pv_st T V (o.getD (pf_tp M i) 0) < pf_tv M i then (0 : Int32) else 1) = pf_ts M i)) = true) ∧ ∀ j, j < i → (decide (pf_tp M j < l) && decide ((if pv_st T V (o.getD (pf_tp M j) 0) < pf_tv M j then (0 : Int32) else 1) = pf_ts M j)) = true := by
        intro m
        induction m with
        | zero => exact fun i hi hc => ⟨i, hc, fun j hj => by omega⟩
        | succ m ih =>
          intro i hi hc
          by_cases c : ∃ j, j < i ∧ ¬ (decide (pf_tp M j < l) && decide ((if pv_st T V (o.getD (pf_tp M j) 0) < pf_tv M j then (0 : Int32) else 1) = pf_ts M j)) = true
          · obtain ⟨j, hj, hjc⟩ := c
            exact ih j (by omega) ⟨by omega, hjc⟩
          · exact ⟨i, hc, fun j hj => by
              by_cases q : (decide (pf_tp M j < l) && decide ((if pv_st T V (o.getD (pf_tp M j) 0) < pf_tv M j then (0 : Int32) else 1) = pf_ts M j)) = true
              · exact q
              · exact absurd ⟨j, hj, q⟩ c⟩
      exact key i i (Nat.le_refl _) hi
    obtain ⟨i, ⟨hi, hci⟩, hmin⟩ := hfind
    have hv : pf_so (pv_st T V) (pf_tp M) (pf_tv M) (pf_ts M) k l o = false := by
      cases q : pf_so (pv_st T V) (pf_tp M) (pf_tv M) (pf_ts M) k l o with
      | false => rfl
      | true => exact absurd (List.all_eq_true.1 q i (List.mem_range.2 hi)) hci
    rw [hv]
    have : zs_loop 5000 (gh_isSo_L2 (pj k) M (pj l) T) (pj 0) = some false := by
      refine pw_forE i (fun j => pj (j : Nat)) 5000 (by omega) ?_ ?_
      · intro j hj
        rw [step j (by omega), if_pos (hmin j hj)]
      · rw [step i hi, if_neg hci]
    rw [pj_0, this]; rfl
  · have hv : pf_so (pv_st T V) (pf_tp M) (pf_tv M) (pf_ts M) k l o = true := List.all_eq_true.2 fun i hi => by
      by_cases q : (decide (pf_tp M i < l) && decide ((if pv_st T V (o.getD (pf_tp M i) 0) < pf_tv M i then (0 : Int32) else 1) = pf_ts M i)) = true
      · exact q
      · exact absurd ⟨i, List.mem_range.1 hi, q⟩ hall
    rw [hv]
    have : zs_loop 5000 (gh_isSo_L2 (pj k) M (pj l) T) (pj 0) = some true := by
      refine pw_forE k (fun j => pj (j : Nat)) 5000 (by omega) ?_ ?_
      · intro j hj
        rw [step j hj, if_pos (by
          by_cases q : (decide (pf_tp M j < l) && decide ((if pv_st T V (o.getD (pf_tp M j) 0) < pf_tv M j then (0 : Int32) else 1) = pf_ts M j)) = true
          · exact q
          · exact absurd ⟨j, hj, q⟩ hall)]
      · unfold gh_isSo_L2
        simp (disch := omega) only [pj_lit, pj_add, pj_sub, pj_neg, pj_mul, pj_lt, pj_eq, pj_nat, pj_ald, pj_ast, pj_ix, pw_bind, pw_ite, pw_some, pw_none, pw_let, Option.bind_some, Int.toNat_natCast, Sum.elim_inl, Sum.elim_inr, Int.cast_ofNat_Int, Int.reduceLT, Int.reduceLE, Int.reduceEq, Int.reduceAdd, Int.reduceSub, Int.reduceMul, Int.reduceNeg, Int.reduceToNat, Nat.reduceAdd, Nat.reduceSub, Nat.reduceMul, Nat.reduceEqDiff, Nat.reduceLT, reduceIte, reduceCtorEq, true_and, and_true, forall_const, not_true_eq_false, not_false_eq_true, false_implies, implies_true, Int.lt_irrefl]
    rw [pj_0, this]; rfl
/-- what stands of the rows that fit -/
def pf_hd : List (List Nat) → Int32
  | [] => pj (-2)
  | o :: _ => pj (po_num o : Nat)
def pf_A (T : zt_T) (l : Nat) (M : cs_S) (L : List (List Nat)) : Prop := M.1 0 20 = pj L.length ∧ M.1 0 21 = pf_hd L ∧ ∀ i h, i < l → h < zt_n T → M.2 62 i h = pj (L.countP (fun o => o.getD i 0 == h) : Nat)
theorem pf_num_snoc (p : List Nat) (h : Nat) : po_num (p ++ [h]) = 6 * po_num p + h := by
  unfold po_num
  rw [List.foldl_append]
  rfl
theorem pf_fm_mono (g : Nat → List (List Nat)) (j : Nat) : ∀ d, ((List.range j).flatMap g).length ≤ ((List.range (j + d)).flatMap g).length
  | 0 => Nat.le_refl _
  | d + 1 => by
    have := pf_fm_mono g j d
    rw [show j + (d + 1) = (j + d) + 1 by omega, List.range_succ, List.flatMap_append, List.length_append]
    omega
theorem pc_rowsFit {T : zt_T} {V : pv_V} {k l : Nat} (hT : pt_ok T) (ho : pv_ok (zt_n T) V) (hl6 : l ≤ 6) (tp : Nat → Nat) (tv : Nat → Int) (ts : Nat → Int32) : ∀ (m f : Nat) (M : cs_S) (L : List (List Nat)) (p : List Nat) (S : Nat), m < f → p.length + m = l → pc_V M 0 V → pf_T M k → pf_tp M = tp → pf_tv M = tv → pf_ts M = ts → pf_A T l M L → L.length + (pf_RL (zt_n T) m S).length ≤ 46656 → (∀ x ∈ p, x < zt_n T) → (∀ (i x : Nat), p[i]? = some x → M.2 0 25 i = pj x) → S < 64 →
    pw (gh_rowsFit T f M (pj p.length) (pj l) (pj k) (pj S) (pj (po_num p : Nat))) (fun M' => pf_A T l M' (L ++ ((pf_RL (zt_n T) m S).map (p ++ ·)).filter (pf_so (pv_st T V) tp tv ts k l)) ∧ pc_h M M' ∧ ∀ (i x : Nat), p[i]? = some x → M'.2 0 25 i = pj x)
  | m, 0, _, _, _, _, hf, _, _, _, _, _, _, _, _, _, _, _ => absurd hf (by omega)
  | 0, f + 1, M, L, p, S, hf, hp, hV, ht, e1, e2, e3, hA, hLl, hpn, hfe, hS => by
    have hn := hT.1
    obtain ⟨a1, a2, a3⟩ := hA
    have hpl : p.length = l := by omega
    have hso := pc_isSo hT hV ho ht hpl hl6 hpn hfe
    rw [e1, e2, e3] at hso
    have hlist : ((pf_RL (zt_n T) 0 S).map (p ++ ·)).filter (pf_so (pv_st T V) tp tv ts k l) = if pf_so (pv_st T V) tp tv ts k l p = true then [p] else [] := by
      show (List.filter _ [p ++ []]) = _
      rw [List.append_nil, List.filter_cons]
      rfl
    rw [hlist]
    show pw (gh_rowsFit_B T (gh_rowsFit T f) M (pj p.length) (pj l) (pj k) (pj S) (pj (po_num p : Nat))) _
    unfold gh_rowsFit_B
    rw [hpl, if_pos rfl, hso, Option.bind_some]
    by_cases c : pf_so (pv_st T V) tp tv ts k l p = true
    · rw [if_pos c, if_pos c]
      have hfst : ∃ M1, (if M.1 0 20 = 0 then (some (cs_sF M 0 21 (pj (po_num p : Nat)))).bind fun M12 => some M12 else some M) = some M1 ∧ M1.1 0 20 = pj L.length ∧ M1.1 0 21 = pf_hd (L ++ [p]) ∧ M1.2 = M.2 ∧ ∀ o f, ¬ (o = 0 ∧ (f = 20 ∨ f = 21)) → M1.1 o f = M.1 o f := by
        cases L with
        | nil =>
          refine ⟨cs_sF M 0 21 (pj (po_num p : Nat)), by rw [if_pos (show M.1 0 20 = 0 from a1), Option.bind_some], ?_, pc_sF1s _ _ _ _, rfl, fun o f q => pc_sF1n (by omega)⟩
          rw [pc_sF1n (by omega)]; exact a1
        | cons o L =>
          refine ⟨M, ?_, a1, a2, rfl, fun _ _ _ => rfl⟩
          rw [if_neg]
          rw [a1]
          intro q
          have := (pj_eq (b := 0) (by rw [List.length_cons] at hLl ⊢; omega) (by omega)).1 q
          rw [List.length_cons] at this
          omega
      obtain ⟨M1, b1, b2, b3, b4, b5⟩ := hfst
      rw [b1, Option.bind_some, Option.bind_some]
      have e20 : M1.1 0 20 + 1 = pj ((L ++ [p]).length : Nat) := by rw [b2, pj_1, pj_add, List.length_append]; rfl
      rw [e20]
      refine pw_seq (Q := fun M' => pf_A T l M' (L ++ [p]) ∧ pc_h M M' ∧ M'.2 0 25 = M.2 0 25) ?_ (fun M' h => (pw_some _ _).2 ⟨h.1, h.2.1, fun i x e => by rw [h.2.2]; exact hfe i x e⟩)
      rw [pj_0]
      refine pw_for l (fun j t => ∃ M', t = (pj (j : Nat), M') ∧ M'.1 = (cs_sF M1 0 20 (pj ((L ++ [p]).length : Nat))).1 ∧ (∀ o f, o ≠ 62 → M'.2 o f = M.2 o f) ∧ ∀ i h, i < l → h < zt_n T → M'.2 62 i h = pj ((L.countP (fun o => o.getD i 0 == h) : Nat) + (if i < j ∧ p.getD i 0 = h then 1 else 0 : Int))) 5000 (by omega) ?_ ?_ _ ⟨_, rfl, rfl, fun o f _ => by rw [pc_sF2, b4], fun i h hi hh => ?_⟩
      · rintro j t hj ⟨M2, rfl, c1, c2, c3⟩
        have hlt : (j : Int) < (l : Nat) := by omega
        have hg := pv_get (l := p) (k := j) (by omega)
        have hcell : M2.2 0 25 j = pj (p.getD j 0 : Nat) := by rw [c2 0 25 (by omega)]; exact hfe _ _ hg
        have hxn := hpn _ (List.mem_of_getElem? hg)
        have c3' := c3 j (p.getD j 0) hj hxn
        rw [if_neg (by omega), Int.add_zero] at c3'
        generalize hpx : p.getD j 0 = x at hcell hxn c3'
        unfold gh_rowsFit_L41
        simp (disch := omega) only [pj_lit, pj_add, pj_sub, pj_neg, pj_mul, pj_lt, pj_eq, pj_nat, pj_ald, pj_ast, pj_ix, pw_bind, pw_ite, pw_some, pw_none, pw_let, Option.bind_some, Int.toNat_natCast, Sum.elim_inl, Sum.elim_inr, Int.cast_ofNat_Int, Int.reduceLT, Int.reduceLE, Int.reduceEq, Int.reduceAdd, Int.reduceSub, Int.reduceMul, Int.reduceNeg, Int.reduceToNat, Nat.reduceAdd, Nat.reduceSub, Nat.reduceMul, Nat.reduceEqDiff, Nat.reduceLT, reduceIte, reduceCtorEq, true_and, and_true, forall_const, not_true_eq_false, not_false_eq_true, false_implies, implies_true, hlt, hcell, c3']
        refine ⟨_, rfl, c1, fun o f q => by rw [pc_sA2n (by omega)]; exact c2 o f q, fun i h hi hh => ?_⟩
        rw [pc_sA2]
        by_cases e : i = j
        · subst e
          rw [if_pos ⟨rfl, rfl⟩, pj_nat (by omega), Int.toNat_natCast, pj_upd]
          by_cases e2 : h = x
          · subst e2
            rw [if_pos rfl, if_pos ⟨by omega, hpx⟩]
          · rw [if_neg e2, c3 i h hi hh, if_neg (by omega), if_neg (fun q => e2 (by rw [← q.2, hpx]))]
        · rw [if_neg (fun q => e q.2), c3 i h hi hh]
          congr 2
          by_cases q : i < j ∧ p.getD i 0 = h
          · rw [if_pos q, if_pos ⟨by omega, q.2⟩]
          · rw [if_neg q, if_neg (fun z => q ⟨by omega, z.2⟩)]
      · rintro t ⟨M2, rfl, c1, c2, c3⟩
        unfold gh_rowsFit_L41
        simp (disch := omega) only [pj_lit, pj_add, pj_sub, pj_neg, pj_mul, pj_lt, pj_eq, pj_nat, pj_ald, pj_ast, pj_ix, pw_bind, pw_ite, pw_some, pw_none, pw_let, Option.bind_some, Int.toNat_natCast, Sum.elim_inl, Sum.elim_inr, Int.cast_ofNat_Int, Int.reduceLT, Int.reduceLE, Int.reduceEq, Int.reduceAdd, Int.reduceSub, Int.reduceMul, Int.reduceNeg, Int.reduceToNat, Nat.reduceAdd, Nat.reduceSub, Nat.reduceMul, Nat.reduceEqDiff, Nat.reduceLT, reduceIte, reduceCtorEq, true_and, and_true, forall_const, not_true_eq_false, not_false_eq_true, false_implies, implies_true, Int.lt_irrefl]
        refine ⟨⟨?_, ?_, fun i h hi hh => ?_⟩, ⟨fun o f q => ?_, fun o f q _ => c2 o f q⟩, c2 0 25 (by omega)⟩
        · rw [c1, pc_sF1s]
        · rw [c1, pc_sF1n (by omega)]; exact b3
        · rw [c3 i h hi hh, List.countP_append, List.countP_singleton]
          congr 1
          by_cases q : p.getD i 0 = h
          · rw [if_pos ⟨hi, q⟩, if_pos (by rw [beq_iff_eq]; exact q)]; rfl
          · rw [if_neg (fun z => q z.2), if_neg (by rw [beq_iff_eq]; exact q)]; rfl
        · rw [c1, pc_sF1n (by omega)]; exact b5 o f q
      · rw [pc_sF2, b4, if_neg (by omega), Int.add_zero]; exact a3 i h hi hh
    · rw [if_neg c, if_neg c, List.append_nil, pw_some]
      exact ⟨⟨a1, a2, a3⟩, pc_h_rfl M, hfe⟩
  | m + 1, f + 1, M, L, p, S, hf, hp, hV, ht, e1, e2, e3, hA, hLl, hpn, hfe, hS => by
    have hn := hT.1
    have hne : ¬ pj (p.length : Nat) = pj (l : Nat) := fun q => by
      have := (pj_eq (by omega) (by omega)).1 q
      omega
    show pw (gh_rowsFit_B T (gh_rowsFit T f) M (pj p.length) (pj l) (pj k) (pj S) (pj (po_num p : Nat))) _
    unfold gh_rowsFit_B
    rw [if_neg hne]
    refine pw_seq (Q := fun M' => pf_A T l M' (L ++ ((pf_RL (zt_n T) (m + 1) S).map (p ++ ·)).filter (pf_so (pv_st T V) tp tv ts k l)) ∧ pc_h M M' ∧ ∀ (i x : Nat), p[i]? = some x → M'.2 0 25 i = pj x) ?_ (fun M' h => (pw_some _ _).2 h)
    rw [pj_0]
    have hRL : ∀ j, ((List.range (j + 1)).flatMap fun h => if S.testBit h = true then [] else (pf_RL (zt_n T) m (S ||| 1 <<< h)).map (h :: ·)) = ((List.range j).flatMap fun h => if S.testBit h = true then [] else (pf_RL (zt_n T) m (S ||| 1 <<< h)).map (h :: ·)) ++ (if S.testBit j = true then [] else (pf_RL (zt_n T) m (S ||| 1 <<< j)).map (j :: ·)) := fun j => by
      rw [List.range_succ, List.flatMap_append]
      simp
    refine pw_for (zt_n T) (fun j t => ∃ M', t = (pj (j : Nat), M') ∧ pf_A T l M' (L ++ ((((List.range j).flatMap fun h => if S.testBit h = true then [] else (pf_RL (zt_n T) m (S ||| 1 <<< h)).map (h :: ·))).map (p ++ ·)).filter (pf_so (pv_st T V) tp tv ts k l)) ∧ pc_h M M' ∧ ∀ (i x : Nat), p[i]? = some x → M'.2 0 25 i = pj x) 5000 (by omega) ?_ ?_ _ ⟨M, rfl, by simpa using hA, pc_h_rfl M, hfe⟩
    · rintro j t hj ⟨M1, rfl, c1, c2, c3⟩
      have hlt : (j : Int) < (zt_n T : Nat) := by omega
      rw [hRL, List.map_append, List.filter_append, ← List.append_assoc]
      generalize hLe : L ++ ((((List.range j).flatMap fun h => if S.testBit h = true then [] else (pf_RL (zt_n T) m (S ||| 1 <<< h)).map (h :: ·))).map (p ++ ·)).filter (pf_so (pv_st T V) tp tv ts k l) = L1 at c1
      have hL1 : S.testBit j ≠ true → L1.length + (pf_RL (zt_n T) m (S ||| 1 <<< j)).length ≤ 46656 := by
        intro hb
        have h1 : L1.length ≤ L.length + ((List.range j).flatMap fun h => if S.testBit h = true then [] else (pf_RL (zt_n T) m (S ||| 1 <<< h)).map (h :: ·)).length := by
          rw [← hLe, List.length_append]
          have := List.length_filter_le (pf_so (pv_st T V) tp tv ts k l) ((((List.range j).flatMap fun h => if S.testBit h = true then [] else (pf_RL (zt_n T) m (S ||| 1 <<< h)).map (h :: ·))).map (p ++ ·))
          rw [List.length_map] at this
          omega
        have h2 := congrArg List.length (hRL j)
        rw [List.length_append, if_neg hb, List.length_map] at h2
        have h3 := pf_fm_mono (fun h => if S.testBit h = true then [] else (pf_RL (zt_n T) m (S ||| 1 <<< h)).map (h :: ·)) (j + 1) (zt_n T - (j + 1))
        rw [show j + 1 + (zt_n T - (j + 1)) = zt_n T by omega] at h3
        have h4 : ((List.range (zt_n T)).flatMap fun h => if S.testBit h = true then [] else (pf_RL (zt_n T) m (S ||| 1 <<< h)).map (h :: ·)).length = (pf_RL (zt_n T) (m + 1) S).length := rfl
        omega
      unfold gh_rowsFit_L76 gh_houses
      by_cases hb : S.testBit j = true
      · simp (disch := omega) only [pj_lit, pj_add, pj_sub, pj_neg, pj_mul, pj_lt, pj_eq, pj_nat, pj_ald, pj_ast, pj_ix, pw_bind, pw_ite, pw_some, pw_none, pw_let, Option.bind_some, Int.toNat_natCast, Sum.elim_inl, Sum.elim_inr, Int.cast_ofNat_Int, Int.reduceLT, Int.reduceLE, Int.reduceEq, Int.reduceAdd, Int.reduceSub, Int.reduceMul, Int.reduceNeg, Int.reduceToNat, Nat.reduceAdd, Nat.reduceSub, Nat.reduceMul, Nat.reduceEqDiff, Nat.reduceLT, reduceIte, reduceCtorEq, true_and, and_true, forall_const, not_true_eq_false, not_false_eq_true, false_implies, implies_true, pj_nI, hlt, pj_bitx hS (show j < 6 by omega), hb]
        exact ⟨M1, rfl, by simpa using c1, c2, c3⟩
      · have hor := pj_or S hS (1 <<< j) (pg_shl (show j < 6 by omega))
        have hS2 : S ||| 1 <<< j < 64 := Nat.or_lt_two_pow (n := 6) hS (pg_shl (show j < 6 by omega))
        have hnum : (6 : Int) * (po_num p : Nat) + (j : Nat) = ((po_num (p ++ [j]) : Nat) : Int) := by rw [pf_num_snoc]; omega
        have hlen : ((p.length : Nat) : Int) + 1 = ((p ++ [j]).length : Nat) := by rw [List.length_append]; rfl
        simp (disch := omega) only [pj_lit, pj_add, pj_sub, pj_neg, pj_mul, pj_lt, pj_eq, pj_nat, pj_ald, pj_ast, pj_ix, pw_bind, pw_ite, pw_some, pw_none, pw_let, Option.bind_some, Int.toNat_natCast, Sum.elim_inl, Sum.elim_inr, Int.cast_ofNat_Int, Int.reduceLT, Int.reduceLE, Int.reduceEq, Int.reduceAdd, Int.reduceSub, Int.reduceMul, Int.reduceNeg, Int.reduceToNat, Nat.reduceAdd, Nat.reduceSub, Nat.reduceMul, Nat.reduceEqDiff, Nat.reduceLT, reduceIte, reduceCtorEq, true_and, and_true, forall_const, not_true_eq_false, not_false_eq_true, false_implies, implies_true, pj_nI, hlt, pj_bitx hS (show j < 6 by omega), hb, pj_shl1 j (show j < 7 by omega), hor, hnum, hlen]
        have hh : pc_h M1 (cs_sA M1 0 25 (pj (p.length : Nat)) (pj (j : Nat))) := ⟨fun _ _ _ => rfl, fun o f _ q => pc_sA2n (by omega)⟩
        have hcell : ∀ i, (cs_sA M1 0 25 (pj (p.length : Nat)) (pj (j : Nat))).2 0 25 i = if i = p.length then pj (j : Nat) else M1.2 0 25 i := fun i => by rw [pc_sA2s, pj_nat (by omega), Int.toNat_natCast, pj_upd]
        obtain ⟨u1, u2, u3⟩ := pc_h_tp (pc_h_trans c2 hh)
        refine pw_mono (pc_rowsFit hT ho hl6 tp tv ts m f (cs_sA M1 0 25 (pj (p.length : Nat)) (pj (j : Nat))) L1 (p ++ [j]) (S ||| 1 <<< j) (by omega) (by rw [List.length_append]; show p.length + 1 + m = l; omega) (pc_V_k (by omega) (by omega) (pc_h_k (pc_h_trans c2 hh)) hV) (pf_T_h (pc_h_trans c2 hh) ht) (u1.trans e1) (u2.trans e2) (u3.trans e3) ?_ (hL1 hb) (fun x hx => ?_) (fun i x e => ?_) hS2) (fun M' hM' => ?_)
        · obtain ⟨d1, d2, d3⟩ := c1
          exact ⟨d1, d2, fun i h hi hh' => by rw [pc_sA2n (by omega)]; exact d3 i h hi hh'⟩
        · rcases List.mem_append.1 hx with hx | hx
          · exact hpn x hx
          · rw [List.mem_singleton.1 hx]; exact hj
        · rw [hcell]
          rcases pv_app_get e with ⟨q1, q2⟩ | ⟨q1, q2⟩
          · rw [if_neg (by omega)]; exact c3 i x q2
          · rw [if_pos q1, q2]
        · obtain ⟨v1, v2, v3⟩ := hM'
          refine ⟨M', rfl, ?_, pc_h_trans c2 (pc_h_trans hh v2), fun i x e => v3 i x ?_⟩
          · have hmm : ((pf_RL (zt_n T) m (S ||| 1 <<< j)).map (j :: ·)).map (p ++ ·) = (pf_RL (zt_n T) m (S ||| 1 <<< j)).map ((p ++ [j]) ++ ·) := by
              rw [List.map_map]
              refine List.map_congr_left fun o _ => ?_
              show p ++ (j :: o) = (p ++ [j]) ++ o
              rw [List.append_assoc]; rfl
            rw [hmm]
            exact v1
          · rw [List.getElem?_append, if_pos (List.getElem?_eq_some_iff.1 e).1]; exact e
    · rintro t ⟨M1, rfl, c1, c2, c3⟩
      unfold gh_rowsFit_L76 gh_houses
      simp (disch := omega) only [pj_lit, pj_add, pj_sub, pj_neg, pj_mul, pj_lt, pj_eq, pj_nat, pj_ald, pj_ast, pj_ix, pw_bind, pw_ite, pw_some, pw_none, pw_let, Option.bind_some, Int.toNat_natCast, Sum.elim_inl, Sum.elim_inr, Int.cast_ofNat_Int, Int.reduceLT, Int.reduceLE, Int.reduceEq, Int.reduceAdd, Int.reduceSub, Int.reduceMul, Int.reduceNeg, Int.reduceToNat, Nat.reduceAdd, Nat.reduceSub, Nat.reduceMul, Nat.reduceEqDiff, Nat.reduceLT, reduceIte, reduceCtorEq, true_and, and_true, forall_const, not_true_eq_false, not_false_eq_true, false_implies, implies_true, pj_nI, Int.lt_irrefl]
      exact ⟨c1, c2, c3⟩
/-! rows as numbers -/
def pf_dg : Nat → Nat → List Nat
  | 0, _ => []
  | l + 1, x => x / 6 ^ l :: pf_dg l (x % 6 ^ l)
def pf_va (n : Nat) : Nat → List Nat → Bool
  | _, [] => true
  | S, h :: o => decide (h < n) && !S.testBit h && pf_va n (S ||| 1 <<< h) o
theorem pf_dg_len : ∀ l x, (pf_dg l x).length = l
  | 0, _ => rfl
  | l + 1, x => by
    unfold pf_dg
    rw [List.length_cons, pf_dg_len l]
theorem pf_dg_lt : ∀ l x, x < 6 ^ l → ∀ y ∈ pf_dg l x, y < 6
  | 0, _, _ => fun y hy => (by cases hy)
  | l + 1, x, hx => fun y hy => by
    unfold pf_dg at hy
    rcases List.mem_cons.1 hy with rfl | hy
    · rw [Nat.pow_succ] at hx
      exact Nat.div_lt_of_lt_mul hx
    · exact pf_dg_lt l _ (Nat.mod_lt _ (Nat.pow_pos (by omega))) y hy
theorem pf_dg_num : ∀ l x, x < 6 ^ l → po_num (pf_dg l x) = x
  | 0, x, hx => by
    have : x = 0 := by
      have : (6 : Nat) ^ 0 = 1 := rfl
      omega
    rw [this]; rfl
  | l + 1, x, hx => by
    unfold pf_dg
    rw [po_num_cons, pf_dg_len, pf_dg_num l _ (Nat.mod_lt _ (Nat.pow_pos (by omega)))]
    rw [Nat.mul_comm]
    exact Nat.div_add_mod x (6 ^ l)
/-- the numbers of a length by their first digit -/
theorem pf_range (N : Nat) : ∀ k, List.range (k * N) = (List.range k).flatMap fun h => (List.range N).map fun y => h * N + y
  | 0 => by rw [Nat.zero_mul]; rfl
  | k + 1 => by
    rw [Nat.add_mul, Nat.one_mul, List.range_add, pf_range N k, List.range_succ, List.flatMap_append]
    simp
theorem pf_flat_tail (f : Nat → List (List Nat)) {n : Nat} (h : ∀ x, n ≤ x → x < 6 → f x = []) : ∀ k, n + k ≤ 6 → (List.range (n + k)).flatMap f = (List.range n).flatMap f
  | 0, _ => rfl
  | k + 1, hk => by
    rw [show n + (k + 1) = (n + k) + 1 by omega, List.range_succ, List.flatMap_append, pf_flat_tail f h k (by omega)]
    simp [h (n + k) (by omega) (by omega)]
theorem pf_filter_flatMap {α β : Type} (p : β → Bool) (f : α → List β) : ∀ l : List α, (l.flatMap f).filter p = l.flatMap fun x => (f x).filter p
  | [] => rfl
  | x :: l => by rw [List.flatMap_cons, List.filter_append, pf_filter_flatMap p f l, List.flatMap_cons]
theorem pf_RL_eq (n : Nat) (hn : n ≤ 6) : ∀ l S, ((List.range (6 ^ l)).map (pf_dg l)).filter (pf_va n S) = pf_RL n l S
  | 0, S => rfl
  | l + 1, S => by
    have e : (6 : Nat) ^ (l + 1) = 6 * 6 ^ l := by rw [Nat.pow_succ, Nat.mul_comm]
    rw [e, pf_range (6 ^ l) 6, List.map_flatMap, pf_filter_flatMap]
    have key : ∀ h, ((((List.range (6 ^ l)).map fun y => h * 6 ^ l + y).map (pf_dg (l + 1))).filter (pf_va n S)) = if h < n ∧ S.testBit h = false then (pf_RL n l (S ||| 1 <<< h)).map (h :: ·) else [] := by
      intro h
      have e1 : (((List.range (6 ^ l)).map fun y => h * 6 ^ l + y).map (pf_dg (l + 1))) = ((List.range (6 ^ l)).map (pf_dg l)).map (h :: ·) := by
        rw [List.map_map, List.map_map]
        refine List.map_congr_left fun y hy => ?_
        have hy := List.mem_range.1 hy
        have hp : 0 < 6 ^ l := Nat.pow_pos (by omega)
        show (h * 6 ^ l + y) / 6 ^ l :: pf_dg l ((h * 6 ^ l + y) % 6 ^ l) = h :: pf_dg l y
        rw [Nat.mul_comm h, Nat.mul_add_div hp, Nat.div_eq_of_lt hy, Nat.mul_add_mod, Nat.mod_eq_of_lt hy, Nat.add_zero]
      rw [e1, List.filter_map]
      by_cases c : h < n ∧ S.testBit h = false
      · rw [if_pos c, ← pf_RL_eq n hn l (S ||| 1 <<< h)]
        congr 1
        refine List.filter_congr fun o _ => ?_
        show (decide (h < n) && !S.testBit h && pf_va n (S ||| 1 <<< h) o) = _
        rw [decide_eq_true c.1, c.2]; rfl
      · rw [if_neg c]
        have : ((List.range (6 ^ l)).map (pf_dg l)).filter (pf_va n S ∘ fun x => h :: x) = [] := by
          rw [List.filter_eq_nil_iff]
          intro o _ q
          have q : (decide (h < n) && !S.testBit h && pf_va n (S ||| 1 <<< h) o) = true := q
          rw [Bool.and_eq_true, Bool.and_eq_true, decide_eq_true_eq, Bool.not_eq_true'] at q
          exact c q.1
        rw [this]; rfl
    have : (List.range 6).flatMap (fun h => ((((List.range (6 ^ l)).map fun y => h * 6 ^ l + y).map (pf_dg (l + 1))).filter (pf_va n S))) = (List.range 6).flatMap (fun h => if h < n ∧ S.testBit h = false then (pf_RL n l (S ||| 1 <<< h)).map (h :: ·) else []) := by
      congr 1
      exact funext key
    rw [this]
    have ht := pf_flat_tail (fun h => if h < n ∧ S.testBit h = false then (pf_RL n l (S ||| 1 <<< h)).map (h :: ·) else []) (n := n) (fun x h1 h2 => if_neg (by omega)) (6 - n) (by omega)
    rw [show n + (6 - n) = 6 by omega] at ht
    rw [ht]
    show _ = (List.range n).flatMap fun h => if S.testBit h = true then [] else (pf_RL n l (S ||| 1 <<< h)).map (h :: ·)
    have : ∀ (L : List Nat), (∀ x ∈ L, x < n) → L.flatMap (fun h => if h < n ∧ S.testBit h = false then (pf_RL n l (S ||| 1 <<< h)).map (h :: ·) else []) = L.flatMap (fun h => if S.testBit h = true then [] else (pf_RL n l (S ||| 1 <<< h)).map (h :: ·)) := by
      intro L hL
      induction L with
      | nil => rfl
      | cons x L ih =>
        rw [List.flatMap_cons, List.flatMap_cons, ih (fun y hy => hL y (List.mem_cons_of_mem _ hy))]
        congr 1
        have hx := hL x List.mem_cons_self
        cases q : S.testBit x with
        | true => rw [if_neg (by simp), if_pos rfl]
        | false => rw [if_pos ⟨hx, rfl⟩, if_neg (by simp)]
    exact this _ (fun x hx => List.mem_range.1 hx)
theorem pf_va_iff (n : Nat) : ∀ (o : List Nat) (S : Nat), (∀ x ∈ o, x < 6) → (pf_va n S o = true ↔ (∀ x ∈ o, x < n ∧ S.testBit x = false) ∧ o.Nodup)
  | [], S, _ => ⟨fun _ => ⟨fun x hx => (by cases hx), List.nodup_nil⟩, fun _ => rfl⟩
  | h :: o, S, h6 => by
    have ih := pf_va_iff n o (S ||| 1 <<< h) (fun x hx => h6 x (List.mem_cons_of_mem _ hx))
    show (decide (h < n) && !S.testBit h && pf_va n (S ||| 1 <<< h) o) = true ↔ _
    rw [Bool.and_eq_true, Bool.and_eq_true, decide_eq_true_eq, Bool.not_eq_true', ih, List.nodup_cons]
    have tb : ∀ x, (S ||| 1 <<< h).testBit x = (S.testBit x || decide (h = x)) := fun x => by
      rw [Nat.testBit_or, Nat.one_shiftLeft, Nat.testBit_two_pow]
    constructor
    · rintro ⟨⟨a, b⟩, c, d⟩
      refine ⟨fun x hx => ?_, fun hm => ?_, d⟩
      · rcases List.mem_cons.1 hx with rfl | hx
        · exact ⟨a, b⟩
        · have := c x hx
          rw [tb, Bool.or_eq_false_iff] at this
          exact ⟨this.1, this.2.1⟩
      · have := (c h hm).2
        rw [tb, Bool.or_eq_false_iff] at this
        simp at this
    · rintro ⟨a, b, c⟩
      refine ⟨⟨(a h List.mem_cons_self).1, (a h List.mem_cons_self).2⟩, fun x hx => ⟨(a x (List.mem_cons_of_mem _ hx)).1, ?_⟩, c⟩
      rw [tb, (a x (List.mem_cons_of_mem _ hx)).2, Bool.false_or]
      exact decide_eq_false (fun e => b (by rw [e]; exact hx))
/-- whether the row of a number fits -/
def pf_ft (T : zt_T) (V : pv_V) (tp : Nat → Nat) (tv : Nat → Int) (ts : Nat → Int32) (k l x : Nat) : Bool := pf_va (zt_n T) 0 (pf_dg l x) && pf_so (pv_st T V) tp tv ts k l (pf_dg l x)
/-- all that fit -/
def pf_all (T : zt_T) (V : pv_V) (tp : Nat → Nat) (tv : Nat → Int) (ts : Nat → Int32) (k l : Nat) : List (List Nat) := ((List.range (6 ^ l)).filter (pf_ft T V tp tv ts k l)).map (pf_dg l)
theorem pf_all_eq {T : zt_T} (hn : zt_n T ≤ 6) (V : pv_V) (tp : Nat → Nat) (tv : Nat → Int) (ts : Nat → Int32) (k l : Nat) : (pf_RL (zt_n T) l 0).filter (pf_so (pv_st T V) tp tv ts k l) = pf_all T V tp tv ts k l := by
  rw [← pf_RL_eq (zt_n T) hn l 0, List.filter_filter]
  unfold pf_all
  rw [List.filter_map]
  congr 1
  refine List.filter_congr fun x _ => ?_
  show (pf_so (pv_st T V) tp tv ts k l (pf_dg l x) && pf_va (zt_n T) 0 (pf_dg l x)) = _
  unfold pf_ft
  rw [Bool.and_comm]
theorem pf_len6 {l : Nat} (hl : l ≤ 6) : 6 ^ l ≤ 46656 ∧ 1 ≤ 6 ^ l := ⟨show 6 ^ l ≤ 6 ^ 6 from Nat.pow_le_pow_right (by omega) hl, Nat.one_le_pow _ _ (by omega)⟩
theorem pf_RL_len {n : Nat} (hn : n ≤ 6) {l : Nat} (hl : l ≤ 6) : (pf_RL n l 0).length ≤ 46656 := by
  rw [← pf_RL_eq n hn l 0]
  refine Nat.le_trans (List.length_filter_le _ _) ?_
  rw [List.length_map, List.length_range]
  exact (pf_len6 hl).1
theorem pc_laysFits {T : zt_T} {M : cs_S} {V : pv_V} {k l : Nat} (hT : pt_ok T) (hV : pc_V M 0 V) (ho : pv_ok (zt_n T) V) (ht : pf_T M k) (hl1 : 1 ≤ l) (hl6 : l ≤ 6) :
    pw (gh_laysFits T M (pj k) (pj l)) (fun M' => pf_A T l M' (pf_all T V (pf_tp M) (pf_tv M) (pf_ts M) k l) ∧ pc_h M M') := by
  have hn := hT.1
  unfold gh_laysFits
  rw [Option.bind_some, Option.bind_some]
  have h0 : pc_h M (cs_sF (cs_sF M 0 20 0) 0 21 (-2)) := ⟨fun o f q => by rw [pc_sF1n (by omega), pc_sF1n (by omega)], fun _ _ _ _ => rfl⟩
  have c20 : (cs_sF (cs_sF M 0 20 0) 0 21 (-2)).1 0 20 = pj 0 := by rw [pc_sF1n (by omega), pc_sF1s]; rfl
  have c21 : (cs_sF (cs_sF M 0 20 0) 0 21 (-2)).1 0 21 = pj (-2) := by rw [pc_sF1s]; rfl
  generalize cs_sF (cs_sF M 0 20 0) 0 21 (-2) = M0 at h0 c20 c21
  refine pw_seq (Q := fun M1 => M1.1 = M0.1 ∧ pc_h M M1 ∧ ∀ i h, i < 6 → h < 6 → M1.2 62 i h = pj 0) ?_ ?_
  · rw [pj_0]
    refine pw_for 6 (fun k t => ∃ M', t = (pj (k : Nat), M') ∧ M'.1 = M0.1 ∧ pc_h M M' ∧ ∀ i h, i < k → h < 6 → M'.2 62 i h = pj 0) 5000 (by omega) ?_ ?_ _ ⟨M0, rfl, rfl, h0, fun i h hi => absurd hi (Nat.not_lt_zero i)⟩
    · rintro j t hj ⟨M1, rfl, d1, d2, d3⟩
      have hlt : (j : Int) < 6 := by omega
      unfold gh_laysFits_L13
      simp (disch := omega) only [pj_lit, pj_add, pj_sub, pj_neg, pj_mul, pj_lt, pj_eq, pj_nat, pj_ald, pj_ast, pj_ix, pw_bind, pw_ite, pw_some, pw_none, pw_let, Option.bind_some, Int.toNat_natCast, Sum.elim_inl, Sum.elim_inr, Int.cast_ofNat_Int, Int.reduceLT, Int.reduceLE, Int.reduceEq, Int.reduceAdd, Int.reduceSub, Int.reduceMul, Int.reduceNeg, Int.reduceToNat, Nat.reduceAdd, Nat.reduceSub, Nat.reduceMul, Nat.reduceEqDiff, Nat.reduceLT, reduceIte, reduceCtorEq, true_and, and_true, forall_const, not_true_eq_false, not_false_eq_true, false_implies, implies_true, hlt]
      refine pw_mono (Q := fun M' => M'.1 = M0.1 ∧ pc_h M M' ∧ ∀ i h, i < j + 1 → h < 6 → M'.2 62 i h = pj 0) ?_ (fun M' h => ⟨M', by congr 2, h⟩)
      refine pw_for 6 (fun u t => ∃ M', t = (pj (u : Nat), M') ∧ M'.1 = M0.1 ∧ pc_h M M' ∧ (∀ i h, i < j → h < 6 → M'.2 62 i h = pj 0) ∧ ∀ h, h < u → M'.2 62 j h = pj 0) 5000 (by omega) ?_ ?_ _ ⟨M1, rfl, d1, d2, d3, fun h hh => absurd hh (Nat.not_lt_zero h)⟩
      · rintro u t hu ⟨M2, rfl, f1, f2, f3, f4⟩
        have hltu : (u : Int) < 6 := by omega
        unfold gh_laysFits_L22
        simp (disch := omega) only [pj_lit, pj_add, pj_sub, pj_neg, pj_mul, pj_lt, pj_eq, pj_nat, pj_ald, pj_ast, pj_ix, pw_bind, pw_ite, pw_some, pw_none, pw_let, Option.bind_some, Int.toNat_natCast, Sum.elim_inl, Sum.elim_inr, Int.cast_ofNat_Int, Int.reduceLT, Int.reduceLE, Int.reduceEq, Int.reduceAdd, Int.reduceSub, Int.reduceMul, Int.reduceNeg, Int.reduceToNat, Nat.reduceAdd, Nat.reduceSub, Nat.reduceMul, Nat.reduceEqDiff, Nat.reduceLT, reduceIte, reduceCtorEq, true_and, and_true, forall_const, not_true_eq_false, not_false_eq_true, false_implies, implies_true, hltu]
        refine ⟨_, rfl, f1, pc_h_trans f2 ⟨fun _ _ _ => rfl, fun o f a _ => pc_sA2n (by omega)⟩, fun i h hi hh => ?_, fun h hh => ?_⟩
        · rw [pc_sA2n (by omega)]; exact f3 i h hi hh
        · rw [pc_sA2s, pj_nat (by omega), Int.toNat_natCast, pj_upd]
          by_cases e : h = u
          · rw [if_pos e]
          · rw [if_neg e]; exact f4 h (by omega)
      · rintro t ⟨M2, rfl, f1, f2, f3, f4⟩
        unfold gh_laysFits_L22
        simp (disch := omega) only [pj_lit, pj_add, pj_sub, pj_neg, pj_mul, pj_lt, pj_eq, pj_nat, pj_ald, pj_ast, pj_ix, pw_bind, pw_ite, pw_some, pw_none, pw_let, Option.bind_some, Int.toNat_natCast, Sum.elim_inl, Sum.elim_inr, Int.cast_ofNat_Int, Int.reduceLT, Int.reduceLE, Int.reduceEq, Int.reduceAdd, Int.reduceSub, Int.reduceMul, Int.reduceNeg, Int.reduceToNat, Nat.reduceAdd, Nat.reduceSub, Nat.reduceMul, Nat.reduceEqDiff, Nat.reduceLT, reduceIte, reduceCtorEq, true_and, and_true, forall_const, not_true_eq_false, not_false_eq_true, false_implies, implies_true, Int.lt_irrefl]
        refine ⟨f1, f2, fun i h hi hh => ?_⟩
        by_cases e : i = j
        · rw [e]; exact f4 h hh
        · exact f3 i h (by omega) hh
    · rintro t ⟨M1, rfl, d1, d2, d3⟩
      unfold gh_laysFits_L13
      simp (disch := omega) only [pj_lit, pj_add, pj_sub, pj_neg, pj_mul, pj_lt, pj_eq, pj_nat, pj_ald, pj_ast, pj_ix, pw_bind, pw_ite, pw_some, pw_none, pw_let, Option.bind_some, Int.toNat_natCast, Sum.elim_inl, Sum.elim_inr, Int.cast_ofNat_Int, Int.reduceLT, Int.reduceLE, Int.reduceEq, Int.reduceAdd, Int.reduceSub, Int.reduceMul, Int.reduceNeg, Int.reduceToNat, Nat.reduceAdd, Nat.reduceSub, Nat.reduceMul, Nat.reduceEqDiff, Nat.reduceLT, reduceIte, reduceCtorEq, true_and, and_true, forall_const, not_true_eq_false, not_false_eq_true, false_implies, implies_true, Int.lt_irrefl]
      exact ⟨d1, d2, d3⟩
  · rintro M1 ⟨d1, d2, d3⟩
    obtain ⟨u1, u2, u3⟩ := pc_h_tp d2
    have hrl := pf_RL_len hn hl6
    refine pw_seq (Q := fun M' => pf_A T l M' (pf_all T V (pf_tp M) (pf_tv M) (pf_ts M) k l) ∧ pc_h M M') ?_ (fun M' h => (pw_some _ _).2 h)
    have := pc_rowsFit (k := k) hT ho hl6 (pf_tp M) (pf_tv M) (pf_ts M) l 8 M1 [] [] 0 (by omega) (by simp) (pc_V_k (by omega) (by omega) (pc_h_k d2) hV) (pf_T_h d2 ht) u1 u2 u3 ⟨by rw [d1]; exact c20, by rw [d1]; exact c21, fun i h hi hh => d3 i h (by omega) (by omega)⟩ (by simpa using hrl) (fun x hx => (by cases hx)) (fun i x e => (by cases e)) (by omega)
    refine pw_mono this (fun M' h => ⟨?_, pc_h_trans d2 h.2.1⟩)
    have h1 := h.1
    rw [List.nil_append] at h1
    rw [← pf_all_eq hn]
    simpa using h1
def pf_first (L : List (List Nat)) : Int32 := pf_hd L
theorem pq_tolds {M : cs_S} {Z : zm_S} (h : pr_L M Z) {k : Nat} (hk : ∀ t : Nat, M.1 0 19 = pj t → t ≤ 20 → k ≤ t) : pf_T M k ∧ ∀ i, i < k → M.2 0 22 i = Z.2.1 64 i ∧ M.2 0 23 i = Z.2.1 65 i ∧ M.2 0 24 i = Z.2.1 66 i := by
  obtain ⟨t, t1, t2, t3, t4⟩ := h
  have hkt := hk t t2 t1
  refine ⟨⟨by omega, fun i hi => ?_⟩, fun i hi => ?_⟩
  · obtain ⟨a1, a2, a3, ⟨p, p1, p2⟩, ⟨v, v1, v2, v3⟩, -⟩ := t4 i (by omega)
    have ep : pf_tp M i = p := by unfold pf_tp; rw [p2, pj_toInt (by omega)]; rfl
    have ev : pf_tv M i = v := by unfold pf_tv; rw [v3, pj_toInt (by omega)]
    rw [ep, ev]
    exact ⟨p1, p2, v3, v1, v2⟩
  · obtain ⟨a1, a2, a3, -⟩ := t4 i (by omega)
    exact ⟨a1, a2, a3⟩
/-! rows as numbers, by the model -/
theorem po_set_bit : ∀ (o : List Nat) (h : Nat), (po_set o).testBit h = decide (h ∈ o)
  | [], h => by simp [po_set]
  | x :: o, h => by
    unfold po_set
    rw [Nat.testBit_or, Nat.one_shiftLeft, Nat.testBit_two_pow, po_set_bit o h]
    by_cases c : x = h
    · subst c; simp
    · simp [c, Ne.symm c]
theorem pf_sixes : ∀ l, l < 7 → gm_sixes (pj (l : Nat)) = some (pj ((6 ^ l : Nat) : Int)) := by decide +kernel
def pm_r (Z Z' : zm_S) : Prop := Z'.1 = Z.1 ∧ (∀ k, k ≠ 67 → Z'.2.1 k = Z.2.1 k) ∧ Z'.2.2 = Z.2.2
theorem pm_r_rfl (Z : zm_S) : pm_r Z Z := ⟨rfl, fun _ _ => rfl, rfl⟩
theorem pm_r_trans {A B C : zm_S} (h : pm_r A B) (g : pm_r B C) : pm_r A C := ⟨g.1.trans h.1, fun k a => (g.2.1 k a).trans (h.2.1 k a), g.2.2.trans h.2.2⟩
theorem pm_r_k {Z Z' : zm_S} (h : pm_r Z Z') : pm_k Z Z' := ⟨fun k _ _ _ _ => by rw [h.1], fun k a => h.2.1 k (by omega), h.2.2⟩
theorem pm_r_tx {Z Z' : zm_S} (h : pm_r Z Z') : pm_tx Z Z' := ⟨by rw [h.1], fun k q => h.2.1 k (by omega)⟩
/-- the model's state in which rows are tried -/
def pm_Q (T : zt_T) (s : Nat) (V : pv_V) (tp : Nat → Nat) (tv : Nat → Int) (ts : Nat → Int32) (k : Nat) (Z : zm_S) : Prop :=
  pm_T T s Z ∧ (∀ h, h < zt_n T → Z.2.1 56 h = pj (pv_st T V h)) ∧ k ≤ 20 ∧ ∀ i, i < k → tp i < 6 ∧ 0 ≤ tv i ∧ tv i ≤ 99 ∧ Z.2.1 64 i = pj (tp i) ∧ Z.2.1 65 i = pj (tv i) ∧ Z.2.1 66 i = ts i
theorem pm_Q_r {T : zt_T} {s : Nat} {V : pv_V} {tp : Nat → Nat} {tv : Nat → Int} {ts : Nat → Int32} {k : Nat} {Z Z' : zm_S} (h : pm_r Z Z') (g : pm_Q T s V tp tv ts k Z) : pm_Q T s V tp tv ts k Z' := by
  obtain ⟨g1, g2, g3, g4⟩ := g
  refine ⟨pm_T_tx (pm_r_tx h) g1, ?_, g3, ?_⟩
  · rw [h.2.1 56 (by omega)]; exact g2
  · rw [h.2.1 64 (by omega), h.2.1 65 (by omega), h.2.1 66 (by omega)]; exact g4
def pf_ce (o : List Nat) (Z : zm_S) : Prop := ∀ (i x : Nat), o[i]? = some x → Z.2.1 67 i = pj x
theorem pm_digits {T : zt_T} {s : Nat} {V : pv_V} {tp : Nat → Nat} {tv : Nat → Int} {ts : Nat → Int32} {k l x : Nat} {Z : zm_S} (hT : pt_ok T) (hQ : pm_Q T s V tp tv ts k Z) (hl1 : 1 ≤ l) (hl6 : l ≤ 6) (hx : x < 6 ^ l) :
    pw (zs_loop 5000 gm_doesFit_L11 (pj x, 0, pj l - 1, Z)) (fun r => Sum.elim (fun Z' => pf_va (zt_n T) 0 (pf_dg l x) = true ∧ pm_r Z Z' ∧ pf_ce (pf_dg l x) Z') (fun p => p.1 = false ∧ pf_va (zt_n T) 0 (pf_dg l x) = false ∧ pm_r Z p.2) r) := by
  have hn := hT.1
  have hlen := pf_dg_len l x
  have h6 := pf_dg_lt l x hx
  have hnum := pf_dg_num l x hx
  have h46 := (pf_len6 hl6).1
  generalize ho : pf_dg l x = o at hlen h6 hnum
  have hva := pf_va_iff (zt_n T) o 0 h6
  have hz : ∀ y, (0 : Nat).testBit y = false := fun y => Nat.zero_testBit y
  refine pw_for l (fun j t => ∃ Z', t = (pj (po_num (o.take (l - j)) : Nat), pj (po_set (o.drop (l - j)) : Nat), pj ((l : Int) - (j : Int) - 1), Z') ∧ pm_r Z Z' ∧ (∀ (i x : Nat), l - j ≤ i → o[i]? = some x → Z'.2.1 67 i = pj x) ∧ (∀ x ∈ o.drop (l - j), x < zt_n T) ∧ (o.drop (l - j)).Nodup) 5000 (by omega) ?_ ?_ _ ⟨Z, ?_, pm_r_rfl Z, fun i y hi e => ?_, ?_, ?_⟩
  · rintro j t hj ⟨Z1, rfl, h1, h2, h3, h4⟩
    obtain ⟨m, rfl⟩ : ∃ m, l = m + 1 + j := ⟨l - j - 1, by omega⟩
    rw [show m + 1 + j - j = m + 1 by omega] at h2 h3 h4 ⊢
    rw [show m + 1 + j - (j + 1) = m by omega]
    have hg := pv_get (l := o) (k := m) (by omega)
    generalize o.getD m 0 = h at hg
    have hh6 := h6 h (List.mem_of_getElem? hg)
    have htk : o.take (m + 1) = o.take m ++ [h] := by rw [List.take_add_one, hg]; rfl
    have hdr : o.drop m = h :: o.drop (m + 1) := by
      have hlt : m < o.length := by omega
      rw [List.drop_eq_getElem_cons hlt]
      rw [List.getElem?_eq_getElem hlt] at hg
      injection hg with hg
      rw [hg]
    have htl : po_num (o.take m) < 6 ^ 6 := by
      have := po_num_lt (o.take m) (fun z hz => h6 z (List.mem_of_mem_take hz))
      refine Nat.lt_of_lt_of_le this ?_
      exact Nat.pow_le_pow_right (by omega) (by rw [List.length_take]; omega)
    have e66 : (6 : Nat) ^ 6 = 46656 := by decide
    rw [htk, pf_num_snoc]
    generalize po_num (o.take m) = q at htl ⊢
    have hr : zs_rem (pj ((6 * q + h : Nat) : Int)) (pj 6) = pj (h : Nat) := by
      have := pj_remN (a := 6 * q + h) (b := 6) (by omega) (by omega)
      rw [show (6 * q + h) % 6 = h by omega] at this
      exact this
    have hd : pj ((6 * q + h : Nat) : Int) / pj 6 = pj (q : Nat) := by
      have := pj_divN (a := 6 * q + h) (b := 6) (by omega) (by omega)
      rw [show (6 * q + h) / 6 = q by omega] at this
      exact this
    have hS : po_set (o.drop (m + 1)) < 64 := po_set_lt (n := 6) _ (fun z hz => h6 z (List.mem_of_mem_drop hz))
    have hm : ((m + 1 + j : Nat) : Int) - (j : Int) - 1 = (m : Nat) := by omega
    have hm' : ((m + 1 + j : Nat) : Int) - ((j + 1 : Nat) : Int) - 1 = (m : Int) - 1 := by omega
    rw [hm, hm']
    have hm0 : ¬ (m : Int) < 0 := by omega
    have hcell : (zm_sA Z1 67 (pj (m : Nat)) (pj (h : Nat))).2.1 67 m = pj (h : Nat) := by
      rw [pm_sA, if_pos rfl, pj_nat (by omega), Int.toNat_natCast, pj_upd, if_pos rfl]
    have hre : pm_r Z (zm_sA Z1 67 (pj (m : Nat)) (pj (h : Nat))) := pm_r_trans h1 ⟨rfl, fun k a => pm_sAn a, rfl⟩
    have hcells : ∀ (i x : Nat), m ≤ i → o[i]? = some x → (zm_sA Z1 67 (pj (m : Nat)) (pj (h : Nat))).2.1 67 i = pj (x : Nat) := fun i y hi e => by
      rw [pm_sA, if_pos rfl, pj_nat (by omega), Int.toNat_natCast, pj_upd]
      by_cases c : i = m
      · subst c
        rw [if_pos rfl]
        rw [hg] at e
        injection e with e
        rw [e]
      · rw [if_neg c]; exact h2 i y (by omega) e
    have hih := pm_isHouse hT (pm_Q_r hre hQ).1 (pj (h : Nat))
    rw [pj_toInt (by omega)] at hih
    have hor := pj_or _ hS (1 <<< h) (pg_shl hh6)
    unfold gm_doesFit_L11
    generalize hM2 : zm_sA Z1 67 (pj (m : Nat)) (pj (h : Nat)) = M2 at hcell hre hcells hih
    simp (disch := omega) only [pj_lit, pj_add, pj_sub, pj_neg, pj_mul, pj_lt, pj_eq, pj_nat, pj_ald, pj_ast, pj_ix, pw_bind, pw_ite, pw_some, pw_none, pw_let, Option.bind_some, Int.toNat_natCast, Sum.elim_inl, Sum.elim_inr, Int.cast_ofNat_Int, Int.reduceLT, Int.reduceLE, Int.reduceEq, Int.reduceAdd, Int.reduceSub, Int.reduceMul, Int.reduceNeg, Int.reduceToNat, Nat.reduceAdd, Nat.reduceSub, Nat.reduceMul, Nat.reduceEqDiff, Nat.reduceLT, reduceIte, reduceCtorEq, true_and, and_true, forall_const, not_true_eq_false, not_false_eq_true, false_implies, implies_true, hm0, hr, hM2, hd, hcell, hih, pj_bitx hS hh6, pj_shl1 h (show h < 7 by omega), hor, decide_eq_true_eq, po_set_bit]
    refine ⟨fun c => ⟨fun c2 => ?_, fun c2 => ?_⟩, fun c => ?_⟩
    · refine ⟨?_, hre⟩
      cases hv : pf_va (zt_n T) 0 o with
      | false => rfl
      | true =>
        have := (hva.1 hv).2
        rw [← List.take_append_drop m o, List.nodup_append, hdr, List.nodup_cons] at this
        exact absurd c2 this.2.1.1
    · refine ⟨M2, ?_, hre, hcells, ?_, ?_⟩
      · rw [hdr]
        show _ = (_, pj ((1 <<< h ||| po_set (o.drop (m + 1)) : Nat) : Int), _, _)
        rw [Nat.or_comm]; rfl
      · rw [hdr]
        intro z hz
        rcases List.mem_cons.1 hz with rfl | hz
        · omega
        · exact h3 z hz
      · rw [hdr, List.nodup_cons]
        exact ⟨c2, h4⟩
    · refine ⟨?_, hre⟩
      cases hv : pf_va (zt_n T) 0 o with
      | false => rfl
      | true => exact absurd (by have := ((hva.1 hv).1 h (List.mem_of_getElem? hg)).1; omega) c
  · rintro t ⟨Z1, rfl, h1, h2, h3, h4⟩
    rw [Nat.sub_self] at h2 h3 h4 ⊢
    rw [List.drop_zero] at h3 h4
    have hm : (l : Int) - (l : Int) - 1 = -1 := by omega
    rw [hm]
    unfold gm_doesFit_L11
    simp (disch := omega) only [pj_lit, pj_add, pj_sub, pj_neg, pj_mul, pj_lt, pj_eq, pj_nat, pj_ald, pj_ast, pj_ix, pw_bind, pw_ite, pw_some, pw_none, pw_let, Option.bind_some, Int.toNat_natCast, Sum.elim_inl, Sum.elim_inr, Int.cast_ofNat_Int, Int.reduceLT, Int.reduceLE, Int.reduceEq, Int.reduceAdd, Int.reduceSub, Int.reduceMul, Int.reduceNeg, Int.reduceToNat, Nat.reduceAdd, Nat.reduceSub, Nat.reduceMul, Nat.reduceEqDiff, Nat.reduceLT, reduceIte, reduceCtorEq, true_and, and_true, forall_const, not_true_eq_false, not_false_eq_true, false_implies, implies_true]
    exact ⟨hva.2 ⟨fun x hx => ⟨h3 x hx, hz x⟩, h4⟩, h1, fun i y e => h2 i y (by omega) e⟩
  · rw [Nat.sub_zero, List.take_of_length_le (by omega), hnum, List.drop_of_length_le (by omega)]
    rw [pj_1, pj_sub]
    have : (l : Int) - ((0 : Nat) : Int) - 1 = (l : Int) - 1 := by omega
    rw [this]; rfl
  · have := (List.getElem?_eq_some_iff.1 e).1
    omega
  · rw [Nat.sub_zero, List.drop_of_length_le (by omega)]
    intro y hy
    cases hy
  · rw [Nat.sub_zero, List.drop_of_length_le (by omega)]
    exact List.nodup_nil
theorem pm_doesFit {T : zt_T} {s : Nat} {V : pv_V} {tp : Nat → Nat} {tv : Nat → Int} {ts : Nat → Int32} {k l x : Nat} {Z : zm_S} (hT : pt_ok T) (ho : pv_ok (zt_n T) V) (hQ : pm_Q T s V tp tv ts k Z) (hl1 : 1 ≤ l) (hl6 : l ≤ 6) (hx : x < 6 ^ l) :
    pw (gm_doesFit Z (pj x) (pj k) (pj l)) (fun p => p.1 = pf_ft T V tp tv ts k l x ∧ pm_r Z p.2 ∧ (pf_ft T V tp tv ts k l x = true → pf_ce (pf_dg l x) p.2)) := by
  have hn := hT.1
  have h6 := pf_dg_lt l x hx
  have hlen := pf_dg_len l x
  unfold gm_doesFit pf_ft
  rw [Option.bind_some]
  refine pw_seq (pm_digits hT hQ hl1 hl6 hx) (fun r hr => ?_)
  cases r with
  | inr p =>
    obtain ⟨p1, p2⟩ := p
    obtain ⟨h1, h2, h3⟩ := hr
    dsimp only at h1 h3
    subst h1
    rw [Sum.elim_inr, pw_some, h2, Bool.false_and]
    exact ⟨rfl, h3, fun q => (by cases q)⟩
  | inl Z1 =>
    obtain ⟨h1, h2, h3⟩ := hr
    rw [Sum.elim_inl, h1, Bool.true_and]
    generalize pf_dg l x = o at h1 h3 h6 hlen
    have hQ1 := pm_Q_r h2 hQ
    obtain ⟨g1, g2, g3, g4⟩ := hQ1
    have hva := (pf_va_iff (zt_n T) o 0 h6).1 h1
    refine pw_seq (Q := fun p => p.1 = pf_so (pv_st T V) tp tv ts k l o ∧ p.2 = Z1) ?_ (fun p hp => (pw_some _ _).2 ⟨hp.1, by rw [hp.2]; exact h2, fun _ => by rw [hp.2]; exact h3⟩)
    have hno : ∀ i, i < k → ¬ (decide (tp i < l) && decide ((if pv_st T V (o.getD (tp i) 0) < tv i then (0 : Int32) else 1) = ts i)) = true → false = pf_so (pv_st T V) tp tv ts k l o := fun i hi hc => by
      cases q : pf_so (pv_st T V) tp tv ts k l o with
      | false => rfl
      | true => exact absurd (List.all_eq_true.1 q i (List.mem_range.2 hi)) hc
    rw [pj_0]
    refine pw_for k (fun j t => t = pj (j : Nat) ∧ ∀ i, i < j → (decide (tp i < l) && decide ((if pv_st T V (o.getD (tp i) 0) < tv i then (0 : Int32) else 1) = ts i)) = true) 5000 (by omega) ?_ ?_ _ ⟨rfl, fun i hi => absurd hi (Nat.not_lt_zero i)⟩
    · rintro j t hj ⟨rfl, hall⟩
      obtain ⟨t1, t2, t3, t4, t5, t6⟩ := g4 j hj
      have hlt : (j : Int) < (k : Nat) := by omega
      unfold gm_doesFit_L90
      by_cases c : tp j < l
      · have c' : ((tp j : Nat) : Int) < (l : Nat) := by omega
        have hgx := pv_get (l := o) (k := tp j) (by omega)
        have hcell := h3 _ _ hgx
        have hxn := (hva.1 _ (List.mem_of_getElem? hgx)).1
        have hno' := hno j hj
        generalize hy : o.getD (tp j) 0 = y at hcell hxn hno'
        have hsb := pv_st_bd hT ho hxn
        have h56 := g2 y hxn
        rw [decide_eq_true c, Bool.true_and] at hno'
        have hok : ((if pv_st T V y < tv j then (0 : Int32) else 1) = ts j) → ∀ i, i < j + 1 → (decide (tp i < l) && decide ((if pv_st T V (o.getD (tp i) 0) < tv i then (0 : Int32) else 1) = ts i)) = true := fun hw i hi => by
          by_cases q : i = j
          · rw [q, hy, decide_eq_true c, Bool.true_and, decide_eq_true_eq]
            exact hw
          · exact hall i (by omega)
        simp (disch := omega) only [pj_lit, pj_add, pj_sub, pj_neg, pj_mul, pj_lt, pj_eq, pj_nat, pj_ald, pj_ast, pj_ix, pw_bind, pw_ite, pw_some, pw_none, pw_let, Option.bind_some, Int.toNat_natCast, Sum.elim_inl, Sum.elim_inr, Int.cast_ofNat_Int, Int.reduceLT, Int.reduceLE, Int.reduceEq, Int.reduceAdd, Int.reduceSub, Int.reduceMul, Int.reduceNeg, Int.reduceToNat, Nat.reduceAdd, Nat.reduceSub, Nat.reduceMul, Nat.reduceEqDiff, Nat.reduceLT, reduceIte, reduceCtorEq, true_and, and_true, forall_const, not_true_eq_false, not_false_eq_true, false_implies, implies_true, hlt, t4, c', hcell, h56, t5, t6]
        refine ⟨fun d => ?_, fun d => ?_⟩
        · rw [if_pos d] at hno' hok
          exact ⟨fun e => ⟨rfl, hok e⟩, fun e => hno' (fun q => e (of_decide_eq_true q))⟩
        · rw [if_neg d] at hno' hok
          exact ⟨fun e => ⟨rfl, hok e⟩, fun e => hno' (fun q => e (of_decide_eq_true q))⟩
      · have c' : ¬ ((tp j : Nat) : Int) < (l : Nat) := by omega
        simp (disch := omega) only [pj_lit, pj_add, pj_sub, pj_neg, pj_mul, pj_lt, pj_eq, pj_nat, pj_ald, pj_ast, pj_ix, pw_bind, pw_ite, pw_some, pw_none, pw_let, Option.bind_some, Int.toNat_natCast, Sum.elim_inl, Sum.elim_inr, Int.cast_ofNat_Int, Int.reduceLT, Int.reduceLE, Int.reduceEq, Int.reduceAdd, Int.reduceSub, Int.reduceMul, Int.reduceNeg, Int.reduceToNat, Nat.reduceAdd, Nat.reduceSub, Nat.reduceMul, Nat.reduceEqDiff, Nat.reduceLT, reduceIte, reduceCtorEq, true_and, and_true, forall_const, not_true_eq_false, not_false_eq_true, false_implies, implies_true, hlt, t4, c']
        exact hno j hj (by rw [decide_eq_false c, Bool.false_and]; decide)
    · rintro t ⟨rfl, hall⟩
      unfold gm_doesFit_L90
      simp (disch := omega) only [pj_lit, pj_add, pj_sub, pj_neg, pj_mul, pj_lt, pj_eq, pj_nat, pj_ald, pj_ast, pj_ix, pw_bind, pw_ite, pw_some, pw_none, pw_let, Option.bind_some, Int.toNat_natCast, Sum.elim_inl, Sum.elim_inr, Int.cast_ofNat_Int, Int.reduceLT, Int.reduceLE, Int.reduceEq, Int.reduceAdd, Int.reduceSub, Int.reduceMul, Int.reduceNeg, Int.reduceToNat, Nat.reduceAdd, Nat.reduceSub, Nat.reduceMul, Nat.reduceEqDiff, Nat.reduceLT, reduceIte, reduceCtorEq, true_and, and_true, forall_const, not_true_eq_false, not_false_eq_true, false_implies, implies_true, Int.lt_irrefl]
      exact (List.all_eq_true.2 fun i hi => hall i (List.mem_range.1 hi)).symm
/-! how many rows fit -/
def pf_hn : List Nat → Int
  | [] => -2
  | x :: _ => (x : Nat)
theorem pf_hn_bd : ∀ (L : List Nat), (∀ x ∈ L, x < 46656) → -2 ≤ pf_hn L ∧ pf_hn L < 46656
  | [], _ => by show (-2 : Int) ≤ -2 ∧ (-2 : Int) < 46656; omega
  | x :: L, h => by
    have := h x List.mem_cons_self
    show (-2 : Int) ≤ (x : Nat) ∧ ((x : Nat) : Int) < 46656
    omega
theorem pf_hd_map {l : Nat} : ∀ (L : List Nat), (∀ x ∈ L, x < 6 ^ l) → pf_hd (L.map (pf_dg l)) = pj (pf_hn L)
  | [], _ => rfl
  | x :: L, h => by
    show pj (po_num (pf_dg l x) : Nat) = pj ((x : Nat) : Int)
    rw [pf_dg_num l x (h x List.mem_cons_self)]
def pf_sf (ft : Nat → Bool) (N m : Nat) : List Nat := (List.range' m (N - m)).filter ft
theorem pf_sf_step {ft : Nat → Bool} {N m : Nat} (h : m < N) : pf_sf ft N m = if ft m = true then m :: pf_sf ft N (m + 1) else pf_sf ft N (m + 1) := by
  unfold pf_sf
  rw [show N - m = (N - (m + 1)) + 1 by omega, List.range'_succ, List.filter_cons]
theorem pf_sf_0 (ft : Nat → Bool) (N : Nat) : pf_sf ft N 0 = (List.range N).filter ft := by
  unfold pf_sf
  rw [Nat.sub_zero, List.range_eq_range']
theorem pf_sf_N (ft : Nat → Bool) (N : Nat) : pf_sf ft N N = [] := by
  unfold pf_sf
  rw [Nat.sub_self]; rfl
theorem pf_sf_len (ft : Nat → Bool) (N m : Nat) : (pf_sf ft N m).length ≤ N - m := by
  unfold pf_sf
  refine Nat.le_trans (List.length_filter_le _ _) ?_
  rw [List.length_range']
  exact Nat.le_refl _
theorem pm_rows {T : zt_T} {s : Nat} {Z : zm_S} {V : pv_V} {tp : Nat → Nat} {tv : Nat → Int} {ts : Nat → Int32} {k l : Nat} (hT : pt_ok T) (hm : pm_T T s Z) (ho : pv_ok (zt_n T) V) (hrow : pv_row (Z.2.1 47) V) (hl1 : 1 ≤ l) (hl6 : l ≤ 6) {t : Nat} (ht : t ≤ 20) (hk : k ≤ t) (h63 : Z.1 63 = pj t)
    (hL : ∀ i, i < k → tp i < 6 ∧ 0 ≤ tv i ∧ tv i ≤ 99 ∧ Z.2.1 64 i = pj (tp i) ∧ Z.2.1 65 i = pj (tv i) ∧ Z.2.1 66 i = ts i) (a : Int32) (ha : 0 ≤ a.toInt ∧ a.toInt ≤ 1) :
    pw (gm_rows Z (pj k) (pj l) a) (fun p => p.1 = (if a = 0 then pj (pf_all T V tp tv ts k l).length else pf_hd (pf_all T V tp tv ts k l)) ∧ pm_k Z p.2) := by
  have hn := hT.1
  obtain ⟨h46, h461⟩ := pf_len6 hl6
  obtain ⟨Z1, eZ, hc⟩ := pm_copies hm ho hrow
  have hk1 := pm_c_k hc
  obtain ⟨hm1, hr1, -⟩ := hc
  have e1 : gm_isAsked Z (pj k) (pj l) = some true := by
    unfold gm_isAsked
    rw [h63, show gm_in (pj (k : Nat)) 0 (pj t) = some (decide ((0 : Int) ≤ (pj (k : Nat)).toInt ∧ (pj (k : Nat)).toInt ≤ t)) from pm_isIn (lo := 0) (hi := t) _ (by omega) (by omega), show gm_in (pj (l : Nat)) 1 6 = some (decide ((1 : Int) ≤ (pj (l : Nat)).toInt ∧ (pj (l : Nat)).toInt ≤ 6)) from pm_isIn (lo := 1) (hi := 6) _ (by omega) (by omega), pj_toInt (by omega), pj_toInt (by omega), decide_eq_true (by omega), decide_eq_true (by omega)]
    rfl
  unfold gm_rows
  rw [e1, Option.bind_some, if_pos rfl, show gm_in a 0 1 = some (decide (0 ≤ a.toInt ∧ a.toInt ≤ 1)) from pm_isIn (lo := 0) (hi := 1) a (by omega) (by omega), decide_eq_true ha, Option.bind_some, if_pos rfl, eZ, Option.bind_some]
  refine pw_seq (pm_plan hT hm1 hr1 ho) (fun Z2 h2 => ?_)
  obtain ⟨hB, hPP, hq⟩ := h2
  have hk2 := pm_k_trans hk1 (pm_q_k hq)
  have hQ : pm_Q T s V tp tv ts k Z2 := by
    refine ⟨hB.1, hPP.2.1, by omega, ?_⟩
    rw [hk2.2.1 64 (by omega), hk2.2.1 65 (by omega), hk2.2.1 66 (by omega)]
    exact hL
  rw [pf_sixes l (by omega), Option.bind_some, Option.bind_some]
  have hsub : ∀ x ∈ (List.range (6 ^ l)).filter (pf_ft T V tp tv ts k l), x < 6 ^ l := fun x hx => List.mem_range.1 (List.mem_filter.1 hx).1
  unfold pf_all
  rw [pf_hd_map _ hsub, List.length_map, ← pf_sf_0]
  generalize hN : 6 ^ l = N at h46 h461
  generalize hft : pf_ft T V tp tv ts k l = ft
  have hstep : ∀ (x : Nat) (M : zm_S), x < N → pm_r Z2 M → pw (gm_doesFit M (pj x) (pj k) (pj l)) (fun p => p.1 = ft x ∧ pm_r Z2 p.2) := fun x M hx hM => by
    refine pw_mono (pm_doesFit hT ho (pm_Q_r hM hQ) hl1 hl6 (by omega)) (fun p hp => ⟨?_, pm_r_trans hM hp.2.1⟩)
    rw [hp.1, hft]
  refine pw_seq (Q := fun r : Int32 × Int32 × zm_S => r.1 = pj (pf_sf ft N 0).length ∧ r.2.1 = pj (pf_hn (pf_sf ft N 0)) ∧ pm_r Z2 r.2.2) ?_ ?_
  · refine pw_for N (fun j t => ∃ M', t = (pj (pf_sf ft N (N - j)).length, pj (pf_hn (pf_sf ft N (N - j))), pj ((N : Int) - (j : Int) - 1), M') ∧ pm_r Z2 M') 50000 (by omega) ?_ ?_ _ ⟨Z2, ?_, pm_r_rfl Z2⟩
    · rintro j t hj ⟨M1, rfl, h1⟩
      obtain ⟨m, rfl⟩ : ∃ m, N = m + 1 + j := ⟨N - j - 1, by omega⟩
      have hm0 : ((m + 1 + j : Nat) : Int) - (j : Int) - 1 = (m : Nat) := by omega
      have hm1 : ((m + 1 + j : Nat) : Int) - ((j + 1 : Nat) : Int) - 1 = (m : Int) - 1 := by omega
      rw [hm0, hm1, show m + 1 + j - j = m + 1 by omega, show m + 1 + j - (j + 1) = m by omega, pf_sf_step (show m < m + 1 + j by omega)]
      have hl := pf_sf_len ft (m + 1 + j) (m + 1)
      generalize pf_sf ft (m + 1 + j) (m + 1) = S at hl
      have hneg : ¬ ((m : Nat) : Int) < 0 := by omega
      unfold gm_rows_L43
      simp (disch := omega) only [pj_lit, pj_add, pj_sub, pj_neg, pj_mul, pj_lt, pj_eq, pj_nat, pj_ald, pj_ast, pj_ix, pw_bind, pw_ite, pw_some, pw_none, pw_let, Option.bind_some, Int.toNat_natCast, Sum.elim_inl, Sum.elim_inr, Int.cast_ofNat_Int, Int.reduceLT, Int.reduceLE, Int.reduceEq, Int.reduceAdd, Int.reduceSub, Int.reduceMul, Int.reduceNeg, Int.reduceToNat, Nat.reduceAdd, Nat.reduceSub, Nat.reduceMul, Nat.reduceEqDiff, Nat.reduceLT, reduceIte, reduceCtorEq, true_and, and_true, forall_const, not_true_eq_false, not_false_eq_true, false_implies, implies_true, hneg]
      refine pw_mono (hstep m M1 (by omega) h1) (fun p hp => ?_)
      rw [hp.1]
      refine ⟨fun c => ?_, fun c => ?_⟩
      · rw [if_pos c]
        exact ⟨p.2, rfl, hp.2⟩
      · rw [if_neg c]
        exact ⟨p.2, rfl, hp.2⟩
    · rintro t ⟨M1, rfl, h1⟩
      have hm1 : (N : Int) - (N : Int) - 1 = -1 := by omega
      rw [hm1, Nat.sub_self]
      unfold gm_rows_L43
      simp (disch := omega) only [pj_lit, pj_add, pj_sub, pj_neg, pj_mul, pj_lt, pj_eq, pj_nat, pj_ald, pj_ast, pj_ix, pw_bind, pw_ite, pw_some, pw_none, pw_let, Option.bind_some, Int.toNat_natCast, Sum.elim_inl, Sum.elim_inr, Int.cast_ofNat_Int, Int.reduceLT, Int.reduceLE, Int.reduceEq, Int.reduceAdd, Int.reduceSub, Int.reduceMul, Int.reduceNeg, Int.reduceToNat, Nat.reduceAdd, Nat.reduceSub, Nat.reduceMul, Nat.reduceEqDiff, Nat.reduceLT, reduceIte, reduceCtorEq, true_and, and_true, forall_const, not_true_eq_false, not_false_eq_true, false_implies, implies_true]
      exact h1
    · rw [Nat.sub_zero, pf_sf_N, pj_1, pj_sub]
      have : (N : Int) - ((0 : Nat) : Int) - 1 = (N : Int) - 1 := by omega
      rw [this]; rfl
  · rintro ⟨x, y, M1⟩ ⟨q1, q2, q3⟩
    dsimp only at q1 q2 q3
    subst q1 q2
    have hk := pm_k_trans hk2 (pm_r_k q3)
    by_cases c : a = 0
    · rw [if_pos c, if_pos c, pw_some]; exact ⟨rfl, hk⟩
    · rw [if_neg c, if_neg c, pw_some]; exact ⟨rfl, hk⟩
/-- what is told, alike -/
theorem pq_told {T : zt_T} {M : cs_S} {Z : zm_S} {s : Nat} {V : pv_V} {H : List pv_V} {at_ : Nat} (h : pr_R0 T M Z s V H at_) : ∃ t : Nat, t ≤ 20 ∧ M.1 0 19 = pj t ∧ Z.1 63 = pj t ∧ ∀ k, k ≤ t → pf_T M k ∧ ∀ i, i < k → pf_tp M i < 6 ∧ 0 ≤ pf_tv M i ∧ pf_tv M i ≤ 99 ∧ Z.2.1 64 i = pj (pf_tp M i) ∧ Z.2.1 65 i = pj (pf_tv M i) ∧ Z.2.1 66 i = pf_ts M i := by
  obtain ⟨hT, hm, ho, hV, hsd, hrow, hH, hS, hL, -⟩ := id h
  obtain ⟨t, t1, t2, t3, t4⟩ := id hL
  refine ⟨t, t1, t2, t3, fun k hk => ?_⟩
  obtain ⟨h1, h2⟩ := pq_tolds hL (k := k) (fun t' e ht' => by
    rw [t2] at e
    have := (pj_eq (by omega) (by omega)).1 e
    omega)
  refine ⟨h1, fun i hi => ?_⟩
  obtain ⟨u1, u2, u3, u4, u5⟩ := h1.2 i hi
  obtain ⟨v1, v2, v3⟩ := h2 i hi
  exact ⟨u1, u4, u5, v1.symm.trans u2, v2.symm.trans u3, v3.symm⟩
theorem pf_arg (a : Int32) {lo hi : Int} (h0 : 0 ≤ lo) (hh : hi < 2147483648) (h : lo ≤ a.toInt ∧ a.toInt ≤ hi) : ∃ k : Nat, a = pj (k : Nat) ∧ lo ≤ (k : Int) ∧ (k : Int) ≤ hi := by
  refine ⟨a.toInt.toNat, ?_, by omega, by omega⟩
  have : ((a.toInt.toNat : Nat) : Int) = a.toInt := by omega
  rw [this, pj_of]
theorem pq_rows {T : zt_T} {M : cs_S} {Z : zm_S} {s : Nat} {V : pv_V} {H : List pv_V} {at_ : Nat} (h : pr_R0 T M Z s V H at_) (a1 a2 a3 : Int32) :
    pw (gh_rows T M a1 a2 a3) (fun p => pw (gm_rows Z a1 a2 a3) (fun q => p.1 = q.1 ∧ pr_R T p.2 q.2)) := by
  obtain ⟨hT, hm, ho, hV, hsd, hrow, -⟩ := id h
  obtain ⟨t, t1, t2, t3, t4⟩ := pq_told h
  by_cases hh : (0 ≤ a1.toInt ∧ a1.toInt ≤ t) ∧ (1 ≤ a2.toInt ∧ a2.toInt ≤ 6) ∧ 0 ≤ a3.toInt ∧ a3.toInt ≤ 1
  · obtain ⟨c1, c2, c3⟩ := hh
    obtain ⟨k, rfl, k1, k2⟩ := pf_arg a1 (by omega) (by omega) c1
    obtain ⟨l, rfl, l1, l2⟩ := pf_arg a2 (by omega) (by omega) c2
    obtain ⟨hTk, hLk⟩ := t4 k (by omega)
    refine pr_q h (if a3 = 0 then pj (pf_all T V (pf_tp M) (pf_tv M) (pf_ts M) k l).length else pf_hd (pf_all T V (pf_tp M) (pf_tv M) (pf_ts M) k l)) ?_ (pm_rows hT hm ho hrow (by omega) (by omega) t1 (by omega) t3 hLk a3 c3)
    unfold gh_rows
    rw [t2, show gh_isIn (pj (k : Nat)) 0 (pj t) = some (decide ((0 : Int) ≤ (pj (k : Nat)).toInt ∧ (pj (k : Nat)).toInt ≤ t)) from pc_isIn (lo := 0) (hi := t) _ (by omega) (by omega), decide_eq_true c1, Option.bind_some, if_pos rfl]
    rw [show gh_isIn (pj (l : Nat)) 1 6 = some (decide ((1 : Int) ≤ (pj (l : Nat)).toInt ∧ (pj (l : Nat)).toInt ≤ 6)) from pc_isIn (lo := 1) (hi := 6) _ (by omega) (by omega), decide_eq_true c2, Option.bind_some, if_pos rfl]
    rw [show gh_isIn a3 0 1 = some (decide ((0 : Int) ≤ a3.toInt ∧ a3.toInt ≤ 1)) from pc_isIn (lo := 0) (hi := 1) _ (by omega) (by omega), decide_eq_true c3, Option.bind_some, if_pos rfl]
    refine pw_seq (pc_laysFits hT hV ho hTk (by omega) (by omega)) (fun M' hM' => ?_)
    obtain ⟨⟨x1, x2, -⟩, x3⟩ := hM'
    by_cases c : a3 = 0
    · rw [if_pos c, if_pos c, pw_some]; exact ⟨x1, pc_h_k x3⟩
    · rw [if_neg c, if_neg c, pw_some]; exact ⟨x2, pc_h_k x3⟩
  · unfold gh_rows gm_rows gm_isAsked
    rw [t2, t3]
    rw [pj_0, pj_1, show (6 : Int32) = pj 6 from rfl, pc_isIn _ (by omega) (by omega), pc_isIn _ (by omega) (by omega), pc_isIn _ (by omega) (by omega), pm_isIn _ (by omega) (by omega), pm_isIn _ (by omega) (by omega), pm_isIn _ (by omega) (by omega)]
    have hR : pr_R T M Z := ⟨s, V, H, at_, h⟩
    by_cases c1 : 0 ≤ a1.toInt ∧ a1.toInt ≤ t
    · by_cases c2 : 1 ≤ a2.toInt ∧ a2.toInt ≤ 6
      · have c3 : ¬ (0 ≤ a3.toInt ∧ a3.toInt ≤ 1) := fun c3 => hh ⟨c1, c2, c3⟩
        rw [decide_eq_true c1, decide_eq_true c2, decide_eq_false c3]
        exact (pw_some _ _).2 ((pw_some _ _).2 ⟨rfl, hR⟩)
      · rw [decide_eq_true c1, decide_eq_false c2]
        exact (pw_some _ _).2 ((pw_some _ _).2 ⟨rfl, hR⟩)
    · rw [decide_eq_false c1]
      exact (pw_some _ _).2 ((pw_some _ _).2 ⟨rfl, hR⟩)
/-! where to feel -/
def pf_q (st : Nat → Int) (v : Int) (i : Nat) (o : List Nat) : Bool := decide (v ≤ st (o.getD i 0))
def pf_mx (W : Nat) (C : Nat → Nat) (i : Nat) : Int := max (C i : Int) ((W : Int) - (C i : Int))
def pf_bs (mx : Nat → Int) : Nat → Int × Int
  | 0 => (-2, 1000000)
  | j + 1 => if mx j < (pf_bs mx j).2 then ((j : Nat), mx j) else pf_bs mx j
theorem pf_mx_bd {W : Nat} {C : Nat → Nat} (hW : W ≤ 46656) {i : Nat} (hC : C i ≤ W) : 0 ≤ pf_mx W C i ∧ pf_mx W C i ≤ 46656 := by
  unfold pf_mx
  omega
theorem pf_bs_bd {mx : Nat → Int} {l : Nat} (h : ∀ i, i < l → 0 ≤ mx i ∧ mx i ≤ 46656) : ∀ j, j ≤ l → (j = 0 ∧ pf_bs mx j = (-2, 1000000)) ∨ (0 < j ∧ 0 ≤ (pf_bs mx j).1 ∧ (pf_bs mx j).1 < j ∧ 0 ≤ (pf_bs mx j).2 ∧ (pf_bs mx j).2 ≤ 46656)
  | 0, _ => Or.inl ⟨rfl, rfl⟩
  | j + 1, hj => by
    have ih := pf_bs_bd h j (by omega)
    have hm := h j (by omega)
    refine Or.inr ⟨by omega, ?_⟩
    show 0 ≤ (if mx j < (pf_bs mx j).2 then (((j : Nat) : Int), mx j) else pf_bs mx j).1 ∧ (if mx j < (pf_bs mx j).2 then (((j : Nat) : Int), mx j) else pf_bs mx j).1 < ((j + 1 : Nat) : Int) ∧ 0 ≤ (if mx j < (pf_bs mx j).2 then (((j : Nat) : Int), mx j) else pf_bs mx j).2 ∧ (if mx j < (pf_bs mx j).2 then (((j : Nat) : Int), mx j) else pf_bs mx j).2 ≤ 46656
    by_cases c : mx j < (pf_bs mx j).2
    · rw [if_pos c]
      dsimp only
      omega
    · rw [if_neg c]
      rcases ih with ⟨e1, e2⟩ | ih
      · rw [e2] at c
        dsimp only at c
        omega
      · omega
def pf_an (W : Nat) (C : Nat → Nat) (l : Nat) : Int := if W = 0 then -2 else (pf_bs (pf_mx W C) l).1
theorem pf_cnt_lt (f : List Nat → Nat) (q : Nat → Bool) (j : Nat) : ∀ L : List (List Nat), (L.countP (fun o => decide (f o < j + 1) && q (f o)) : Int) = L.countP (fun o => decide (f o < j) && q (f o)) + (if q j = true then (L.countP (fun o => f o == j) : Int) else 0)
  | [] => by simp
  | o :: L => by
    have ih := pf_cnt_lt f q j L
    rw [List.countP_cons, List.countP_cons, List.countP_cons]
    by_cases c : f o = j
    · rw [c]
      by_cases d : q j = true
      · rw [if_pos d] at ih ⊢
        simp [d]
        omega
      · rw [if_neg d] at ih ⊢
        simp [d]
        omega
    · have c1 : (f o == j) = false := by simpa using c
      have c2 : decide (f o < j + 1) = decide (f o < j) := by
        by_cases e : f o < j
        · rw [decide_eq_true e, decide_eq_true (by omega)]
        · rw [decide_eq_false e, decide_eq_false (by omega)]
      rw [c1, c2]
      by_cases d : q j = true
      · rw [if_pos d] at ih ⊢
        simp
        omega
      · rw [if_neg d] at ih ⊢
        simp
        omega
theorem pc_feel {T : zt_T} {M : cs_S} {V : pv_V} {l : Nat} {L : List (List Nat)} {v : Int} (hT : pt_ok T) (hV : pc_V M 0 V) (ho : pv_ok (zt_n T) V) (hl1 : 1 ≤ l) (hl6 : l ≤ 6) (hA : pf_A T l M L) (hL : L.length ≤ 46656) (hLn : ∀ o ∈ L, o.length = l ∧ ∀ x ∈ o, x < zt_n T) (hv : 0 ≤ v ∧ v ≤ 99) :
    zs_loop 5000 (gh_feel_L52 (pj l) M T (pj v)) ((-2), 1000000, 0) = some (pj (pf_an L.length (fun i => L.countP (pf_q (pv_st T V) v i)) l), M) := by
  have hn := hT.1
  obtain ⟨a1, a2, a3⟩ := hA
  have hCle : ∀ i, L.countP (pf_q (pv_st T V) v i) ≤ L.length := fun i => List.countP_le_length
  have hmx : ∀ i, 0 ≤ pf_mx L.length (fun i => L.countP (pf_q (pv_st T V) v i)) i ∧ pf_mx L.length (fun i => L.countP (pf_q (pv_st T V) v i)) i ≤ 46656 := fun i => pf_mx_bd hL (hCle i)
  unfold pf_an
  by_cases hW : L.length = 0
  · rw [if_pos hW]
    refine pw_forE 0 (fun _ => ((-2 : Int32), (1000000 : Int32), (0 : Int32))) 5000 (by omega) (fun k hk => absurd hk (Nat.not_lt_zero k)) ?_
    unfold gh_feel_L52
    have h0 : ¬ (0 : Int) < ((0 : Nat) : Int) := by omega
    have hlt : (0 : Int) < (l : Nat) := by omega
    rw [a1, hW]
    simp (disch := omega) only [pj_lit, pj_add, pj_sub, pj_neg, pj_mul, pj_lt, pj_eq, pj_nat, pj_ald, pj_ast, pj_ix, pw_bind, pw_ite, pw_some, pw_none, pw_let, Option.bind_some, Int.toNat_natCast, Sum.elim_inl, Sum.elim_inr, Int.cast_ofNat_Int, Int.reduceLT, Int.reduceLE, Int.reduceEq, Int.reduceAdd, Int.reduceSub, Int.reduceMul, Int.reduceNeg, Int.reduceToNat, Nat.reduceAdd, Nat.reduceSub, Nat.reduceMul, Nat.reduceEqDiff, Nat.reduceLT, reduceIte, reduceCtorEq, true_and, and_true, forall_const, not_true_eq_false, not_false_eq_true, false_implies, implies_true, hlt, h0]
  · rw [if_neg hW]
    have hb := pf_bs_bd (l := l) (fun i _ => hmx i)
    refine pw_forE l (fun j => (pj (pf_bs (pf_mx L.length (fun i => L.countP (pf_q (pv_st T V) v i))) j).1, pj (pf_bs (pf_mx L.length (fun i => L.countP (pf_q (pv_st T V) v i))) j).2, pj (j : Nat))) 5000 (by omega) ?_ ?_
    · intro j hj
      have hbj := hb j (by omega)
      have hm := hmx j
      show gh_feel_L52 (pj l) M T (pj v) _ = some (Sum.inl (pj (if pf_mx L.length (fun i => L.countP (pf_q (pv_st T V) v i)) j < (pf_bs (pf_mx L.length (fun i => L.countP (pf_q (pv_st T V) v i))) j).2 then (((j : Nat) : Int), pf_mx L.length (fun i => L.countP (pf_q (pv_st T V) v i)) j) else pf_bs (pf_mx L.length (fun i => L.countP (pf_q (pv_st T V) v i))) j).1, pj (if pf_mx L.length (fun i => L.countP (pf_q (pv_st T V) v i)) j < (pf_bs (pf_mx L.length (fun i => L.countP (pf_q (pv_st T V) v i))) j).2 then (((j : Nat) : Int), pf_mx L.length (fun i => L.countP (pf_q (pv_st T V) v i)) j) else pf_bs (pf_mx L.length (fun i => L.countP (pf_q (pv_st T V) v i))) j).2, pj ((j + 1 : Nat) : Int)))
      have hmd : pf_mx L.length (fun i => L.countP (pf_q (pv_st T V) v i)) j = max (L.countP (pf_q (pv_st T V) v j) : Int) ((L.length : Int) - (L.countP (pf_q (pv_st T V) v j) : Int)) := rfl
      generalize pf_bs (pf_mx L.length (fun i => L.countP (pf_q (pv_st T V) v i))) j = bs at hbj
      generalize pf_mx L.length (fun i => L.countP (pf_q (pv_st T V) v i)) j = mx at hm hmd
      obtain ⟨b, f⟩ := bs
      have hbd : -2 ≤ b ∧ b ≤ 6 ∧ 0 ≤ f ∧ f ≤ 1000000 := by
        rcases hbj with ⟨-, e⟩ | hbj
        · injection e with e1 e2
          omega
        · dsimp only at hbj; omega
      have hlt : (j : Int) < (l : Nat) := by omega
      have hpos : (0 : Int) < (L.length : Nat) := by omega
      have hin : zs_loop 5000 (gh_feel_L71 T M (pj v) (pj b, pj f, pj (j : Nat))) (pj 0, pj 0) = some (pj (L.countP (pf_q (pv_st T V) v j) : Nat)) := by
        have e0 : pj ((L.countP (pf_q (pv_st T V) v j) : Nat) : Int) = pj ((L.countP (fun o => decide (o.getD j 0 < zt_n T) && pf_q (pv_st T V) v j o) : Nat) : Int) := by
          congr 2
          refine List.countP_congr fun o hoo => ?_
          obtain ⟨g1, g2⟩ := hLn o hoo
          have := g2 _ (List.mem_of_getElem? (pv_get (l := o) (k := j) (by omega)))
          rw [decide_eq_true this, Bool.true_and]
        rw [e0]
        have ez : L.countP (fun o => decide (o.getD j 0 < 0) && pf_q (pv_st T V) v j o) = 0 := by simp
        rw [show ((pj 0, pj 0) : Int32 × Int32) = (pj (L.countP (fun o => decide (o.getD j 0 < 0) && pf_q (pv_st T V) v j o) : Nat), pj ((0 : Nat) : Int)) by rw [ez]; rfl]
        refine pw_forE (zt_n T) (fun h => (pj (L.countP (fun o => decide (o.getD j 0 < h) && pf_q (pv_st T V) v j o) : Nat), pj (h : Nat))) 5000 (by omega) ?_ ?_
        · intro h hh
          have hlt : (h : Int) < (zt_n T : Nat) := by omega
          have hsb := pv_st_bd hT ho hh
          have hc := a3 j h hj hh
          have hst := pf_cnt_lt (fun o => o.getD j 0) (fun x => decide (v ≤ pv_st T V x)) h L
          have h1 : L.countP (fun o => decide (o.getD j 0 < h) && pf_q (pv_st T V) v j o) ≤ L.length := List.countP_le_length
          have h2 : L.countP (fun o => o.getD j 0 == h) ≤ L.length := List.countP_le_length
          have hst' : (L.countP (fun o => decide (o.getD j 0 < h + 1) && pf_q (pv_st T V) v j o) : Int) = (L.countP (fun o => decide (o.getD j 0 < h) && pf_q (pv_st T V) v j o) : Int) + (if decide (v ≤ pv_st T V h) = true then (L.countP (fun o => o.getD j 0 == h) : Int) else 0) := hst
          show gh_feel_L71 T M (pj v) (pj b, pj f, pj (j : Nat)) _ = some (Sum.inl (pj (L.countP (fun o => decide (o.getD j 0 < h + 1) && pf_q (pv_st T V) v j o) : Int), _))
          rw [hst']
          generalize (L.countP (fun o => decide (o.getD j 0 < h) && pf_q (pv_st T V) v j o)) = acc at h1
          unfold gh_feel_L71 gh_houses
          simp (disch := omega) only [pj_lit, pj_add, pj_sub, pj_neg, pj_mul, pj_lt, pj_eq, pj_nat, pj_ald, pj_ast, pj_ix, pw_bind, pw_ite, pw_some, pw_none, pw_let, Option.bind_some, Int.toNat_natCast, Sum.elim_inl, Sum.elim_inr, Int.cast_ofNat_Int, Int.reduceLT, Int.reduceLE, Int.reduceEq, Int.reduceAdd, Int.reduceSub, Int.reduceMul, Int.reduceNeg, Int.reduceToNat, Nat.reduceAdd, Nat.reduceSub, Nat.reduceMul, Nat.reduceEqDiff, Nat.reduceLT, reduceIte, reduceCtorEq, true_and, and_true, forall_const, not_true_eq_false, not_false_eq_true, false_implies, implies_true, pj_nI, hlt, pc_str hT hV ho h hh, hc, decide_eq_true_eq]
          by_cases q : pv_st T V h < v
          · rw [if_pos q, Option.bind_some, if_neg (by omega), pj_add]; rfl
          · rw [if_neg q, Option.bind_some, if_pos (by omega), pj_add]; rfl
        · unfold gh_feel_L71 gh_houses
          simp (disch := omega) only [pj_lit, pj_add, pj_sub, pj_neg, pj_mul, pj_lt, pj_eq, pj_nat, pj_ald, pj_ast, pj_ix, pw_bind, pw_ite, pw_some, pw_none, pw_let, Option.bind_some, Int.toNat_natCast, Sum.elim_inl, Sum.elim_inr, Int.cast_ofNat_Int, Int.reduceLT, Int.reduceLE, Int.reduceEq, Int.reduceAdd, Int.reduceSub, Int.reduceMul, Int.reduceNeg, Int.reduceToNat, Nat.reduceAdd, Nat.reduceSub, Nat.reduceMul, Nat.reduceEqDiff, Nat.reduceLT, reduceIte, reduceCtorEq, true_and, and_true, forall_const, not_true_eq_false, not_false_eq_true, false_implies, implies_true, pj_nI, Int.lt_irrefl]
      have hcl := hCle j
      generalize L.countP (pf_q (pv_st T V) v j) = C at hmd hin hcl
      unfold gh_feel_L52
      rw [a1]
      have hin' : zs_loop 5000 (gh_feel_L71 T M (pj v) (pj b, pj f, pj (j : Nat))) (0, 0) = some (pj (C : Nat)) := hin
      simp (disch := omega) only [pj_lit, pj_add, pj_sub, pj_neg, pj_mul, pj_lt, pj_eq, pj_nat, pj_ald, pj_ast, pj_ix, pw_bind, pw_ite, pw_some, pw_none, pw_let, Option.bind_some, Int.toNat_natCast, Sum.elim_inl, Sum.elim_inr, Int.cast_ofNat_Int, Int.reduceLT, Int.reduceLE, Int.reduceEq, Int.reduceAdd, Int.reduceSub, Int.reduceMul, Int.reduceNeg, Int.reduceToNat, Nat.reduceAdd, Nat.reduceSub, Nat.reduceMul, Nat.reduceEqDiff, Nat.reduceLT, reduceIte, reduceCtorEq, true_and, and_true, forall_const, not_true_eq_false, not_false_eq_true, false_implies, implies_true, hlt, hpos, hin, pj_max, ← hmd]
      by_cases q : mx < f
      · rw [if_pos q, if_pos q]; rfl
      · rw [if_neg q, if_neg q]; rfl
    · unfold gh_feel_L52
      simp (disch := omega) only [pj_lit, pj_add, pj_sub, pj_neg, pj_mul, pj_lt, pj_eq, pj_nat, pj_ald, pj_ast, pj_ix, pw_bind, pw_ite, pw_some, pw_none, pw_let, Option.bind_some, Int.toNat_natCast, Sum.elim_inl, Sum.elim_inr, Int.cast_ofNat_Int, Int.reduceLT, Int.reduceLE, Int.reduceEq, Int.reduceAdd, Int.reduceSub, Int.reduceMul, Int.reduceNeg, Int.reduceToNat, Nat.reduceAdd, Nat.reduceSub, Nat.reduceMul, Nat.reduceEqDiff, Nat.reduceLT, reduceIte, reduceCtorEq, true_and, and_true, forall_const, not_true_eq_false, not_false_eq_true, false_implies, implies_true, Int.lt_irrefl]
/-! where to feel, by the model -/
def pm_r2 (Z Z' : zm_S) : Prop := Z'.1 = Z.1 ∧ (∀ k, k ≠ 67 → k ≠ 68 → Z'.2.1 k = Z.2.1 k) ∧ Z'.2.2 = Z.2.2
theorem pm_r2_rfl (Z : zm_S) : pm_r2 Z Z := ⟨rfl, fun _ _ _ => rfl, rfl⟩
theorem pm_r2_trans {A B C : zm_S} (h : pm_r2 A B) (g : pm_r2 B C) : pm_r2 A C := ⟨g.1.trans h.1, fun k a b => (g.2.1 k a b).trans (h.2.1 k a b), g.2.2.trans h.2.2⟩
theorem pm_r_r2 {Z Z' : zm_S} (h : pm_r Z Z') : pm_r2 Z Z' := ⟨h.1, fun k a _ => h.2.1 k a, h.2.2⟩
theorem pm_r2_k {Z Z' : zm_S} (h : pm_r2 Z Z') : pm_k Z Z' := ⟨fun k _ _ _ _ => by rw [h.1], fun k a => h.2.1 k (by omega) (by omega), h.2.2⟩
theorem pm_r2_A (Z : zm_S) (i x : Int32) : pm_r2 Z (zm_sA Z 68 i x) := ⟨rfl, fun k _ b => pm_sAn b, rfl⟩
theorem pm_Q_r2 {T : zt_T} {s : Nat} {V : pv_V} {tp : Nat → Nat} {tv : Nat → Int} {ts : Nat → Int32} {k : Nat} {Z Z' : zm_S} (h : pm_r2 Z Z') (g : pm_Q T s V tp tv ts k Z) : pm_Q T s V tp tv ts k Z' := by
  obtain ⟨g1, g2, g3, g4⟩ := g
  refine ⟨pm_T_tx ⟨by rw [h.1], fun k q => h.2.1 k (by omega) (by omega)⟩ g1, ?_, g3, ?_⟩
  · rw [h.2.1 56 (by omega) (by omega)]; exact g2
  · rw [h.2.1 64 (by omega) (by omega), h.2.1 65 (by omega) (by omega), h.2.1 66 (by omega) (by omega)]; exact g4
theorem pm_68 (Z : zm_S) {j i : Nat} (x : Int32) (hj : j < 6) : (zm_sA Z 68 (pj (j : Nat)) x).2.1 68 i = if i = j then x else Z.2.1 68 i := by
  rw [pm_sA, if_pos rfl, pj_nat (by omega), Int.toNat_natCast, pj_upd]
/-- the above of one row are counted -/
theorem pm_feel85 {T : zt_T} {s : Nat} {V : pv_V} {tp : Nat → Nat} {tv : Nat → Int} {ts : Nat → Int32} {k l : Nat} {Z : zm_S} (hT : pt_ok T) (ho : pv_ok (zt_n T) V) (hQ : pm_Q T s V tp tv ts k Z) (hl6 : l ≤ 6) {o : List Nat} (hlen : o.length = l) (hon : ∀ x ∈ o, x < zt_n T) (hce : pf_ce o Z) {v : Int} (hv : 0 ≤ v ∧ v ≤ 99) {C : Nat → Nat} (hC : ∀ i, i < l → Z.2.1 68 i = pj (C i : Nat) ∧ C i ≤ 46656) (t56 : Int32 × Int32 × zm_S) :
    pw (zs_loop 5000 (gm_feel_L85 (pj l) (pj v) t56) (0, Z)) (fun r => r.1 = t56.1 + 1 ∧ pm_r2 Z r.2 ∧ ∀ i, i < l → r.2.2.1 68 i = pj ((C i + (if pf_q (pv_st T V) v i o = true then 1 else 0) : Nat) : Int)) := by
  have hn := hT.1
  rw [pj_0]
  refine pw_for l (fun j t => ∃ M', t = (pj (j : Nat), M') ∧ pm_r2 Z M' ∧ M'.2.1 67 = Z.2.1 67 ∧ ∀ i, i < l → M'.2.1 68 i = pj ((C i + (if i < j ∧ pf_q (pv_st T V) v i o = true then 1 else 0) : Nat) : Int)) 5000 (by omega) ?_ ?_ _ ⟨Z, rfl, pm_r2_rfl Z, rfl, fun i hi => by rw [if_neg (by omega)]; exact (hC i hi).1⟩
  · rintro j t hj ⟨M1, rfl, h1, h2, h3⟩
    have hlt : (j : Int) < (l : Nat) := by omega
    have hg := pv_get (l := o) (k := j) (by omega)
    have hcell := hce _ _ hg
    rw [← h2] at hcell
    have hxn := hon _ (List.mem_of_getElem? hg)
    have hqd : pf_q (pv_st T V) v j o = decide (v ≤ pv_st T V (o.getD j 0)) := rfl
    generalize o.getD j 0 = x at hcell hxn hqd
    have hsb := pv_st_bd hT ho hxn
    have h56 := (pm_Q_r2 h1 hQ).2.1 x hxn
    have h68 := h3 j hj
    rw [if_neg (by omega), Nat.add_zero] at h68
    have hCj := (hC j hj).2
    unfold gm_feel_L85
    simp (disch := omega) only [pj_lit, pj_add, pj_sub, pj_neg, pj_mul, pj_lt, pj_eq, pj_nat, pj_ald, pj_ast, pj_ix, pw_bind, pw_ite, pw_some, pw_none, pw_let, Option.bind_some, Int.toNat_natCast, Sum.elim_inl, Sum.elim_inr, Int.cast_ofNat_Int, Int.reduceLT, Int.reduceLE, Int.reduceEq, Int.reduceAdd, Int.reduceSub, Int.reduceMul, Int.reduceNeg, Int.reduceToNat, Nat.reduceAdd, Nat.reduceSub, Nat.reduceMul, Nat.reduceEqDiff, Nat.reduceLT, reduceIte, reduceCtorEq, true_and, and_true, forall_const, not_true_eq_false, not_false_eq_true, false_implies, implies_true, hlt, hcell, h56, h68]
    refine ⟨fun q => ⟨M1, rfl, h1, h2, fun i hi => ?_⟩, fun q => ⟨_, rfl, pm_r2_trans h1 (pm_r2_A M1 _ _), by rw [pm_sAn (by omega)]; exact h2, fun i hi => ?_⟩⟩
    · rw [h3 i hi]
      have hf : pf_q (pv_st T V) v j o = false := by rw [hqd]; exact decide_eq_false (by omega)
      by_cases e : i = j
      · subst e
        rw [if_neg (by omega), if_neg (by rw [hf]; simp)]
      · by_cases e2 : i < j ∧ pf_q (pv_st T V) v i o = true
        · rw [if_pos e2, if_pos ⟨by omega, e2.2⟩]
        · rw [if_neg e2, if_neg (fun z => e2 ⟨by omega, z.2⟩)]
    · have hf : pf_q (pv_st T V) v j o = true := by rw [hqd]; exact decide_eq_true (by omega)
      rw [pm_68 M1 _ (by omega)]
      by_cases e : i = j
      · subst e
        rw [if_pos rfl, if_pos ⟨by omega, hf⟩]
        rfl
      · rw [if_neg e, h3 i hi]
        by_cases e2 : i < j ∧ pf_q (pv_st T V) v i o = true
        · rw [if_pos e2, if_pos ⟨by omega, e2.2⟩]
        · rw [if_neg e2, if_neg (fun z => e2 ⟨by omega, z.2⟩)]
  · rintro t ⟨M1, rfl, h1, h2, h3⟩
    unfold gm_feel_L85
    simp (disch := omega) only [pj_lit, pj_add, pj_sub, pj_neg, pj_mul, pj_lt, pj_eq, pj_nat, pj_ald, pj_ast, pj_ix, pw_bind, pw_ite, pw_some, pw_none, pw_let, Option.bind_some, Int.toNat_natCast, Sum.elim_inl, Sum.elim_inr, Int.cast_ofNat_Int, Int.reduceLT, Int.reduceLE, Int.reduceEq, Int.reduceAdd, Int.reduceSub, Int.reduceMul, Int.reduceNeg, Int.reduceToNat, Nat.reduceAdd, Nat.reduceSub, Nat.reduceMul, Nat.reduceEqDiff, Nat.reduceLT, reduceIte, reduceCtorEq, true_and, and_true, forall_const, not_true_eq_false, not_false_eq_true, false_implies, implies_true, Int.lt_irrefl]
    refine ⟨h1, fun i hi => ?_⟩
    rw [h3 i hi]
    by_cases e : pf_q (pv_st T V) v i o = true
    · rw [if_pos ⟨hi, e⟩, if_pos e]
    · rw [if_neg (fun z => e z.2), if_neg e]
/-- the best of them -/
theorem pm_feelBest {l W : Nat} {C : Nat → Nat} {Z : zm_S} (hl1 : 1 ≤ l) (hl6 : l ≤ 6) (hW : W ≤ 46656) (hC : ∀ i, i < l → Z.2.1 68 i = pj (C i : Nat) ∧ C i ≤ W) :
    zs_loop 5000 (gm_feel_L140 (pj l) (pj W, Z)) ((-2), 0, 0) = some (pj (pf_an W C l), Z) := by
  unfold pf_an
  by_cases h0 : W = 0
  · rw [if_pos h0]
    refine pw_forE 0 (fun _ => ((-2 : Int32), (0 : Int32), (0 : Int32))) 5000 (by omega) (fun k hk => absurd hk (Nat.not_lt_zero k)) ?_
    unfold gm_feel_L140
    have h0' : ¬ (0 : Int) < ((0 : Nat) : Int) := by omega
    have hlt : (0 : Int) < (l : Nat) := by omega
    rw [h0]
    simp (disch := omega) only [pj_lit, pj_add, pj_sub, pj_neg, pj_mul, pj_lt, pj_eq, pj_nat, pj_ald, pj_ast, pj_ix, pw_bind, pw_ite, pw_some, pw_none, pw_let, Option.bind_some, Int.toNat_natCast, Sum.elim_inl, Sum.elim_inr, Int.cast_ofNat_Int, Int.reduceLT, Int.reduceLE, Int.reduceEq, Int.reduceAdd, Int.reduceSub, Int.reduceMul, Int.reduceNeg, Int.reduceToNat, Nat.reduceAdd, Nat.reduceSub, Nat.reduceMul, Nat.reduceEqDiff, Nat.reduceLT, reduceIte, reduceCtorEq, true_and, and_true, forall_const, not_true_eq_false, not_false_eq_true, false_implies, implies_true, hlt, h0']
  · rw [if_neg h0]
    have hmx : ∀ i, i < l → 0 ≤ pf_mx W C i ∧ pf_mx W C i ≤ 46656 := fun i hi => pf_mx_bd hW (hC i hi).2
    have hb := pf_bs_bd hmx
    refine pw_forE l (fun j => (pj (pf_bs (pf_mx W C) j).1, pj (if j = 0 then 0 else (pf_bs (pf_mx W C) j).2), pj (j : Nat))) 5000 (by omega) ?_ ?_
    · intro j hj
      have hbj := hb j (by omega)
      have hm := hmx j hj
      show gm_feel_L140 (pj l) (pj W, Z) _ = some (Sum.inl (pj (if pf_mx W C j < (pf_bs (pf_mx W C) j).2 then (((j : Nat) : Int), pf_mx W C j) else pf_bs (pf_mx W C) j).1, pj (if j + 1 = 0 then 0 else (if pf_mx W C j < (pf_bs (pf_mx W C) j).2 then (((j : Nat) : Int), pf_mx W C j) else pf_bs (pf_mx W C) j).2), pj ((j + 1 : Nat) : Int)))
      have hmd : pf_mx W C j = max (C j : Int) ((W : Int) - (C j : Int)) := rfl
      rw [if_neg (show ¬ j + 1 = 0 by omega)]
      generalize pf_bs (pf_mx W C) j = bs at hbj
      generalize pf_mx W C j = mx at hm hmd
      obtain ⟨b, f⟩ := bs
      obtain ⟨hc1, hc2⟩ := hC j hj
      have hlt : (j : Int) < (l : Nat) := by omega
      have hpos : (0 : Int) < (W : Nat) := by omega
      unfold gm_feel_L140
      have hmxe : (if (W : Int) - (C j : Int) < (C j : Int) then some (pj (C j : Nat)) else some (pj ((W : Int) - (C j : Int)))) = some (pj mx) := by
        by_cases q : (W : Int) - (C j : Int) < (C j : Int)
        · rw [if_pos q, hmd]
          congr 2
          omega
        · rw [if_neg q, hmd]
          congr 2
          omega
      rcases hbj with ⟨e, e2⟩ | hbj
      · injection e2 with e3 e4
        subst e e3 e4
        have hmf : mx < 1000000 := by omega
        simp (disch := omega) only [pj_lit, pj_add, pj_sub, pj_neg, pj_mul, pj_lt, pj_eq, pj_nat, pj_ald, pj_ast, pj_ix, pw_bind, pw_ite, pw_some, pw_none, pw_let, Option.bind_some, Int.toNat_natCast, Sum.elim_inl, Sum.elim_inr, Int.cast_ofNat_Int, Int.reduceLT, Int.reduceLE, Int.reduceEq, Int.reduceAdd, Int.reduceSub, Int.reduceMul, Int.reduceNeg, Int.reduceToNat, Nat.reduceAdd, Nat.reduceSub, Nat.reduceMul, Nat.reduceEqDiff, Nat.reduceLT, reduceIte, reduceCtorEq, true_and, and_true, forall_const, not_true_eq_false, not_false_eq_true, false_implies, implies_true, hlt, hpos, hc1, hmxe, hmf]
        exact if_pos (by omega)
      · dsimp only at hbj
        have hb0 : ¬ b < 0 := by omega
        rw [if_neg (show ¬ j = 0 by omega)]
        simp (disch := omega) only [pj_lit, pj_add, pj_sub, pj_neg, pj_mul, pj_lt, pj_eq, pj_nat, pj_ald, pj_ast, pj_ix, pw_bind, pw_ite, pw_some, pw_none, pw_let, Option.bind_some, Int.toNat_natCast, Sum.elim_inl, Sum.elim_inr, Int.cast_ofNat_Int, Int.reduceLT, Int.reduceLE, Int.reduceEq, Int.reduceAdd, Int.reduceSub, Int.reduceMul, Int.reduceNeg, Int.reduceToNat, Nat.reduceAdd, Nat.reduceSub, Nat.reduceMul, Nat.reduceEqDiff, Nat.reduceLT, reduceIte, reduceCtorEq, true_and, and_true, forall_const, not_true_eq_false, not_false_eq_true, false_implies, implies_true, hlt, hpos, hc1, hmxe, hb0]
        by_cases q : mx < f
        · rw [if_pos q, if_pos q]; rfl
        · rw [if_neg q, if_neg q]; rfl
    · unfold gm_feel_L140
      simp (disch := omega) only [pj_lit, pj_add, pj_sub, pj_neg, pj_mul, pj_lt, pj_eq, pj_nat, pj_ald, pj_ast, pj_ix, pw_bind, pw_ite, pw_some, pw_none, pw_let, Option.bind_some, Int.toNat_natCast, Sum.elim_inl, Sum.elim_inr, Int.cast_ofNat_Int, Int.reduceLT, Int.reduceLE, Int.reduceEq, Int.reduceAdd, Int.reduceSub, Int.reduceMul, Int.reduceNeg, Int.reduceToNat, Nat.reduceAdd, Nat.reduceSub, Nat.reduceMul, Nat.reduceEqDiff, Nat.reduceLT, reduceIte, reduceCtorEq, true_and, and_true, forall_const, not_true_eq_false, not_false_eq_true, false_implies, implies_true, Int.lt_irrefl]
theorem pm_feelAll {T : zt_T} {s : Nat} {V : pv_V} {tp : Nat → Nat} {tv : Nat → Int} {ts : Nat → Int32} {k l : Nat} {Z : zm_S} (hT : pt_ok T) (ho : pv_ok (zt_n T) V) (hQ : pm_Q T s V tp tv ts k Z) (hl1 : 1 ≤ l) (hl6 : l ≤ 6) {v : Int} (hv : 0 ≤ v ∧ v ≤ 99) (h0 : ∀ i, i < l → Z.2.1 68 i = pj 0) :
    pw (zs_loop 50000 (gm_feel_L56 (pj l) (pj k) (pj v)) (0, 0, Z)) (fun r => r.1 = pj (pf_all T V tp tv ts k l).length ∧ pm_r2 Z r.2 ∧ ∀ i, i < l → r.2.2.1 68 i = pj ((pf_all T V tp tv ts k l).countP (pf_q (pv_st T V) v i) : Nat)) := by
  have hn := hT.1
  obtain ⟨h46, h461⟩ := pf_len6 hl6
  have hsix := pf_sixes l (by omega)
  unfold pf_all
  generalize hN : 6 ^ l = N at h46 h461 hsix
  generalize hft : pf_ft T V tp tv ts k l = ft
  have hlen : ∀ X, (((List.range X).filter ft).map (pf_dg l)).length ≤ X := fun X => by
    rw [List.length_map]
    refine Nat.le_trans (List.length_filter_le _ _) ?_
    rw [List.length_range]; exact Nat.le_refl _
  refine pw_for N (fun j t => ∃ M', t = (pj (((List.range j).filter ft).map (pf_dg l)).length, pj (j : Nat), M') ∧ pm_r2 Z M' ∧ ∀ i, i < l → M'.2.1 68 i = pj ((((List.range j).filter ft).map (pf_dg l)).countP (pf_q (pv_st T V) v i) : Nat)) 50000 (by omega) ?_ ?_ _ ⟨Z, rfl, pm_r2_rfl Z, fun i hi => h0 i hi⟩
  · rintro j t hj ⟨M1, rfl, h1, h2⟩
    have hlt : (j : Int) < (N : Nat) := by omega
    rw [List.range_succ, List.filter_append, List.map_append]
    have hl := hlen j
    generalize ((List.range j).filter ft).map (pf_dg l) = L at hl h2
    unfold gm_feel_L56
    simp (disch := omega) only [pj_lit, pj_add, pj_sub, pj_neg, pj_mul, pj_lt, pj_eq, pj_nat, pj_ald, pj_ast, pj_ix, pw_bind, pw_ite, pw_some, pw_none, pw_let, Option.bind_some, Int.toNat_natCast, Sum.elim_inl, Sum.elim_inr, Int.cast_ofNat_Int, Int.reduceLT, Int.reduceLE, Int.reduceEq, Int.reduceAdd, Int.reduceSub, Int.reduceMul, Int.reduceNeg, Int.reduceToNat, Nat.reduceAdd, Nat.reduceSub, Nat.reduceMul, Nat.reduceEqDiff, Nat.reduceLT, reduceIte, reduceCtorEq, true_and, and_true, forall_const, not_true_eq_false, not_false_eq_true, false_implies, implies_true, hsix, hlt]
    refine pw_mono (pm_doesFit hT ho (pm_Q_r2 h1 hQ) hl1 hl6 (show j < 6 ^ l by omega)) (fun p hp => ?_)
    obtain ⟨p1, p2, p3⟩ := hp
    rw [hft] at p1 p3
    have h3 := pm_r2_trans h1 (pm_r_r2 p2)
    rw [p1]
    refine ⟨fun c => ?_, fun c => ?_⟩
    · have hva : pf_va (zt_n T) 0 (pf_dg l j) = true := by
        rw [← hft] at c
        unfold pf_ft at c
        rw [Bool.and_eq_true] at c
        exact c.1
      have hon := ((pf_va_iff (zt_n T) _ 0 (pf_dg_lt l j (by omega))).1 hva).1
      refine pw_mono (pm_feel85 hT ho (pm_Q_r2 h3 hQ) hl6 (pf_dg_len l j) (fun x hx => (hon x hx).1) (p3 c) hv (C := fun i => L.countP (pf_q (pv_st T V) v i)) (fun i hi => ⟨?_, ?_⟩) _) (fun r hr => ?_)
      · rw [p2.2.1 68 (by omega)]; exact h2 i hi
      · have : L.countP (pf_q (pv_st T V) v i) ≤ L.length := List.countP_le_length
        omega
      · obtain ⟨r1, r2, r3⟩ := hr
        rw [List.filter_cons, if_pos c]
        refine ⟨r.2, ?_, pm_r2_trans h3 r2, fun i hi => ?_⟩
        · rw [r1]
          dsimp only
          rw [pj_1, pj_add, List.length_append]; rfl
        · rw [r3 i hi, List.countP_append]
          have : List.countP (pf_q (pv_st T V) v i) (List.map (pf_dg l) (j :: List.filter ft [])) = (if pf_q (pv_st T V) v i (pf_dg l j) = true then 1 else 0) := by
            show List.countP _ [pf_dg l j] = _
            rw [List.countP_singleton]
          rw [this]
    · rw [List.filter_cons, if_neg c]
      refine ⟨p.2, ?_, h3, fun i hi => ?_⟩
      · rw [List.filter_nil, List.map_nil, List.append_nil]; rfl
      · rw [List.filter_nil, List.map_nil, List.append_nil, p2.2.1 68 (by omega)]; exact h2 i hi
  · rintro t ⟨M1, rfl, h1, h2⟩
    unfold gm_feel_L56
    simp (disch := omega) only [pj_lit, pj_add, pj_sub, pj_neg, pj_mul, pj_lt, pj_eq, pj_nat, pj_ald, pj_ast, pj_ix, pw_bind, pw_ite, pw_some, pw_none, pw_let, Option.bind_some, Int.toNat_natCast, Sum.elim_inl, Sum.elim_inr, Int.cast_ofNat_Int, Int.reduceLT, Int.reduceLE, Int.reduceEq, Int.reduceAdd, Int.reduceSub, Int.reduceMul, Int.reduceNeg, Int.reduceToNat, Nat.reduceAdd, Nat.reduceSub, Nat.reduceMul, Nat.reduceEqDiff, Nat.reduceLT, reduceIte, reduceCtorEq, true_and, and_true, forall_const, not_true_eq_false, not_false_eq_true, false_implies, implies_true, hsix, Int.lt_irrefl]
    exact ⟨h1, h2⟩
theorem pm_feel {T : zt_T} {s : Nat} {Z : zm_S} {V : pv_V} {tp : Nat → Nat} {tv : Nat → Int} {ts : Nat → Int32} {k l : Nat} (hT : pt_ok T) (hm : pm_T T s Z) (ho : pv_ok (zt_n T) V) (hrow : pv_row (Z.2.1 47) V) (hl1 : 1 ≤ l) (hl6 : l ≤ 6) {t : Nat} (ht : t ≤ 20) (hk : k ≤ t) (h63 : Z.1 63 = pj t)
    (hL : ∀ i, i < k → tp i < 6 ∧ 0 ≤ tv i ∧ tv i ≤ 99 ∧ Z.2.1 64 i = pj (tp i) ∧ Z.2.1 65 i = pj (tv i) ∧ Z.2.1 66 i = ts i) {v : Int} (hv : 0 ≤ v ∧ v ≤ 99) :
    pw (gm_feel Z (pj k) (pj l) (pj v)) (fun p => p.1 = pj (pf_an (pf_all T V tp tv ts k l).length (fun i => (pf_all T V tp tv ts k l).countP (pf_q (pv_st T V) v i)) l) ∧ pm_k Z p.2) := by
  have hn := hT.1
  obtain ⟨Z1, eZ, hc⟩ := pm_copies hm ho hrow
  have hk1 := pm_c_k hc
  obtain ⟨hm1, hr1, -⟩ := hc
  have e1 : gm_isAsked Z (pj k) (pj l) = some true := by
    unfold gm_isAsked
    rw [h63, show gm_in (pj (k : Nat)) 0 (pj t) = some (decide ((0 : Int) ≤ (pj (k : Nat)).toInt ∧ (pj (k : Nat)).toInt ≤ t)) from pm_isIn (lo := 0) (hi := t) _ (by omega) (by omega), show gm_in (pj (l : Nat)) 1 6 = some (decide ((1 : Int) ≤ (pj (l : Nat)).toInt ∧ (pj (l : Nat)).toInt ≤ 6)) from pm_isIn (lo := 1) (hi := 6) _ (by omega) (by omega), pj_toInt (by omega), pj_toInt (by omega), decide_eq_true (by omega), decide_eq_true (by omega)]
    rfl
  unfold gm_feel gm_isMark
  rw [e1, Option.bind_some, if_pos rfl, show gm_in (pj v) 0 99 = some (decide ((0 : Int) ≤ (pj v).toInt ∧ (pj v).toInt ≤ 99)) from pm_isIn (lo := 0) (hi := 99) _ (by omega) (by omega), pj_toInt (by omega), decide_eq_true hv, Option.bind_some, Option.bind_some, if_pos rfl, eZ, Option.bind_some]
  refine pw_seq (pm_plan hT hm1 hr1 ho) (fun Z2 h2 => ?_)
  obtain ⟨hB, hPP, hq⟩ := h2
  have hk2 := pm_k_trans hk1 (pm_q_k hq)
  have hQ : pm_Q T s V tp tv ts k Z2 := by
    refine ⟨hB.1, hPP.2.1, by omega, ?_⟩
    rw [hk2.2.1 64 (by omega), hk2.2.1 65 (by omega), hk2.2.1 66 (by omega)]
    exact hL
  refine pw_seq (Q := fun Z3 => pm_r2 Z2 Z3 ∧ ∀ i, i < 6 → Z3.2.1 68 i = pj 0) ?_ (fun Z3 h3 => ?_)
  · rw [pj_0]
    refine pw_for 6 (fun j t => ∃ M', t = (pj (j : Nat), M') ∧ pm_r2 Z2 M' ∧ ∀ i, i < j → M'.2.1 68 i = pj 0) 5000 (by omega) ?_ ?_ _ ⟨Z2, rfl, pm_r2_rfl Z2, fun i hi => absurd hi (Nat.not_lt_zero i)⟩
    · rintro j t hj ⟨M1, rfl, h1, h2⟩
      have hlt : (j : Int) < 6 := by omega
      unfold gm_feel_L29
      simp (disch := omega) only [pj_lit, pj_add, pj_sub, pj_neg, pj_mul, pj_lt, pj_eq, pj_nat, pj_ald, pj_ast, pj_ix, pw_bind, pw_ite, pw_some, pw_none, pw_let, Option.bind_some, Int.toNat_natCast, Sum.elim_inl, Sum.elim_inr, Int.cast_ofNat_Int, Int.reduceLT, Int.reduceLE, Int.reduceEq, Int.reduceAdd, Int.reduceSub, Int.reduceMul, Int.reduceNeg, Int.reduceToNat, Nat.reduceAdd, Nat.reduceSub, Nat.reduceMul, Nat.reduceEqDiff, Nat.reduceLT, reduceIte, reduceCtorEq, true_and, and_true, forall_const, not_true_eq_false, not_false_eq_true, false_implies, implies_true, hlt]
      refine ⟨_, rfl, pm_r2_trans h1 (pm_r2_A M1 _ _), fun i hi => ?_⟩
      rw [pm_68 M1 _ (by omega)]
      by_cases e : i = j
      · rw [if_pos e]
      · rw [if_neg e]; exact h2 i (by omega)
    · rintro t ⟨M1, rfl, h1, h2⟩
      unfold gm_feel_L29
      simp (disch := omega) only [pj_lit, pj_add, pj_sub, pj_neg, pj_mul, pj_lt, pj_eq, pj_nat, pj_ald, pj_ast, pj_ix, pw_bind, pw_ite, pw_some, pw_none, pw_let, Option.bind_some, Int.toNat_natCast, Sum.elim_inl, Sum.elim_inr, Int.cast_ofNat_Int, Int.reduceLT, Int.reduceLE, Int.reduceEq, Int.reduceAdd, Int.reduceSub, Int.reduceMul, Int.reduceNeg, Int.reduceToNat, Nat.reduceAdd, Nat.reduceSub, Nat.reduceMul, Nat.reduceEqDiff, Nat.reduceLT, reduceIte, reduceCtorEq, true_and, and_true, forall_const, not_true_eq_false, not_false_eq_true, false_implies, implies_true, Int.lt_irrefl]
      exact ⟨h1, h2⟩
  · obtain ⟨h31, h32⟩ := h3
    refine pw_seq (pm_feelAll hT ho (pm_Q_r2 h31 hQ) hl1 hl6 hv (fun i hi => h32 i (by omega))) (fun r hr => ?_)
    obtain ⟨r1, r2, r3⟩ := hr
    have hW : (pf_all T V tp tv ts k l).length ≤ 46656 := by
      unfold pf_all
      rw [List.length_map]
      refine Nat.le_trans (List.length_filter_le _ _) ?_
      rw [List.length_range]
      exact (pf_len6 hl6).1
    generalize pf_all T V tp tv ts k l = L at r1 r3 hW
    have := pm_feelBest (l := l) (W := L.length) (C := fun i => L.countP (pf_q (pv_st T V) v i)) (Z := r.2) hl1 hl6 hW (fun i hi => ⟨r3 i hi, List.countP_le_length⟩)
    have er : r = (pj (L.length : Nat), r.2) := by rw [← r1]
    rw [er, this, Option.bind_some, pw_some]
    exact ⟨rfl, pm_k_trans hk2 (pm_k_trans (pm_r2_k h31) (pm_r2_k r2))⟩
theorem pq_feel {T : zt_T} {M : cs_S} {Z : zm_S} {s : Nat} {V : pv_V} {H : List pv_V} {at_ : Nat} (h : pr_R0 T M Z s V H at_) (a1 a2 a3 : Int32) :
    pw (gh_feel T M a1 a2 a3) (fun p => pw (gm_feel Z a1 a2 a3) (fun q => p.1 = q.1 ∧ pr_R T p.2 q.2)) := by
  obtain ⟨hT, hm, ho, hV, hsd, hrow, -⟩ := id h
  obtain ⟨t, t1, t2, t3, t4⟩ := pq_told h
  have hn := hT.1
  by_cases hh : (0 ≤ a1.toInt ∧ a1.toInt ≤ t) ∧ (1 ≤ a2.toInt ∧ a2.toInt ≤ 6) ∧ 0 ≤ a3.toInt ∧ a3.toInt ≤ 99
  · obtain ⟨c1, c2, c3⟩ := hh
    obtain ⟨k, rfl, k1, k2⟩ := pf_arg a1 (by omega) (by omega) c1
    obtain ⟨l, rfl, l1, l2⟩ := pf_arg a2 (by omega) (by omega) c2
    obtain ⟨v, rfl, v1, v2⟩ := pf_arg a3 (by omega) (by omega) c3
    obtain ⟨hTk, hLk⟩ := t4 k (by omega)
    refine pr_q h (pj (pf_an (pf_all T V (pf_tp M) (pf_tv M) (pf_ts M) k l).length (fun i => (pf_all T V (pf_tp M) (pf_tv M) (pf_ts M) k l).countP (pf_q (pv_st T V) v i)) l)) ?_ (pm_feel hT hm ho hrow (by omega) (by omega) t1 (by omega) t3 hLk (by omega))
    unfold gh_feel
    rw [t2, show gh_isIn (pj (k : Nat)) 0 (pj t) = some (decide ((0 : Int) ≤ (pj (k : Nat)).toInt ∧ (pj (k : Nat)).toInt ≤ t)) from pc_isIn (lo := 0) (hi := t) _ (by omega) (by omega), decide_eq_true c1, Option.bind_some, if_pos rfl]
    rw [show gh_isIn (pj (l : Nat)) 1 6 = some (decide ((1 : Int) ≤ (pj (l : Nat)).toInt ∧ (pj (l : Nat)).toInt ≤ 6)) from pc_isIn (lo := 1) (hi := 6) _ (by omega) (by omega), decide_eq_true c2, Option.bind_some, if_pos rfl]
    rw [show gh_isIn (pj (v : Nat)) 0 99 = some (decide ((0 : Int) ≤ (pj (v : Nat)).toInt ∧ (pj (v : Nat)).toInt ≤ 99)) from pc_isIn (lo := 0) (hi := 99) _ (by omega) (by omega), decide_eq_true c3, Option.bind_some, if_pos rfl]
    refine pw_seq (pc_laysFits hT hV ho hTk (by omega) (by omega)) (fun M' hM' => ?_)
    obtain ⟨x1, x3⟩ := hM'
    have hW : (pf_all T V (pf_tp M) (pf_tv M) (pf_ts M) k l).length ≤ 46656 := by
      unfold pf_all
      rw [List.length_map]
      refine Nat.le_trans (List.length_filter_le _ _) ?_
      rw [List.length_range]
      exact (pf_len6 (by omega)).1
    have hon : ∀ o ∈ pf_all T V (pf_tp M) (pf_tv M) (pf_ts M) k l, o.length = l ∧ ∀ x ∈ o, x < zt_n T := by
      intro o hoo
      unfold pf_all at hoo
      obtain ⟨x, hx, rfl⟩ := List.mem_map.1 hoo
      obtain ⟨hx1, hx2⟩ := List.mem_filter.1 hx
      unfold pf_ft at hx2
      rw [Bool.and_eq_true] at hx2
      exact ⟨pf_dg_len l x, fun y hy => (((pf_va_iff (zt_n T) _ 0 (pf_dg_lt l x (List.mem_range.1 hx1))).1 hx2.1).1 y hy).1⟩
    rw [pc_feel hT (pc_V_k (by omega) (by omega) (pc_h_k x3) hV) ho (by omega) (by omega) x1 hW hon (by omega), Option.bind_some, pw_some]
    exact ⟨rfl, pc_h_k x3⟩
  · unfold gh_feel gm_feel gm_isAsked gm_isMark
    rw [t2, t3]
    rw [pj_0, pj_1, show (6 : Int32) = pj 6 from rfl, show (99 : Int32) = pj 99 from rfl, pc_isIn _ (by omega) (by omega), pc_isIn _ (by omega) (by omega), pc_isIn _ (by omega) (by omega), pm_isIn _ (by omega) (by omega), pm_isIn _ (by omega) (by omega), pm_isIn _ (by omega) (by omega)]
    have hR : pr_R T M Z := ⟨s, V, H, at_, h⟩
    by_cases c1 : 0 ≤ a1.toInt ∧ a1.toInt ≤ t
    · by_cases c2 : 1 ≤ a2.toInt ∧ a2.toInt ≤ 6
      · have c3 : ¬ (0 ≤ a3.toInt ∧ a3.toInt ≤ 99) := fun c3 => hh ⟨c1, c2, c3⟩
        rw [decide_eq_true c1, decide_eq_true c2, decide_eq_false c3]
        exact (pw_some _ _).2 ((pw_some _ _).2 ⟨rfl, hR⟩)
      · rw [decide_eq_true c1, decide_eq_false c2]
        exact (pw_some _ _).2 ((pw_some _ _).2 ⟨rfl, hR⟩)
    · rw [decide_eq_false c1]
      exact (pw_some _ _).2 ((pw_some _ _).2 ⟨rfl, hR⟩)
