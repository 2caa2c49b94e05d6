set_option maxRecDepth 100000
/-! operations that only ask, one by one -/
def pv_house (T : zt_T) (V : pv_V) (k : Nat) (a : Int32) : Int32 := if a = 0 then pj (pv_h V k) else if a = 1 then pj (pt_s T k) else if a = 2 then (if k ∈ pv_r V then pj ((pv_r V).idxOf k : Nat) else pj (-2)) else if a = 3 then pj (pv_p V k)
  else if a = 4 then pj (pv_s V k) else if a = 5 then pj (pv_grows T V k) else if a = 6 then pj (pv_weak T V k) else if a = 7 then pj (pv_costs T V k) else if a = 8 then pv_g V k else -1
theorem pc_house {T : zt_T} {M : cs_S} {V : pv_V} (hT : pt_ok T) (ho : pv_ok (zt_n T) V) (hV : pc_V M 0 V) {k : Nat} (hk : k < zt_n T) (a2 : Int32) : pw (gh_house T M (pj k) a2) (fun p => p.1 = pv_house T V k a2 ∧ pc_k M p.2) := by
  have hn := hT.1
  have hk6 : k < 6 := by omega
  obtain ⟨c0, c1, c2, c3⟩ := hV.1 k hk6
  have hx : gh_isHouse T M (pj k) = some true := by rw [pc_isHouse M hT, pj_toInt (by omega), decide_eq_true (by omega)]
  unfold gh_house pv_house
  rw [hx, Option.bind_some, if_pos rfl]
  have r : pc_k M M := pc_k_rfl M
  by_cases q0 : a2 = 0
  · rw [if_pos q0, if_pos q0]; simp (disch := omega) only [pj_lit, pj_add, pj_sub, pj_neg, pj_mul, pj_lt, pj_eq, pj_nat, pj_ald, pj_ast, pj_ix, pw_bind, pw_ite, pw_some, pw_none, pw_let, Option.bind_some, Int.toNat_natCast, Sum.elim_inl, Sum.elim_inr, Int.cast_ofNat_Int, Int.reduceLT, Int.reduceLE, Int.reduceEq, Int.reduceAdd, Int.reduceSub, Int.reduceMul, Int.reduceNeg, Int.reduceToNat, Nat.reduceAdd, Nat.reduceSub, Nat.reduceMul, Nat.reduceEqDiff, Nat.reduceLT, reduceIte, reduceCtorEq, true_and, and_true, forall_const, not_true_eq_false, not_false_eq_true, false_implies, implies_true, c0]; exact r
  rw [if_neg q0, if_neg q0]
  by_cases q1 : a2 = 1
  · rw [if_pos q1, if_pos q1]; simp (disch := omega) only [pj_lit, pj_add, pj_sub, pj_neg, pj_mul, pj_lt, pj_eq, pj_nat, pj_ald, pj_ast, pj_ix, pw_bind, pw_ite, pw_some, pw_none, pw_let, Option.bind_some, Int.toNat_natCast, Sum.elim_inl, Sum.elim_inr, Int.cast_ofNat_Int, Int.reduceLT, Int.reduceLE, Int.reduceEq, Int.reduceAdd, Int.reduceSub, Int.reduceMul, Int.reduceNeg, Int.reduceToNat, Nat.reduceAdd, Nat.reduceSub, Nat.reduceMul, Nat.reduceEqDiff, Nat.reduceLT, reduceIte, reduceCtorEq, true_and, and_true, forall_const, not_true_eq_false, not_false_eq_true, false_implies, implies_true, pt_s_eq]; exact r
  rw [if_neg q1, if_neg q1]
  by_cases q2 : a2 = 2
  · rw [if_pos q2, if_pos q2]; simp (disch := omega) only [pj_lit, pj_add, pj_sub, pj_neg, pj_mul, pj_lt, pj_eq, pj_nat, pj_ald, pj_ast, pj_ix, pw_bind, pw_ite, pw_some, pw_none, pw_let, Option.bind_some, Int.toNat_natCast, Sum.elim_inl, Sum.elim_inr, Int.cast_ofNat_Int, Int.reduceLT, Int.reduceLE, Int.reduceEq, Int.reduceAdd, Int.reduceSub, Int.reduceMul, Int.reduceNeg, Int.reduceToNat, Nat.reduceAdd, Nat.reduceSub, Nat.reduceMul, Nat.reduceEqDiff, Nat.reduceLT, reduceIte, reduceCtorEq, true_and, and_true, forall_const, not_true_eq_false, not_false_eq_true, false_implies, implies_true, pc_place hV ho k hk6]; exact r
  rw [if_neg q2, if_neg q2]
  by_cases q3 : a2 = 3
  · rw [if_pos q3, if_pos q3]; simp (disch := omega) only [pj_lit, pj_add, pj_sub, pj_neg, pj_mul, pj_lt, pj_eq, pj_nat, pj_ald, pj_ast, pj_ix, pw_bind, pw_ite, pw_some, pw_none, pw_let, Option.bind_some, Int.toNat_natCast, Sum.elim_inl, Sum.elim_inr, Int.cast_ofNat_Int, Int.reduceLT, Int.reduceLE, Int.reduceEq, Int.reduceAdd, Int.reduceSub, Int.reduceMul, Int.reduceNeg, Int.reduceToNat, Nat.reduceAdd, Nat.reduceSub, Nat.reduceMul, Nat.reduceEqDiff, Nat.reduceLT, reduceIte, reduceCtorEq, true_and, and_true, forall_const, not_true_eq_false, not_false_eq_true, false_implies, implies_true, c1]; exact r
  rw [if_neg q3, if_neg q3]
  by_cases q4 : a2 = 4
  · rw [if_pos q4, if_pos q4]; simp (disch := omega) only [pj_lit, pj_add, pj_sub, pj_neg, pj_mul, pj_lt, pj_eq, pj_nat, pj_ald, pj_ast, pj_ix, pw_bind, pw_ite, pw_some, pw_none, pw_let, Option.bind_some, Int.toNat_natCast, Sum.elim_inl, Sum.elim_inr, Int.cast_ofNat_Int, Int.reduceLT, Int.reduceLE, Int.reduceEq, Int.reduceAdd, Int.reduceSub, Int.reduceMul, Int.reduceNeg, Int.reduceToNat, Nat.reduceAdd, Nat.reduceSub, Nat.reduceMul, Nat.reduceEqDiff, Nat.reduceLT, reduceIte, reduceCtorEq, true_and, and_true, forall_const, not_true_eq_false, not_false_eq_true, false_implies, implies_true, c2]; exact r
  rw [if_neg q4, if_neg q4]
  by_cases q5 : a2 = 5
  · rw [if_pos q5, if_pos q5]; simp (disch := omega) only [pj_lit, pj_add, pj_sub, pj_neg, pj_mul, pj_lt, pj_eq, pj_nat, pj_ald, pj_ast, pj_ix, pw_bind, pw_ite, pw_some, pw_none, pw_let, Option.bind_some, Int.toNat_natCast, Sum.elim_inl, Sum.elim_inr, Int.cast_ofNat_Int, Int.reduceLT, Int.reduceLE, Int.reduceEq, Int.reduceAdd, Int.reduceSub, Int.reduceMul, Int.reduceNeg, Int.reduceToNat, Nat.reduceAdd, Nat.reduceSub, Nat.reduceMul, Nat.reduceEqDiff, Nat.reduceLT, reduceIte, reduceCtorEq, true_and, and_true, forall_const, not_true_eq_false, not_false_eq_true, false_implies, implies_true]; exact pw_mono (pc_grows hT hV ho (by omega) hk) (fun p hp => ⟨hp.1, pc_e_k hp.2⟩)
  rw [if_neg q5, if_neg q5]
  by_cases q6 : a2 = 6
  · rw [if_pos q6, if_pos q6]; simp (disch := omega) only [pj_lit, pj_add, pj_sub, pj_neg, pj_mul, pj_lt, pj_eq, pj_nat, pj_ald, pj_ast, pj_ix, pw_bind, pw_ite, pw_some, pw_none, pw_let, Option.bind_some, Int.toNat_natCast, Sum.elim_inl, Sum.elim_inr, Int.cast_ofNat_Int, Int.reduceLT, Int.reduceLE, Int.reduceEq, Int.reduceAdd, Int.reduceSub, Int.reduceMul, Int.reduceNeg, Int.reduceToNat, Nat.reduceAdd, Nat.reduceSub, Nat.reduceMul, Nat.reduceEqDiff, Nat.reduceLT, reduceIte, reduceCtorEq, true_and, and_true, forall_const, not_true_eq_false, not_false_eq_true, false_implies, implies_true]; exact pw_mono (pc_weak hT hV ho (by omega) hk) (fun p hp => ⟨hp.1, pc_e_k hp.2⟩)
  rw [if_neg q6, if_neg q6]
  by_cases q7 : a2 = 7
  · rw [if_pos q7, if_pos q7]; simp (disch := omega) only [pj_lit, pj_add, pj_sub, pj_neg, pj_mul, pj_lt, pj_eq, pj_nat, pj_ald, pj_ast, pj_ix, pw_bind, pw_ite, pw_some, pw_none, pw_let, Option.bind_some, Int.toNat_natCast, Sum.elim_inl, Sum.elim_inr, Int.cast_ofNat_Int, Int.reduceLT, Int.reduceLE, Int.reduceEq, Int.reduceAdd, Int.reduceSub, Int.reduceMul, Int.reduceNeg, Int.reduceToNat, Nat.reduceAdd, Nat.reduceSub, Nat.reduceMul, Nat.reduceEqDiff, Nat.reduceLT, reduceIte, reduceCtorEq, true_and, and_true, forall_const, not_true_eq_false, not_false_eq_true, false_implies, implies_true]; exact pw_mono (pc_costs hT hV ho (by omega) hk) (fun p hp => ⟨hp.1, pc_e_k hp.2⟩)
  rw [if_neg q7, if_neg q7]
  by_cases q8 : a2 = 8
  · rw [if_pos q8, if_pos q8]; simp (disch := omega) only [pj_lit, pj_add, pj_sub, pj_neg, pj_mul, pj_lt, pj_eq, pj_nat, pj_ald, pj_ast, pj_ix, pw_bind, pw_ite, pw_some, pw_none, pw_let, Option.bind_some, Int.toNat_natCast, Sum.elim_inl, Sum.elim_inr, Int.cast_ofNat_Int, Int.reduceLT, Int.reduceLE, Int.reduceEq, Int.reduceAdd, Int.reduceSub, Int.reduceMul, Int.reduceNeg, Int.reduceToNat, Nat.reduceAdd, Nat.reduceSub, Nat.reduceMul, Nat.reduceEqDiff, Nat.reduceLT, reduceIte, reduceCtorEq, true_and, and_true, forall_const, not_true_eq_false, not_false_eq_true, false_implies, implies_true, c3]; exact r
  rw [if_neg q8, if_neg q8]; simp (disch := omega) only [pj_lit, pj_add, pj_sub, pj_neg, pj_mul, pj_lt, pj_eq, pj_nat, pj_ald, pj_ast, pj_ix, pw_bind, pw_ite, pw_some, pw_none, pw_let, Option.bind_some, Int.toNat_natCast, Sum.elim_inl, Sum.elim_inr, Int.cast_ofNat_Int, Int.reduceLT, Int.reduceLE, Int.reduceEq, Int.reduceAdd, Int.reduceSub, Int.reduceMul, Int.reduceNeg, Int.reduceToNat, Nat.reduceAdd, Nat.reduceSub, Nat.reduceMul, Nat.reduceEqDiff, Nat.reduceLT, reduceIte, reduceCtorEq, true_and, and_true, forall_const, not_true_eq_false, not_false_eq_true, false_implies, implies_true]; exact r
theorem pm_house {T : zt_T} {s : Nat} {Z : zm_S} {V : pv_V} (hT : pt_ok T) (hm : pm_T T s Z) (ho : pv_ok (zt_n T) V) (hrow : pv_row (Z.2.1 47) V) {k : Nat} (hk : k < zt_n T) (a2 : Int32) : pw (gm_house Z (pj k) a2) (fun p => p.1 = pv_house T V k a2 ∧ pm_k Z p.2) := by
  have hn := hT.1
  have hk6 : k < 6 := by omega
  obtain ⟨Z1, eZ, hc⟩ := pm_copies hm ho hrow
  have r := pm_c_k hc
  obtain ⟨hm1, hr1, -⟩ := hc
  obtain ⟨d0, d1, d2, d3⟩ := hr1.1 k hk6
  have e6 : (6 : Int) + (k : Int) = ((6 + k : Nat) : Int) := by omega
  have e12 : (12 : Int) + (k : Int) = ((12 + k : Nat) : Int) := by omega
  have e18 : (18 : Int) + (k : Int) = ((18 + k : Nat) : Int) := by omega
  have hx : gm_isHouse Z (pj k) = some true := by rw [pm_isHouse hT hm, pj_toInt (by omega), decide_eq_true (by omega)]
  unfold gm_house pv_house
  rw [hx, Option.bind_some, if_pos rfl, eZ, Option.bind_some]
  by_cases q0 : a2 = 0
  · rw [if_pos q0, if_pos q0]; simp (disch := omega) only [pj_lit, pj_add, pj_sub, pj_neg, pj_mul, pj_lt, pj_eq, pj_nat, pj_ald, pj_ast, pj_ix, pw_bind, pw_ite, pw_some, pw_none, pw_let, Option.bind_some, Int.toNat_natCast, Sum.elim_inl, Sum.elim_inr, Int.cast_ofNat_Int, Int.reduceLT, Int.reduceLE, Int.reduceEq, Int.reduceAdd, Int.reduceSub, Int.reduceMul, Int.reduceNeg, Int.reduceToNat, Nat.reduceAdd, Nat.reduceSub, Nat.reduceMul, Nat.reduceEqDiff, Nat.reduceLT, reduceIte, reduceCtorEq, true_and, and_true, forall_const, not_true_eq_false, not_false_eq_true, false_implies, implies_true, d0]; exact r
  rw [if_neg q0, if_neg q0]
  by_cases q1 : a2 = 1
  · rw [if_pos q1, if_pos q1]; simp (disch := omega) only [pj_lit, pj_add, pj_sub, pj_neg, pj_mul, pj_lt, pj_eq, pj_nat, pj_ald, pj_ast, pj_ix, pw_bind, pw_ite, pw_some, pw_none, pw_let, Option.bind_some, Int.toNat_natCast, Sum.elim_inl, Sum.elim_inr, Int.cast_ofNat_Int, Int.reduceLT, Int.reduceLE, Int.reduceEq, Int.reduceAdd, Int.reduceSub, Int.reduceMul, Int.reduceNeg, Int.reduceToNat, Nat.reduceAdd, Nat.reduceSub, Nat.reduceMul, Nat.reduceEqDiff, Nat.reduceLT, reduceIte, reduceCtorEq, true_and, and_true, forall_const, not_true_eq_false, not_false_eq_true, false_implies, implies_true, pm_first hm1 hn hk]; exact r
  rw [if_neg q1, if_neg q1]
  by_cases q2 : a2 = 2
  · rw [if_pos q2, if_pos q2]
    simp (disch := omega) only [pj_lit, pj_add, pj_sub, pj_neg, pj_mul, pj_lt, pj_eq, pj_nat, pj_ald, pj_ast, pj_ix, pw_bind, pw_ite, pw_some, pw_none, pw_let, Option.bind_some, Int.toNat_natCast, Sum.elim_inl, Sum.elim_inr, Int.cast_ofNat_Int, Int.reduceLT, Int.reduceLE, Int.reduceEq, Int.reduceAdd, Int.reduceSub, Int.reduceMul, Int.reduceNeg, Int.reduceToNat, Nat.reduceAdd, Nat.reduceSub, Nat.reduceMul, Nat.reduceEqDiff, Nat.reduceLT, reduceIte, reduceCtorEq, true_and, and_true, forall_const, not_true_eq_false, not_false_eq_true, false_implies, implies_true, pm_place hr1 ho k hk6, pm_has hr1 ho k hk6, decide_eq_true_eq]
    have b := (ho.2.1 k hk6).2.2.2.2.2.2
    refine ⟨fun z => ⟨?_, r⟩, fun z => ⟨?_, r⟩⟩
    · rw [if_pos (b.1 z), if_pos (b.1 z)]
    · rw [if_neg (fun y => z (b.2 y))]
  rw [if_neg q2, if_neg q2]
  by_cases q3 : a2 = 3
  · rw [if_pos q3, if_pos q3]; simp (disch := omega) only [pj_lit, pj_add, pj_sub, pj_neg, pj_mul, pj_lt, pj_eq, pj_nat, pj_ald, pj_ast, pj_ix, pw_bind, pw_ite, pw_some, pw_none, pw_let, Option.bind_some, Int.toNat_natCast, Sum.elim_inl, Sum.elim_inr, Int.cast_ofNat_Int, Int.reduceLT, Int.reduceLE, Int.reduceEq, Int.reduceAdd, Int.reduceSub, Int.reduceMul, Int.reduceNeg, Int.reduceToNat, Nat.reduceAdd, Nat.reduceSub, Nat.reduceMul, Nat.reduceEqDiff, Nat.reduceLT, reduceIte, reduceCtorEq, true_and, and_true, forall_const, not_true_eq_false, not_false_eq_true, false_implies, implies_true, e6, d1]; exact r
  rw [if_neg q3, if_neg q3]
  by_cases q4 : a2 = 4
  · rw [if_pos q4, if_pos q4]; simp (disch := omega) only [pj_lit, pj_add, pj_sub, pj_neg, pj_mul, pj_lt, pj_eq, pj_nat, pj_ald, pj_ast, pj_ix, pw_bind, pw_ite, pw_some, pw_none, pw_let, Option.bind_some, Int.toNat_natCast, Sum.elim_inl, Sum.elim_inr, Int.cast_ofNat_Int, Int.reduceLT, Int.reduceLE, Int.reduceEq, Int.reduceAdd, Int.reduceSub, Int.reduceMul, Int.reduceNeg, Int.reduceToNat, Nat.reduceAdd, Nat.reduceSub, Nat.reduceMul, Nat.reduceEqDiff, Nat.reduceLT, reduceIte, reduceCtorEq, true_and, and_true, forall_const, not_true_eq_false, not_false_eq_true, false_implies, implies_true, e12, d2]; exact r
  rw [if_neg q4, if_neg q4]
  by_cases q5 : a2 = 5
  · rw [if_pos q5, if_pos q5]; simp (disch := omega) only [pj_lit, pj_add, pj_sub, pj_neg, pj_mul, pj_lt, pj_eq, pj_nat, pj_ald, pj_ast, pj_ix, pw_bind, pw_ite, pw_some, pw_none, pw_let, Option.bind_some, Int.toNat_natCast, Sum.elim_inl, Sum.elim_inr, Int.cast_ofNat_Int, Int.reduceLT, Int.reduceLE, Int.reduceEq, Int.reduceAdd, Int.reduceSub, Int.reduceMul, Int.reduceNeg, Int.reduceToNat, Nat.reduceAdd, Nat.reduceSub, Nat.reduceMul, Nat.reduceEqDiff, Nat.reduceLT, reduceIte, reduceCtorEq, true_and, and_true, forall_const, not_true_eq_false, not_false_eq_true, false_implies, implies_true]; exact pw_mono (pm_grows hm1 hr1 ho hk) (fun p hp => ⟨hp.1, pm_k_trans r (pm_e_k hp.2)⟩)
  rw [if_neg q5, if_neg q5]
  by_cases q6 : a2 = 6
  · rw [if_pos q6, if_pos q6]; simp (disch := omega) only [pj_lit, pj_add, pj_sub, pj_neg, pj_mul, pj_lt, pj_eq, pj_nat, pj_ald, pj_ast, pj_ix, pw_bind, pw_ite, pw_some, pw_none, pw_let, Option.bind_some, Int.toNat_natCast, Sum.elim_inl, Sum.elim_inr, Int.cast_ofNat_Int, Int.reduceLT, Int.reduceLE, Int.reduceEq, Int.reduceAdd, Int.reduceSub, Int.reduceMul, Int.reduceNeg, Int.reduceToNat, Nat.reduceAdd, Nat.reduceSub, Nat.reduceMul, Nat.reduceEqDiff, Nat.reduceLT, reduceIte, reduceCtorEq, true_and, and_true, forall_const, not_true_eq_false, not_false_eq_true, false_implies, implies_true]; exact pw_mono (pm_weak hm1 hr1 ho hk) (fun p hp => ⟨hp.1, pm_k_trans r (pm_e_k hp.2)⟩)
  rw [if_neg q6, if_neg q6]
  by_cases q7 : a2 = 7
  · rw [if_pos q7, if_pos q7]; simp (disch := omega) only [pj_lit, pj_add, pj_sub, pj_neg, pj_mul, pj_lt, pj_eq, pj_nat, pj_ald, pj_ast, pj_ix, pw_bind, pw_ite, pw_some, pw_none, pw_let, Option.bind_some, Int.toNat_natCast, Sum.elim_inl, Sum.elim_inr, Int.cast_ofNat_Int, Int.reduceLT, Int.reduceLE, Int.reduceEq, Int.reduceAdd, Int.reduceSub, Int.reduceMul, Int.reduceNeg, Int.reduceToNat, Nat.reduceAdd, Nat.reduceSub, Nat.reduceMul, Nat.reduceEqDiff, Nat.reduceLT, reduceIte, reduceCtorEq, true_and, and_true, forall_const, not_true_eq_false, not_false_eq_true, false_implies, implies_true]; exact pw_mono (pm_costs hm1 hr1 ho hk) (fun p hp => ⟨hp.1, pm_k_trans r (pm_e_k hp.2)⟩)
  rw [if_neg q7, if_neg q7]
  by_cases q8 : a2 = 8
  · rw [if_pos q8, if_pos q8]; simp (disch := omega) only [pj_lit, pj_add, pj_sub, pj_neg, pj_mul, pj_lt, pj_eq, pj_nat, pj_ald, pj_ast, pj_ix, pw_bind, pw_ite, pw_some, pw_none, pw_let, Option.bind_some, Int.toNat_natCast, Sum.elim_inl, Sum.elim_inr, Int.cast_ofNat_Int, Int.reduceLT, Int.reduceLE, Int.reduceEq, Int.reduceAdd, Int.reduceSub, Int.reduceMul, Int.reduceNeg, Int.reduceToNat, Nat.reduceAdd, Nat.reduceSub, Nat.reduceMul, Nat.reduceEqDiff, Nat.reduceLT, reduceIte, reduceCtorEq, true_and, and_true, forall_const, not_true_eq_false, not_false_eq_true, false_implies, implies_true, e18, d3]; exact r
  rw [if_neg q8, if_neg q8]; simp (disch := omega) only [pj_lit, pj_add, pj_sub, pj_neg, pj_mul, pj_lt, pj_eq, pj_nat, pj_ald, pj_ast, pj_ix, pw_bind, pw_ite, pw_some, pw_none, pw_let, Option.bind_some, Int.toNat_natCast, Sum.elim_inl, Sum.elim_inr, Int.cast_ofNat_Int, Int.reduceLT, Int.reduceLE, Int.reduceEq, Int.reduceAdd, Int.reduceSub, Int.reduceMul, Int.reduceNeg, Int.reduceToNat, Nat.reduceAdd, Nat.reduceSub, Nat.reduceMul, Nat.reduceEqDiff, Nat.reduceLT, reduceIte, reduceCtorEq, true_and, and_true, forall_const, not_true_eq_false, not_false_eq_true, false_implies, implies_true]; exact r
theorem pq_house {T : zt_T} {M : cs_S} {Z : zm_S} {s : Nat} {V : pv_V} {H : List pv_V} {at_ : Nat} (h : pr_R0 T M Z s V H at_) (a1 a2 : Int32) :
    pw (gh_house T M a1 a2) (fun p => pw (gm_house Z a1 a2) (fun q => p.1 = q.1 ∧ pr_R T p.2 q.2)) := by
  obtain ⟨hT, hm, ho, hV, hsd, hrow, -⟩ := id h
  by_cases hh : 0 ≤ a1.toInt ∧ a1.toInt < zt_n T
  · obtain ⟨k, rfl, hk⟩ := pj_house hh
    exact pr_q h _ (pc_house hT ho hV hk a2) (pm_house hT hm ho hrow hk a2)
  · unfold gh_house gm_house
    rw [pc_isHouse M hT, pm_isHouse hT hm, decide_eq_false hh]
    rw [Option.bind_some, Option.bind_some, if_neg (by decide), if_neg (by decide), pw_some, pw_some]
    exact ⟨rfl, s, V, H, at_, h⟩
theorem pc_two {T : zt_T} (M : cs_S) (hT : pt_ok T) (a b : Int32) : gh_areTwo T M a b = some (decide ((0 ≤ a.toInt ∧ a.toInt < zt_n T) ∧ (0 ≤ b.toInt ∧ b.toInt < zt_n T) ∧ a ≠ b)) := by
  unfold gh_areTwo
  simp (disch := omega) only [pj_lit, pj_add, pj_sub, pj_neg, pj_mul, pj_lt, pj_eq, pj_nat, pj_ald, pj_ast, pj_ix, pw_bind, pw_ite, pw_some, pw_none, pw_let, Option.bind_some, Int.toNat_natCast, Sum.elim_inl, Sum.elim_inr, Int.cast_ofNat_Int, Int.reduceLT, Int.reduceLE, Int.reduceEq, Int.reduceAdd, Int.reduceSub, Int.reduceMul, Int.reduceNeg, Int.reduceToNat, Nat.reduceAdd, Nat.reduceSub, Nat.reduceMul, Nat.reduceEqDiff, Nat.reduceLT, reduceIte, reduceCtorEq, true_and, and_true, forall_const, not_true_eq_false, not_false_eq_true, false_implies, implies_true, pc_isHouse M hT, decide_eq_true_eq]
  by_cases q : 0 ≤ a.toInt ∧ a.toInt < zt_n T
  · rw [if_pos q]
    by_cases q2 : 0 ≤ b.toInt ∧ b.toInt < zt_n T
    · rw [if_pos q2]
      by_cases q3 : a = b
      · rw [if_pos q3, decide_eq_false (fun z => z.2.2 q3)]
      · rw [if_neg q3, decide_eq_true ⟨q, q2, q3⟩]
    · rw [if_neg q2, decide_eq_false (fun z => q2 z.2.1)]
  · rw [if_neg q, decide_eq_false (fun z => q z.1)]
theorem pm_two {T : zt_T} {s : Nat} {Z : zm_S} (ht : pt_ok T) (hT : pm_T T s Z) (a b : Int32) : gm_areTwo Z a b = some (decide ((0 ≤ a.toInt ∧ a.toInt < zt_n T) ∧ (0 ≤ b.toInt ∧ b.toInt < zt_n T) ∧ a ≠ b)) := by
  unfold gm_areTwo
  simp (disch := omega) only [pj_lit, pj_add, pj_sub, pj_neg, pj_mul, pj_lt, pj_eq, pj_nat, pj_ald, pj_ast, pj_ix, pw_bind, pw_ite, pw_some, pw_none, pw_let, Option.bind_some, Int.toNat_natCast, Sum.elim_inl, Sum.elim_inr, Int.cast_ofNat_Int, Int.reduceLT, Int.reduceLE, Int.reduceEq, Int.reduceAdd, Int.reduceSub, Int.reduceMul, Int.reduceNeg, Int.reduceToNat, Nat.reduceAdd, Nat.reduceSub, Nat.reduceMul, Nat.reduceEqDiff, Nat.reduceLT, reduceIte, reduceCtorEq, true_and, and_true, forall_const, not_true_eq_false, not_false_eq_true, false_implies, implies_true, pm_isHouse ht hT, decide_eq_true_eq]
  by_cases q : 0 ≤ a.toInt ∧ a.toInt < zt_n T
  · rw [if_pos q]
    by_cases q2 : 0 ≤ b.toInt ∧ b.toInt < zt_n T
    · rw [if_pos q2]
      by_cases q3 : a = b
      · rw [if_pos q3, decide_eq_false (fun z => z.2.2 q3)]
      · rw [if_neg q3, decide_eq_true ⟨q, q2, q3⟩]
    · rw [if_neg q2, decide_eq_false (fun z => q2 z.2.1)]
  · rw [if_neg q, decide_eq_false (fun z => q z.1)]
theorem pm_like {T : zt_T} {s : Nat} {Z : zm_S} (hT : pm_T T s Z) {a b : Nat} (ha : a < 6) (hb : b < 6) : gm_likeOf Z (pj a) (pj b) = some (pj (pt_k T a b)) := by
  have e26 := hT.2.2.2.2.1 a b ha hb
  have hs := hT.1
  have e6 : (36 : Int) * s + 6 * a + b = ((36 * s + 6 * a + b : Nat) : Int) := by omega
  unfold gm_likeOf
  simp (disch := omega) only [pj_lit, pj_add, pj_sub, pj_neg, pj_mul, pj_lt, pj_eq, pj_nat, pj_ald, pj_ast, pj_ix, pw_bind, pw_ite, pw_some, pw_none, pw_let, Option.bind_some, Int.toNat_natCast, Sum.elim_inl, Sum.elim_inr, Int.cast_ofNat_Int, Int.reduceLT, Int.reduceLE, Int.reduceEq, Int.reduceAdd, Int.reduceSub, Int.reduceMul, Int.reduceNeg, Int.reduceToNat, Nat.reduceAdd, Nat.reduceSub, Nat.reduceMul, Nat.reduceEqDiff, Nat.reduceLT, reduceIte, reduceCtorEq, true_and, and_true, forall_const, not_true_eq_false, not_false_eq_true, false_implies, implies_true, hT.2.1, e6, e26]
/-- readers that give a number -/
theorem pq_likes {T : zt_T} {M : cs_S} {Z : zm_S} {s : Nat} {V : pv_V} {H : List pv_V} {at_ : Nat} (h : pr_R0 T M Z s V H at_) (a1 a2 : Int32) :
    pw (gh_likes T M a1 a2) (fun p => pw (gm_likes Z a1 a2) (fun q => p = q)) := by
  obtain ⟨hT, hm, ho, hV, hsd, hrow, -⟩ := id h
  have hn := hT.1
  unfold gh_likes gm_likes
  rw [pc_two M hT, pm_two hT hm]
  by_cases hh : (0 ≤ a1.toInt ∧ a1.toInt < zt_n T) ∧ (0 ≤ a2.toInt ∧ a2.toInt < zt_n T) ∧ a1 ≠ a2
  · obtain ⟨a, rfl, ha⟩ := pj_house hh.1
    obtain ⟨b, rfl, hb⟩ := pj_house hh.2.1
    rw [decide_eq_true hh]
    simp (disch := omega) only [pj_lit, pj_add, pj_sub, pj_neg, pj_mul, pj_lt, pj_eq, pj_nat, pj_ald, pj_ast, pj_ix, pw_bind, pw_ite, pw_some, pw_none, pw_let, Option.bind_some, Int.toNat_natCast, Sum.elim_inl, Sum.elim_inr, Int.cast_ofNat_Int, Int.reduceLT, Int.reduceLE, Int.reduceEq, Int.reduceAdd, Int.reduceSub, Int.reduceMul, Int.reduceNeg, Int.reduceToNat, Nat.reduceAdd, Nat.reduceSub, Nat.reduceMul, Nat.reduceEqDiff, Nat.reduceLT, reduceIte, reduceCtorEq, true_and, and_true, forall_const, not_true_eq_false, not_false_eq_true, false_implies, implies_true, pm_like hm (show a < 6 by omega) (show b < 6 by omega), pt_k_eq]
  · rw [decide_eq_false hh]
    simp (disch := omega) only [pj_lit, pj_add, pj_sub, pj_neg, pj_mul, pj_lt, pj_eq, pj_nat, pj_ald, pj_ast, pj_ix, pw_bind, pw_ite, pw_some, pw_none, pw_let, Option.bind_some, Int.toNat_natCast, Sum.elim_inl, Sum.elim_inr, Int.cast_ofNat_Int, Int.reduceLT, Int.reduceLE, Int.reduceEq, Int.reduceAdd, Int.reduceSub, Int.reduceMul, Int.reduceNeg, Int.reduceToNat, Nat.reduceAdd, Nat.reduceSub, Nat.reduceMul, Nat.reduceEqDiff, Nat.reduceLT, reduceIte, reduceCtorEq, true_and, and_true, forall_const, not_true_eq_false, not_false_eq_true, false_implies, implies_true, Bool.false_eq_true]
theorem pq_joins {T : zt_T} {M : cs_S} {Z : zm_S} {s : Nat} {V : pv_V} {H : List pv_V} {at_ : Nat} (h : pr_R0 T M Z s V H at_) (a1 a2 : Int32) :
    pw (gh_joins T M a1 a2) (fun p => pw (gm_joins Z a1 a2) (fun q => p.1 = q.1 ∧ pr_R T p.2 q.2)) := by
  obtain ⟨hT, hm, ho, hV, hsd, hrow, -⟩ := id h
  have hn := hT.1
  unfold gh_joins gm_joins
  rw [pc_two M hT, pm_two hT hm]
  by_cases hh : (0 ≤ a1.toInt ∧ a1.toInt < zt_n T) ∧ (0 ≤ a2.toInt ∧ a2.toInt < zt_n T) ∧ a1 ≠ a2
  · obtain ⟨a, rfl, ha⟩ := pj_house hh.1
    obtain ⟨b, rfl, hb⟩ := pj_house hh.2.1
    obtain ⟨Z1, eZ, hc⟩ := pm_copies hm ho hrow
    have hk1 := pm_c_k hc
    obtain ⟨hm1, hr1, -⟩ := hc
    rw [decide_eq_true hh]
    simp (disch := omega) only [pj_lit, pj_add, pj_sub, pj_neg, pj_mul, pj_lt, pj_eq, pj_nat, pj_ald, pj_ast, pj_ix, pw_bind, pw_ite, pw_some, pw_none, pw_let, Option.bind_some, Int.toNat_natCast, Sum.elim_inl, Sum.elim_inr, Int.cast_ofNat_Int, Int.reduceLT, Int.reduceLE, Int.reduceEq, Int.reduceAdd, Int.reduceSub, Int.reduceMul, Int.reduceNeg, Int.reduceToNat, Nat.reduceAdd, Nat.reduceSub, Nat.reduceMul, Nat.reduceEqDiff, Nat.reduceLT, reduceIte, reduceCtorEq, true_and, and_true, forall_const, not_true_eq_false, not_false_eq_true, false_implies, implies_true, pt_k_eq, eZ]
    exact pw_mono (pc_joins hT hV ho (by omega) ha hb _) (fun p hp => pw_mono (pm_joins hT hm1 hr1 ho ha hb) (fun q hq => ⟨hp.1.trans hq.1.symm, s, V, H, at_, pr_R_k (pc_e_k hp.2) (pm_k_trans hk1 (pm_e_k hq.2)) h⟩))
  · rw [decide_eq_false hh]
    simp (disch := omega) only [pj_lit, pj_add, pj_sub, pj_neg, pj_mul, pj_lt, pj_eq, pj_nat, pj_ald, pj_ast, pj_ix, pw_bind, pw_ite, pw_some, pw_none, pw_let, Option.bind_some, Int.toNat_natCast, Sum.elim_inl, Sum.elim_inr, Int.cast_ofNat_Int, Int.reduceLT, Int.reduceLE, Int.reduceEq, Int.reduceAdd, Int.reduceSub, Int.reduceMul, Int.reduceNeg, Int.reduceToNat, Nat.reduceAdd, Nat.reduceSub, Nat.reduceMul, Nat.reduceEqDiff, Nat.reduceLT, reduceIte, reduceCtorEq, true_and, and_true, forall_const, not_true_eq_false, not_false_eq_true, false_implies, implies_true, Bool.false_eq_true]
    exact ⟨s, V, H, at_, h⟩
theorem pc_isPlace {T : zt_T} {M : cs_S} {V : pv_V} {n : Nat} (hV : pc_V M 0 V) (ho : pv_ok n V) (a : Int32) : gh_isPlace T M a = some (decide (0 ≤ a.toInt ∧ a.toInt < (pv_r V).length)) := by
  have hn := ho.1
  have hl := pv_len ho
  have e5 := hV.2.1
  unfold gh_isPlace
  simp (disch := omega) only [pj_lit, pj_add, pj_sub, pj_neg, pj_mul, pj_lt, pj_eq, pj_nat, pj_ald, pj_ast, pj_ix, pw_bind, pw_ite, pw_some, pw_none, pw_let, Option.bind_some, Int.toNat_natCast, Sum.elim_inl, Sum.elim_inr, Int.cast_ofNat_Int, Int.reduceLT, Int.reduceLE, Int.reduceEq, Int.reduceAdd, Int.reduceSub, Int.reduceMul, Int.reduceNeg, Int.reduceToNat, Nat.reduceAdd, Nat.reduceSub, Nat.reduceMul, Nat.reduceEqDiff, Nat.reduceLT, reduceIte, reduceCtorEq, true_and, and_true, forall_const, not_true_eq_false, not_false_eq_true, false_implies, implies_true, e5, pc_isIn]
  congr 2
  exact propext ⟨fun h => by omega, fun h => by omega⟩
theorem pq_at {T : zt_T} {M : cs_S} {Z : zm_S} {s : Nat} {V : pv_V} {H : List pv_V} {at_ : Nat} (h : pr_R0 T M Z s V H at_) (a1 : Int32) :
    pw (gh_at T M a1) (fun p => pw (gm_at Z a1) (fun q => p = q)) := by
  obtain ⟨hT, hm, ho, hV, hsd, hrow, -⟩ := id h
  have hn := ho.1
  have hl := pv_len ho
  have e24 := hrow.2.1
  unfold gh_at gm_at
  rw [pc_isPlace hV ho]
  simp (disch := omega) only [pj_lit, pj_add, pj_sub, pj_neg, pj_mul, pj_lt, pj_eq, pj_nat, pj_ald, pj_ast, pj_ix, pw_bind, pw_ite, pw_some, pw_none, pw_let, Option.bind_some, Int.toNat_natCast, Sum.elim_inl, Sum.elim_inr, Int.cast_ofNat_Int, Int.reduceLT, Int.reduceLE, Int.reduceEq, Int.reduceAdd, Int.reduceSub, Int.reduceMul, Int.reduceNeg, Int.reduceToNat, Nat.reduceAdd, Nat.reduceSub, Nat.reduceMul, Nat.reduceEqDiff, Nat.reduceLT, reduceIte, reduceCtorEq, true_and, and_true, forall_const, not_true_eq_false, not_false_eq_true, false_implies, implies_true, e24, pm_isIn]
  by_cases hh : 0 ≤ a1.toInt ∧ a1.toInt < (pv_r V).length
  · obtain ⟨k, rfl, hk⟩ := pj_house hh
    have hk2 : (0 : Int) ≤ (pj (k : Int)).toInt ∧ (pj (k : Int)).toInt ≤ ((pv_r V).length : Nat) - 1 := by omega
    have e4 := hV.2.2.1 k _ (pv_get hk)
    have f4 := hrow.2.2.1 k _ (pv_get hk)
    have e25 : (25 : Int) + (k : Int) = ((25 + k : Nat) : Int) := by omega
    rw [decide_eq_true hh, decide_eq_true hk2]
    simp (disch := omega) only [pj_lit, pj_add, pj_sub, pj_neg, pj_mul, pj_lt, pj_eq, pj_nat, pj_ald, pj_ast, pj_ix, pw_bind, pw_ite, pw_some, pw_none, pw_let, Option.bind_some, Int.toNat_natCast, Sum.elim_inl, Sum.elim_inr, Int.cast_ofNat_Int, Int.reduceLT, Int.reduceLE, Int.reduceEq, Int.reduceAdd, Int.reduceSub, Int.reduceMul, Int.reduceNeg, Int.reduceToNat, Nat.reduceAdd, Nat.reduceSub, Nat.reduceMul, Nat.reduceEqDiff, Nat.reduceLT, reduceIte, reduceCtorEq, true_and, and_true, forall_const, not_true_eq_false, not_false_eq_true, false_implies, implies_true, e4, e25, f4]
  · rw [decide_eq_false hh, decide_eq_false (by omega)]
    simp (disch := omega) only [pj_lit, pj_add, pj_sub, pj_neg, pj_mul, pj_lt, pj_eq, pj_nat, pj_ald, pj_ast, pj_ix, pw_bind, pw_ite, pw_some, pw_none, pw_let, Option.bind_some, Int.toNat_natCast, Sum.elim_inl, Sum.elim_inr, Int.cast_ofNat_Int, Int.reduceLT, Int.reduceLE, Int.reduceEq, Int.reduceAdd, Int.reduceSub, Int.reduceMul, Int.reduceNeg, Int.reduceToNat, Nat.reduceAdd, Nat.reduceSub, Nat.reduceMul, Nat.reduceEqDiff, Nat.reduceLT, reduceIte, reduceCtorEq, true_and, and_true, forall_const, not_true_eq_false, not_false_eq_true, false_implies, implies_true, Bool.false_eq_true]
theorem pq_below {T : zt_T} {M : cs_S} {Z : zm_S} {s : Nat} {V : pv_V} {H : List pv_V} {at_ : Nat} (h : pr_R0 T M Z s V H at_) (a1 : Int32) :
    pw (gh_below T M a1) (fun p => pw (gm_below Z a1) (fun q => p = q.1 ∧ pr_R T M q.2)) := by
  obtain ⟨hT, hm, ho, hV, hsd, hrow, -⟩ := id h
  have hn := ho.1
  have hl := pv_len ho
  obtain ⟨Z1, eZ, hc⟩ := pm_copies hm ho hrow
  have hk1 := pm_c_k hc
  obtain ⟨hm1, hr1, -⟩ := hc
  have e24 := hr1.2.1
  unfold gh_below gm_below
  rw [pc_isPlace hV ho]
  simp (disch := omega) only [pj_lit, pj_add, pj_sub, pj_neg, pj_mul, pj_lt, pj_eq, pj_nat, pj_ald, pj_ast, pj_ix, pw_bind, pw_ite, pw_some, pw_none, pw_let, Option.bind_some, Int.toNat_natCast, Sum.elim_inl, Sum.elim_inr, Int.cast_ofNat_Int, Int.reduceLT, Int.reduceLE, Int.reduceEq, Int.reduceAdd, Int.reduceSub, Int.reduceMul, Int.reduceNeg, Int.reduceToNat, Nat.reduceAdd, Nat.reduceSub, Nat.reduceMul, Nat.reduceEqDiff, Nat.reduceLT, reduceIte, reduceCtorEq, true_and, and_true, forall_const, not_true_eq_false, not_false_eq_true, false_implies, implies_true, eZ, e24, pm_isIn]
  by_cases hh : 0 ≤ a1.toInt ∧ a1.toInt < (pv_r V).length
  · obtain ⟨k, rfl, hk⟩ := pj_house hh
    have hk2 : (0 : Int) ≤ (pj (k : Int)).toInt ∧ (pj (k : Int)).toInt ≤ ((pv_r V).length : Nat) - 1 := by omega
    rw [decide_eq_true hh, decide_eq_true hk2]
    simp (disch := omega) only [pj_lit, pj_add, pj_sub, pj_neg, pj_mul, pj_lt, pj_eq, pj_nat, pj_ald, pj_ast, pj_ix, pw_bind, pw_ite, pw_some, pw_none, pw_let, Option.bind_some, Int.toNat_natCast, Sum.elim_inl, Sum.elim_inr, Int.cast_ofNat_Int, Int.reduceLT, Int.reduceLE, Int.reduceEq, Int.reduceAdd, Int.reduceSub, Int.reduceMul, Int.reduceNeg, Int.reduceToNat, Nat.reduceAdd, Nat.reduceSub, Nat.reduceMul, Nat.reduceEqDiff, Nat.reduceLT, reduceIte, reduceCtorEq, true_and, and_true, forall_const, not_true_eq_false, not_false_eq_true, false_implies, implies_true, pc_below hV ho hk, pm_below hr1 ho hk]
    exact ⟨s, V, H, at_, pr_R_k (pc_k_rfl M) hk1 h⟩
  · rw [decide_eq_false hh, decide_eq_false (by omega)]
    simp (disch := omega) only [pj_lit, pj_add, pj_sub, pj_neg, pj_mul, pj_lt, pj_eq, pj_nat, pj_ald, pj_ast, pj_ix, pw_bind, pw_ite, pw_some, pw_none, pw_let, Option.bind_some, Int.toNat_natCast, Sum.elim_inl, Sum.elim_inr, Int.cast_ofNat_Int, Int.reduceLT, Int.reduceLE, Int.reduceEq, Int.reduceAdd, Int.reduceSub, Int.reduceMul, Int.reduceNeg, Int.reduceToNat, Nat.reduceAdd, Nat.reduceSub, Nat.reduceMul, Nat.reduceEqDiff, Nat.reduceLT, reduceIte, reduceCtorEq, true_and, and_true, forall_const, not_true_eq_false, not_false_eq_true, false_implies, implies_true, Bool.false_eq_true]
    exact ⟨s, V, H, at_, pr_R_k (pc_k_rfl M) hk1 h⟩
theorem pq_most {T : zt_T} {M : cs_S} {Z : zm_S} {s : Nat} {V : pv_V} {H : List pv_V} {at_ : Nat} (h : pr_R0 T M Z s V H at_) :
    pw (gh_most T M) (fun p => pw (gm_most Z) (fun q => p.1 = q.1 ∧ pr_R T p.2 q.2)) := by
  obtain ⟨hT, hm, ho, hV, hsd, hrow, -⟩ := id h
  obtain ⟨Z1, eZ, hc⟩ := pm_copies hm ho hrow
  have hk1 := pm_c_k hc
  obtain ⟨hm1, hr1, -⟩ := hc
  unfold gh_most gm_most
  simp (disch := omega) only [pj_lit, pj_add, pj_sub, pj_neg, pj_mul, pj_lt, pj_eq, pj_nat, pj_ald, pj_ast, pj_ix, pw_bind, pw_ite, pw_some, pw_none, pw_let, Option.bind_some, Int.toNat_natCast, Sum.elim_inl, Sum.elim_inr, Int.cast_ofNat_Int, Int.reduceLT, Int.reduceLE, Int.reduceEq, Int.reduceAdd, Int.reduceSub, Int.reduceMul, Int.reduceNeg, Int.reduceToNat, Nat.reduceAdd, Nat.reduceSub, Nat.reduceMul, Nat.reduceEqDiff, Nat.reduceLT, reduceIte, reduceCtorEq, true_and, and_true, forall_const, not_true_eq_false, not_false_eq_true, false_implies, implies_true, eZ]
  exact pw_mono (pc_most hT hV ho (by omega)) (fun p hp => pw_mono (pm_most hT hm1 hr1 ho) (fun q hq => ⟨hp.1.trans hq.1.symm, s, V, H, at_, pr_R_k (pc_e_k hp.2) (pm_k_trans hk1 (pm_e_k hq.2)) h⟩))
theorem pv_most_bd {T : zt_T} {V : pv_V} (ht : pt_ok T) (ho : pv_ok (zt_n T) V) : (pv_most T V = -2 ∨ 0 ≤ pv_most T V) ∧ -2 ≤ pv_most T V ∧ pv_most T V ≤ 999 := by
  have := pv_least_bd ht ho
  unfold pv_most
  split
  · omega
  · split <;> omega
def pv_weakest (T : zt_T) (V : pv_V) (what : Int32) : Int32 := if pv_brk T V (max (-1) (pv_most T V) + 1) < 0 then -2 else if what = 0 then pj ((pv_brk T V (max (-1) (pv_most T V) + 1)).toNat / 2 : Nat) else pj (1 - ((pv_brk T V (max (-1) (pv_most T V) + 1)).toNat % 2 : Nat))
theorem pq_weakest {T : zt_T} {M : cs_S} {Z : zm_S} {s : Nat} {V : pv_V} {H : List pv_V} {at_ : Nat} (h : pr_R0 T M Z s V H at_) (a : Int32) :
    pw (gh_weakest T M a) (fun p => pw (gm_weakest Z a) (fun q => p.1 = q.1 ∧ pr_R T p.2 q.2)) := by
  obtain ⟨hT, hm, ho, hV, hsd, hrow, -⟩ := id h
  have hmb := pv_most_bd hT ho
  have hbb := pv_brk_bd T ho (max (-1) (pv_most T V) + 1)
  have hl := pv_len ho
  have hn := ho.1
  by_cases hh : 0 ≤ a.toInt ∧ a.toInt ≤ 1
  · refine pr_q h (pv_weakest T V a) ?_ ?_
    · unfold gh_weakest gh_most
      simp (disch := omega) only [pj_lit, pj_add, pj_sub, pj_neg, pj_mul, pj_lt, pj_eq, pj_nat, pj_ald, pj_ast, pj_ix, pw_bind, pw_ite, pw_some, pw_none, pw_let, Option.bind_some, Int.toNat_natCast, Sum.elim_inl, Sum.elim_inr, Int.cast_ofNat_Int, Int.reduceLT, Int.reduceLE, Int.reduceEq, Int.reduceAdd, Int.reduceSub, Int.reduceMul, Int.reduceNeg, Int.reduceToNat, Nat.reduceAdd, Nat.reduceSub, Nat.reduceMul, Nat.reduceEqDiff, Nat.reduceLT, reduceIte, reduceCtorEq, true_and, and_true, forall_const, not_true_eq_false, not_false_eq_true, false_implies, implies_true, pc_isIn, decide_eq_true hh]
      refine pw_mono (pc_most hT hV ho (by omega)) (fun p hp => ?_)
      have hV1 := pc_V_e (by omega) hp.2 hV
      have e1 : zs_max (pj (-1)) (pj (pv_most T V)) + pj 1 = pj (max (-1) (pv_most T V) + 1) := by rw [pj_max _ _ (by omega) (by omega), pj_add]
      rw [hp.1, e1]
      refine pw_mono (pc_brk hT hV1 ho (by omega) (by omega)) (fun p2 hp2 => ?_)
      have hk := pc_k_trans (pc_e_k hp.2) (pc_e_k hp2.2)
      unfold pv_weakest
      rw [hp2.1]
      generalize pv_brk T V (max (-1) (pv_most T V) + 1) = b at hbb
      simp (disch := omega) only [pj_lit, pj_add, pj_sub, pj_neg, pj_mul, pj_lt, pj_eq, pj_nat, pj_ald, pj_ast, pj_ix, pw_bind, pw_ite, pw_some, pw_none, pw_let, Option.bind_some, Int.toNat_natCast, Sum.elim_inl, Sum.elim_inr, Int.cast_ofNat_Int, Int.reduceLT, Int.reduceLE, Int.reduceEq, Int.reduceAdd, Int.reduceSub, Int.reduceMul, Int.reduceNeg, Int.reduceToNat, Nat.reduceAdd, Nat.reduceSub, Nat.reduceMul, Nat.reduceEqDiff, Nat.reduceLT, reduceIte, reduceCtorEq, true_and, and_true, forall_const, not_true_eq_false, not_false_eq_true, false_implies, implies_true]
      refine ⟨fun q => ⟨by rw [if_pos q], hk⟩, fun q => ?_⟩
      obtain ⟨k, rfl⟩ : ∃ k : Nat, b = k := ⟨b.toNat, by omega⟩
      have hd : pj (k : Int) / pj 2 = pj ((k / 2 : Nat) : Int) := pj_divN (b := 2) (by omega) (by omega)
      have hr : zs_rem (pj (k : Int)) (pj 2) = pj ((k % 2 : Nat) : Int) := pj_remN (b := 2) (by omega) (by omega)
      refine ⟨fun q2 => ⟨?_, hk⟩, fun q2 => ⟨?_, hk⟩⟩
      · rw [if_neg q, if_pos q2, hd, Int.toNat_natCast]
      · rw [if_neg q, if_neg q2, hr, Int.toNat_natCast, pj_sub]
    · obtain ⟨Z1, eZ, hc⟩ := pm_copies hm ho hrow
      have hk1 := pm_c_k hc
      obtain ⟨hm1, hr1, -⟩ := hc
      unfold gm_weakest
      simp (disch := omega) only [pj_lit, pj_add, pj_sub, pj_neg, pj_mul, pj_lt, pj_eq, pj_nat, pj_ald, pj_ast, pj_ix, pw_bind, pw_ite, pw_some, pw_none, pw_let, Option.bind_some, Int.toNat_natCast, Sum.elim_inl, Sum.elim_inr, Int.cast_ofNat_Int, Int.reduceLT, Int.reduceLE, Int.reduceEq, Int.reduceAdd, Int.reduceSub, Int.reduceMul, Int.reduceNeg, Int.reduceToNat, Nat.reduceAdd, Nat.reduceSub, Nat.reduceMul, Nat.reduceEqDiff, Nat.reduceLT, reduceIte, reduceCtorEq, true_and, and_true, forall_const, not_true_eq_false, not_false_eq_true, false_implies, implies_true, pm_isIn, decide_eq_true hh, eZ]
      refine pw_mono (pm_most hT hm1 hr1 ho) (fun p hp => ?_)
      have fin : ∀ Z2, pm_e Z1 Z2 → pw (gm_breaksAt Z2 (pj (max (-1) (pv_most T V) + 1))) fun a_1 => (a_1.1 < pj 0 → pj (-2) = pv_weakest T V a ∧ pm_k Z a_1.2) ∧ (¬ a_1.1 < pj 0 → (a = pj 0 → a_1.1 / pj 2 = pv_weakest T V a ∧ pm_k Z a_1.2) ∧ (¬ a = pj 0 → pj 1 - zs_rem a_1.1 (pj 2) = pv_weakest T V a ∧ pm_k Z a_1.2)) := by
        intro Z2 hZ2
        refine pw_mono (pm_brk hT (pm_T_e hZ2 hm1) (pm_row_e hZ2 hr1) ho (by omega)) (fun p2 hp2 => ?_)
        have hk := pm_k_trans hk1 (pm_k_trans (pm_e_k hZ2) (pm_e_k hp2.2))
        unfold pv_weakest
        rw [hp2.1]
        generalize pv_brk T V (max (-1) (pv_most T V) + 1) = b at hbb
        simp (disch := omega) only [pj_lit, pj_add, pj_sub, pj_neg, pj_mul, pj_lt, pj_eq, pj_nat, pj_ald, pj_ast, pj_ix, pw_bind, pw_ite, pw_some, pw_none, pw_let, Option.bind_some, Int.toNat_natCast, Sum.elim_inl, Sum.elim_inr, Int.cast_ofNat_Int, Int.reduceLT, Int.reduceLE, Int.reduceEq, Int.reduceAdd, Int.reduceSub, Int.reduceMul, Int.reduceNeg, Int.reduceToNat, Nat.reduceAdd, Nat.reduceSub, Nat.reduceMul, Nat.reduceEqDiff, Nat.reduceLT, reduceIte, reduceCtorEq, true_and, and_true, forall_const, not_true_eq_false, not_false_eq_true, false_implies, implies_true]
        refine ⟨fun q => ⟨by rw [if_pos q], hk⟩, fun q => ?_⟩
        obtain ⟨k, rfl⟩ : ∃ k : Nat, b = k := ⟨b.toNat, by omega⟩
        have hd : pj (k : Int) / pj 2 = pj ((k / 2 : Nat) : Int) := pj_divN (b := 2) (by omega) (by omega)
        have hr : zs_rem (pj (k : Int)) (pj 2) = pj ((k % 2 : Nat) : Int) := pj_remN (b := 2) (by omega) (by omega)
        refine ⟨fun q2 => ⟨?_, hk⟩, fun q2 => ⟨?_, hk⟩⟩
        · rw [if_neg q, if_pos q2, hd, Int.toNat_natCast]
        · rw [if_neg q, if_neg q2, hr, Int.toNat_natCast, pj_sub]
      simp (disch := omega) only [pj_lit, pj_add, pj_sub, pj_neg, pj_mul, pj_lt, pj_eq, pj_nat, pj_ald, pj_ast, pj_ix, pw_bind, pw_ite, pw_some, pw_none, pw_let, Option.bind_some, Int.toNat_natCast, Sum.elim_inl, Sum.elim_inr, Int.cast_ofNat_Int, Int.reduceLT, Int.reduceLE, Int.reduceEq, Int.reduceAdd, Int.reduceSub, Int.reduceMul, Int.reduceNeg, Int.reduceToNat, Nat.reduceAdd, Nat.reduceSub, Nat.reduceMul, Nat.reduceEqDiff, Nat.reduceLT, reduceIte, reduceCtorEq, true_and, and_true, forall_const, not_true_eq_false, not_false_eq_true, false_implies, implies_true, hp.1]
      refine ⟨fun q => ?_, fun q => ?_⟩
      · have := fin p.2 hp.2
        rw [show max (-1) (pv_most T V) + 1 = 0 by omega] at this
        exact this
      · refine pw_mono (pm_most hT (pm_T_e hp.2 hm1) (pm_row_e hp.2 hr1) ho) (fun p3 hp3 => ?_)
        have := fin p3.2 (pm_e_trans hp.2 hp3.2)
        rw [show max (-1) (pv_most T V) + 1 = pv_most T V + 1 by omega, ← pj_add, ← hp3.1] at this
        exact this
  · unfold gh_weakest gm_weakest
    simp (disch := omega) only [pj_lit, pj_add, pj_sub, pj_neg, pj_mul, pj_lt, pj_eq, pj_nat, pj_ald, pj_ast, pj_ix, pw_bind, pw_ite, pw_some, pw_none, pw_let, Option.bind_some, Int.toNat_natCast, Sum.elim_inl, Sum.elim_inr, Int.cast_ofNat_Int, Int.reduceLT, Int.reduceLE, Int.reduceEq, Int.reduceAdd, Int.reduceSub, Int.reduceMul, Int.reduceNeg, Int.reduceToNat, Nat.reduceAdd, Nat.reduceSub, Nat.reduceMul, Nat.reduceEqDiff, Nat.reduceLT, reduceIte, reduceCtorEq, true_and, and_true, forall_const, not_true_eq_false, not_false_eq_true, false_implies, implies_true, pc_isIn, pm_isIn, decide_eq_false hh, Bool.false_eq_true]
    exact ⟨s, V, H, at_, h⟩
theorem pv_long_pos {n : Nat} {V : pv_V} (ho : pv_ok n V) {k : Nat} (hk : k < 6) (hp : 0 < pv_p V k) : 0 < pv_long V ∧ pv_long V ≤ 594 := by
  rw [← pv_long_eq ho]
  have b0 := ho.2.1 0 (by omega)
  have b1 := ho.2.1 1 (by omega)
  have b2 := ho.2.1 2 (by omega)
  have b3 := ho.2.1 3 (by omega)
  have b4 := ho.2.1 4 (by omega)
  have b5 := ho.2.1 5 (by omega)
  match k, hk with
  | 0, _ => omega
  | 1, _ => omega
  | 2, _ => omega
  | 3, _ => omega
  | 4, _ => omega
  | 5, _ => omega
theorem pq_share {T : zt_T} {M : cs_S} {Z : zm_S} {s : Nat} {V : pv_V} {H : List pv_V} {at_ : Nat} (h : pr_R0 T M Z s V H at_) (a : Int32) :
    pw (gh_share T M a) (fun p => pw (gm_share Z a) (fun q => p = q.1 ∧ pr_R T M q.2)) := by
  obtain ⟨hT, hm, ho, hV, hsd, hrow, -⟩ := id h
  have hn := hT.1
  by_cases hh : 0 ≤ a.toInt ∧ a.toInt < zt_n T
  · obtain ⟨k, rfl, hk⟩ := pj_house hh
    have hk6 : k < 6 := by omega
    obtain ⟨c0, c1, c2, c3⟩ := hV.1 k hk6
    obtain ⟨Z1, eZ, hc⟩ := pm_copies hm ho hrow
    have hk1 := pm_c_k hc
    obtain ⟨hm1, hr1, -⟩ := hc
    obtain ⟨d0, d1, d2, d3⟩ := hr1.1 k hk6
    have e6 : (6 : Int) + (k : Int) = ((6 + k : Nat) : Int) := by omega
    have hx : gh_isHouse T M (pj k) = some true := by rw [pc_isHouse M hT, decide_eq_true hh]
    have hy : gm_isHouse Z (pj k) = some true := by rw [pm_isHouse hT hm, decide_eq_true hh]
    unfold gh_share gm_share
    simp (disch := omega) only [pj_lit, pj_add, pj_sub, pj_neg, pj_mul, pj_lt, pj_eq, pj_nat, pj_ald, pj_ast, pj_ix, pw_bind, pw_ite, pw_some, pw_none, pw_let, Option.bind_some, Int.toNat_natCast, Sum.elim_inl, Sum.elim_inr, Int.cast_ofNat_Int, Int.reduceLT, Int.reduceLE, Int.reduceEq, Int.reduceAdd, Int.reduceSub, Int.reduceMul, Int.reduceNeg, Int.reduceToNat, Nat.reduceAdd, Nat.reduceSub, Nat.reduceMul, Nat.reduceEqDiff, Nat.reduceLT, reduceIte, reduceCtorEq, true_and, and_true, forall_const, not_true_eq_false, not_false_eq_true, false_implies, implies_true, hx, hy, pc_has hV ho k hk6, decide_eq_true_eq, c1, pc_rope hV ho, eZ, pm_has hr1 ho k hk6, e6, d1, pm_rope hr1 ho]
    refine ⟨fun q => ?_, fun q => ?_⟩
    · have hp := pv_long_pos ho hk6 q
      have hd : zs_div (pj (1000 * pv_p V k)) (pj (pv_long V)) = some (pj (1000 * pv_p V k) / pj (pv_long V)) := by
        unfold zs_div
        rw [if_neg]
        intro z
        have := (pj_eq (b := 0) (by omega) (by omega)).1 z
        omega
      simp (disch := omega) only [pj_lit, pj_add, pj_sub, pj_neg, pj_mul, pj_lt, pj_eq, pj_nat, pj_ald, pj_ast, pj_ix, pw_bind, pw_ite, pw_some, pw_none, pw_let, Option.bind_some, Int.toNat_natCast, Sum.elim_inl, Sum.elim_inr, Int.cast_ofNat_Int, Int.reduceLT, Int.reduceLE, Int.reduceEq, Int.reduceAdd, Int.reduceSub, Int.reduceMul, Int.reduceNeg, Int.reduceToNat, Nat.reduceAdd, Nat.reduceSub, Nat.reduceMul, Nat.reduceEqDiff, Nat.reduceLT, reduceIte, reduceCtorEq, true_and, and_true, forall_const, not_true_eq_false, not_false_eq_true, false_implies, implies_true, hd, q]
      exact ⟨s, V, H, at_, pr_R_k (pc_k_rfl M) hk1 h⟩
    · simp (disch := omega) only [pj_lit, pj_add, pj_sub, pj_neg, pj_mul, pj_lt, pj_eq, pj_nat, pj_ald, pj_ast, pj_ix, pw_bind, pw_ite, pw_some, pw_none, pw_let, Option.bind_some, Int.toNat_natCast, Sum.elim_inl, Sum.elim_inr, Int.cast_ofNat_Int, Int.reduceLT, Int.reduceLE, Int.reduceEq, Int.reduceAdd, Int.reduceSub, Int.reduceMul, Int.reduceNeg, Int.reduceToNat, Nat.reduceAdd, Nat.reduceSub, Nat.reduceMul, Nat.reduceEqDiff, Nat.reduceLT, reduceIte, reduceCtorEq, true_and, and_true, forall_const, not_true_eq_false, not_false_eq_true, false_implies, implies_true, q]
      exact ⟨s, V, H, at_, pr_R_k (pc_k_rfl M) hk1 h⟩
  · unfold gh_share gm_share
    simp (disch := omega) only [pj_lit, pj_add, pj_sub, pj_neg, pj_mul, pj_lt, pj_eq, pj_nat, pj_ald, pj_ast, pj_ix, pw_bind, pw_ite, pw_some, pw_none, pw_let, Option.bind_some, Int.toNat_natCast, Sum.elim_inl, Sum.elim_inr, Int.cast_ofNat_Int, Int.reduceLT, Int.reduceLE, Int.reduceEq, Int.reduceAdd, Int.reduceSub, Int.reduceMul, Int.reduceNeg, Int.reduceToNat, Nat.reduceAdd, Nat.reduceSub, Nat.reduceMul, Nat.reduceEqDiff, Nat.reduceLT, reduceIte, reduceCtorEq, true_and, and_true, forall_const, not_true_eq_false, not_false_eq_true, false_implies, implies_true, pc_isHouse M hT, pm_isHouse hT hm, decide_eq_false hh, Bool.false_eq_true]
    exact ⟨s, V, H, at_, h⟩
/-- of places on from lo the first with the least -/
def pv_am (f : Nat → Int) (lo : Nat) : Nat → Int
  | 0 => -2
  | k + 1 => if pv_am f lo k < 0 ∨ f (lo + k) < f (pv_am f lo k).toNat then ((lo + k : Nat) : Int) else pv_am f lo k
theorem pv_am_bd (f : Nat → Int) (lo : Nat) : ∀ k, pv_am f lo k = -2 ∨ (lo : Int) ≤ pv_am f lo k ∧ pv_am f lo k < ((lo + k : Nat) : Int)
  | 0 => Or.inl rfl
  | k + 1 => by
    have := pv_am_bd f lo k
    unfold pv_am
    split <;> omega
theorem pq_greyest {T : zt_T} {M : cs_S} {Z : zm_S} {s : Nat} {V : pv_V} {H : List pv_V} {at_ : Nat} (h : pr_R0 T M Z s V H at_) (a : Int32) :
    pw (gh_greyest T M a) (fun p => pw (gm_greyest Z a) (fun q => p = q)) := by
  obtain ⟨hT, hm, ho, hV, hsd, hrow, -⟩ := id h
  have hn := ho.1
  have hl := pv_len ho
  have e5 := hV.2.1
  have e24 := hrow.2.1
  have hS : ∀ k, k < (pv_r V).length → (pv_r V).getD k 0 < 6 ∧ M.2 (10 + 0) 4 k = pj ((pv_r V).getD k 0 : Nat) ∧ Z.2.1 47 (25 + k) = pj ((pv_r V).getD k 0 : Nat) := fun k hk => ⟨by have := ho.2.2.2.1 _ (pv_mem hk); omega, hV.2.2.1 k _ (pv_get hk), hrow.2.2.1 k _ (pv_get hk)⟩
  have hF : ∀ k, k < (pv_r V).length → M.2 (10 + 0) 2 ((pv_r V).getD k 0) = pj (pv_s V ((pv_r V).getD k 0)) ∧ Z.2.1 47 (12 + (pv_r V).getD k 0) = pj (pv_s V ((pv_r V).getD k 0)) ∧ 0 ≤ pv_s V ((pv_r V).getD k 0) ∧ pv_s V ((pv_r V).getD k 0) ≤ 99 := fun k hk => by
    have hx := (hS k hk).1
    have hb := ho.2.1 _ hx
    exact ⟨(hV.1 _ hx).2.2.1, (hrow.1 _ hx).2.2.1, by omega, by omega⟩
  have hC : zs_loop 5000 (gh_greyest_L16 M) (pj (-2), pj 0) = some (pj (pv_am (fun k => pv_s V ((pv_r V).getD k 0)) 0 (pv_r V).length)) := by
    refine pw_forE (pv_r V).length (fun k => (pj (pv_am (fun k => pv_s V ((pv_r V).getD k 0)) 0 k), pj (k : Nat))) 5000 (by omega) ?_ ?_
    · intro k hk
      have hlt : (k : Int) < ((pv_r V).length : Nat) := by omega
      have hb := pv_am_bd (fun k => pv_s V ((pv_r V).getD k 0)) 0 k
      obtain ⟨s1, s2, s3⟩ := hS k hk
      obtain ⟨f1, f2, f3⟩ := hF k hk
      have hstep : pv_am (fun k => pv_s V ((pv_r V).getD k 0)) 0 (k + 1) = if pv_am (fun k => pv_s V ((pv_r V).getD k 0)) 0 k < 0 ∨ pv_s V ((pv_r V).getD (0 + k) 0) < pv_s V ((pv_r V).getD (pv_am (fun k => pv_s V ((pv_r V).getD k 0)) 0 k).toNat 0) then ((0 + k : Nat) : Int) else pv_am (fun k => pv_s V ((pv_r V).getD k 0)) 0 k := rfl
      unfold gh_greyest_L16
      rw [hstep]
      generalize pv_am (fun k => pv_s V ((pv_r V).getD k 0)) 0 k = b at hb
      rw [Nat.zero_add] at *
      by_cases q : b < 0
      · simp (disch := omega) only [pj_lit, pj_add, pj_sub, pj_neg, pj_mul, pj_lt, pj_eq, pj_nat, pj_ald, pj_ast, pj_ix, pw_bind, pw_ite, pw_some, pw_none, pw_let, Option.bind_some, Int.toNat_natCast, Sum.elim_inl, Sum.elim_inr, Int.cast_ofNat_Int, Int.reduceLT, Int.reduceLE, Int.reduceEq, Int.reduceAdd, Int.reduceSub, Int.reduceMul, Int.reduceNeg, Int.reduceToNat, Nat.reduceAdd, Nat.reduceSub, Nat.reduceMul, Nat.reduceEqDiff, Nat.reduceLT, reduceIte, reduceCtorEq, true_and, and_true, forall_const, not_true_eq_false, not_false_eq_true, false_implies, implies_true, e5, hlt, q, true_or]
        rfl
      · obtain ⟨m, rfl⟩ : ∃ m : Nat, b = m := ⟨b.toNat, by omega⟩
        obtain ⟨t1, t2, t3⟩ := hS m (by omega)
        obtain ⟨g1, g2, g3⟩ := hF m (by omega)
        simp (disch := omega) only [pj_lit, pj_add, pj_sub, pj_neg, pj_mul, pj_lt, pj_eq, pj_nat, pj_ald, pj_ast, pj_ix, pw_bind, pw_ite, pw_some, pw_none, pw_let, Option.bind_some, Int.toNat_natCast, Sum.elim_inl, Sum.elim_inr, Int.cast_ofNat_Int, Int.reduceLT, Int.reduceLE, Int.reduceEq, Int.reduceAdd, Int.reduceSub, Int.reduceMul, Int.reduceNeg, Int.reduceToNat, Nat.reduceAdd, Nat.reduceSub, Nat.reduceMul, Nat.reduceEqDiff, Nat.reduceLT, reduceIte, reduceCtorEq, true_and, and_true, forall_const, not_true_eq_false, not_false_eq_true, false_implies, implies_true, e5, hlt, q, false_or, s2, f1, t2, g1]
        split <;> rfl
    · unfold gh_greyest_L16
      simp (disch := omega) only [pj_lit, pj_add, pj_sub, pj_neg, pj_mul, pj_lt, pj_eq, pj_nat, pj_ald, pj_ast, pj_ix, pw_bind, pw_ite, pw_some, pw_none, pw_let, Option.bind_some, Int.toNat_natCast, Sum.elim_inl, Sum.elim_inr, Int.cast_ofNat_Int, Int.reduceLT, Int.reduceLE, Int.reduceEq, Int.reduceAdd, Int.reduceSub, Int.reduceMul, Int.reduceNeg, Int.reduceToNat, Nat.reduceAdd, Nat.reduceSub, Nat.reduceMul, Nat.reduceEqDiff, Nat.reduceLT, reduceIte, reduceCtorEq, true_and, and_true, forall_const, not_true_eq_false, not_false_eq_true, false_implies, implies_true, e5, Int.lt_irrefl]
  have hD : zs_loop 5000 (gm_greyest_L16 Z) (pj (-2), pj 0) = some (pj (pv_am (fun k => pv_s V ((pv_r V).getD k 0)) 0 (pv_r V).length)) := by
    refine pw_forE (pv_r V).length (fun k => (pj (pv_am (fun k => pv_s V ((pv_r V).getD k 0)) 0 k), pj (k : Nat))) 5000 (by omega) ?_ ?_
    · intro k hk
      have hlt : (k : Int) < ((pv_r V).length : Nat) := by omega
      have hb := pv_am_bd (fun k => pv_s V ((pv_r V).getD k 0)) 0 k
      obtain ⟨s1, s2, s3⟩ := hS k hk
      obtain ⟨f1, f2, f3⟩ := hF k hk
      have e25 : (25 : Int) + (k : Int) = ((25 + k : Nat) : Int) := by omega
      have e12 : (12 : Int) + (((pv_r V).getD k 0 : Nat) : Int) = ((12 + (pv_r V).getD k 0 : Nat) : Int) := by omega
      have hstep : pv_am (fun k => pv_s V ((pv_r V).getD k 0)) 0 (k + 1) = if pv_am (fun k => pv_s V ((pv_r V).getD k 0)) 0 k < 0 ∨ pv_s V ((pv_r V).getD (0 + k) 0) < pv_s V ((pv_r V).getD (pv_am (fun k => pv_s V ((pv_r V).getD k 0)) 0 k).toNat 0) then ((0 + k : Nat) : Int) else pv_am (fun k => pv_s V ((pv_r V).getD k 0)) 0 k := rfl
      unfold gm_greyest_L16
      rw [hstep]
      generalize pv_am (fun k => pv_s V ((pv_r V).getD k 0)) 0 k = b at hb
      rw [Nat.zero_add] at *
      by_cases q : b < 0
      · simp (disch := omega) only [pj_lit, pj_add, pj_sub, pj_neg, pj_mul, pj_lt, pj_eq, pj_nat, pj_ald, pj_ast, pj_ix, pw_bind, pw_ite, pw_some, pw_none, pw_let, Option.bind_some, Int.toNat_natCast, Sum.elim_inl, Sum.elim_inr, Int.cast_ofNat_Int, Int.reduceLT, Int.reduceLE, Int.reduceEq, Int.reduceAdd, Int.reduceSub, Int.reduceMul, Int.reduceNeg, Int.reduceToNat, Nat.reduceAdd, Nat.reduceSub, Nat.reduceMul, Nat.reduceEqDiff, Nat.reduceLT, reduceIte, reduceCtorEq, true_and, and_true, forall_const, not_true_eq_false, not_false_eq_true, false_implies, implies_true, e24, hlt, q, true_or]
        rfl
      · obtain ⟨m, rfl⟩ : ∃ m : Nat, b = m := ⟨b.toNat, by omega⟩
        obtain ⟨t1, t2, t3⟩ := hS m (by omega)
        obtain ⟨g1, g2, g3⟩ := hF m (by omega)
        have e25' : (25 : Int) + (m : Int) = ((25 + m : Nat) : Int) := by omega
        have e12' : (12 : Int) + (((pv_r V).getD m 0 : Nat) : Int) = ((12 + (pv_r V).getD m 0 : Nat) : Int) := by omega
        simp (disch := omega) only [pj_lit, pj_add, pj_sub, pj_neg, pj_mul, pj_lt, pj_eq, pj_nat, pj_ald, pj_ast, pj_ix, pw_bind, pw_ite, pw_some, pw_none, pw_let, Option.bind_some, Int.toNat_natCast, Sum.elim_inl, Sum.elim_inr, Int.cast_ofNat_Int, Int.reduceLT, Int.reduceLE, Int.reduceEq, Int.reduceAdd, Int.reduceSub, Int.reduceMul, Int.reduceNeg, Int.reduceToNat, Nat.reduceAdd, Nat.reduceSub, Nat.reduceMul, Nat.reduceEqDiff, Nat.reduceLT, reduceIte, reduceCtorEq, true_and, and_true, forall_const, not_true_eq_false, not_false_eq_true, false_implies, implies_true, e24, hlt, q, false_or, e25, s3, e12, f2, e25', t3, e12', g2]
        split <;> rfl
    · unfold gm_greyest_L16
      simp (disch := omega) only [pj_lit, pj_add, pj_sub, pj_neg, pj_mul, pj_lt, pj_eq, pj_nat, pj_ald, pj_ast, pj_ix, pw_bind, pw_ite, pw_some, pw_none, pw_let, Option.bind_some, Int.toNat_natCast, Sum.elim_inl, Sum.elim_inr, Int.cast_ofNat_Int, Int.reduceLT, Int.reduceLE, Int.reduceEq, Int.reduceAdd, Int.reduceSub, Int.reduceMul, Int.reduceNeg, Int.reduceToNat, Nat.reduceAdd, Nat.reduceSub, Nat.reduceMul, Nat.reduceEqDiff, Nat.reduceLT, reduceIte, reduceCtorEq, true_and, and_true, forall_const, not_true_eq_false, not_false_eq_true, false_implies, implies_true, e24, Int.lt_irrefl]
  have hb := pv_am_bd (fun k => pv_s V ((pv_r V).getD k 0)) 0 (pv_r V).length
  generalize pv_am (fun k => pv_s V ((pv_r V).getD k 0)) 0 (pv_r V).length = b at hb hC hD
  unfold gh_greyest gm_greyest
  by_cases hh : 0 ≤ a.toInt ∧ a.toInt ≤ 1
  · by_cases q : b < 0
    · simp (disch := omega) only [pj_lit, pj_add, pj_sub, pj_neg, pj_mul, pj_lt, pj_eq, pj_nat, pj_ald, pj_ast, pj_ix, pw_bind, pw_ite, pw_some, pw_none, pw_let, Option.bind_some, Int.toNat_natCast, Sum.elim_inl, Sum.elim_inr, Int.cast_ofNat_Int, Int.reduceLT, Int.reduceLE, Int.reduceEq, Int.reduceAdd, Int.reduceSub, Int.reduceMul, Int.reduceNeg, Int.reduceToNat, Nat.reduceAdd, Nat.reduceSub, Nat.reduceMul, Nat.reduceEqDiff, Nat.reduceLT, reduceIte, reduceCtorEq, true_and, and_true, forall_const, not_true_eq_false, not_false_eq_true, false_implies, implies_true, pc_isIn, pm_isIn, decide_eq_true hh, hC, hD, q]
    · obtain ⟨m, rfl⟩ : ∃ m : Nat, b = m := ⟨b.toNat, by omega⟩
      obtain ⟨t1, t2, t3⟩ := hS m (by omega)
      obtain ⟨g1, g2, g3⟩ := hF m (by omega)
      have e25' : (25 : Int) + (m : Int) = ((25 + m : Nat) : Int) := by omega
      have e12' : (12 : Int) + (((pv_r V).getD m 0 : Nat) : Int) = ((12 + (pv_r V).getD m 0 : Nat) : Int) := by omega
      by_cases q2 : a = pj 0
      · subst q2
        simp (disch := omega) only [pj_lit, pj_add, pj_sub, pj_neg, pj_mul, pj_lt, pj_eq, pj_nat, pj_ald, pj_ast, pj_ix, pw_bind, pw_ite, pw_some, pw_none, pw_let, Option.bind_some, Int.toNat_natCast, Sum.elim_inl, Sum.elim_inr, Int.cast_ofNat_Int, Int.reduceLT, Int.reduceLE, Int.reduceEq, Int.reduceAdd, Int.reduceSub, Int.reduceMul, Int.reduceNeg, Int.reduceToNat, Nat.reduceAdd, Nat.reduceSub, Nat.reduceMul, Nat.reduceEqDiff, Nat.reduceLT, reduceIte, reduceCtorEq, true_and, and_true, forall_const, not_true_eq_false, not_false_eq_true, false_implies, implies_true, pc_isIn, pm_isIn, decide_eq_true hh, hC, hD, q]
      · simp (disch := omega) only [pj_lit, pj_add, pj_sub, pj_neg, pj_mul, pj_lt, pj_eq, pj_nat, pj_ald, pj_ast, pj_ix, pw_bind, pw_ite, pw_some, pw_none, pw_let, Option.bind_some, Int.toNat_natCast, Sum.elim_inl, Sum.elim_inr, Int.cast_ofNat_Int, Int.reduceLT, Int.reduceLE, Int.reduceEq, Int.reduceAdd, Int.reduceSub, Int.reduceMul, Int.reduceNeg, Int.reduceToNat, Nat.reduceAdd, Nat.reduceSub, Nat.reduceMul, Nat.reduceEqDiff, Nat.reduceLT, reduceIte, reduceCtorEq, true_and, and_true, forall_const, not_true_eq_false, not_false_eq_true, false_implies, implies_true, pc_isIn, pm_isIn, decide_eq_true hh, hC, hD, q, q2, t2, g1, e25', t3, e12', g2]
  · simp (disch := omega) only [pj_lit, pj_add, pj_sub, pj_neg, pj_mul, pj_lt, pj_eq, pj_nat, pj_ald, pj_ast, pj_ix, pw_bind, pw_ite, pw_some, pw_none, pw_let, Option.bind_some, Int.toNat_natCast, Sum.elim_inl, Sum.elim_inr, Int.cast_ofNat_Int, Int.reduceLT, Int.reduceLE, Int.reduceEq, Int.reduceAdd, Int.reduceSub, Int.reduceMul, Int.reduceNeg, Int.reduceToNat, Nat.reduceAdd, Nat.reduceSub, Nat.reduceMul, Nat.reduceEqDiff, Nat.reduceLT, reduceIte, reduceCtorEq, true_and, and_true, forall_const, not_true_eq_false, not_false_eq_true, false_implies, implies_true, pc_isIn, pm_isIn, decide_eq_false hh, Bool.false_eq_true]
def pv_J (T : zt_T) (V : pv_V) (k : Nat) : Int := pv_joins T V ((pv_r V).getD (k - 1) 0) ((pv_r V).getD k 0) (pt_k T ((pv_r V).getD (k - 1) 0) ((pv_r V).getD k 0))
theorem pv_J_bd {T : zt_T} {V : pv_V} (ht : pt_ok T) (ho : pv_ok (zt_n T) V) {k : Nat} (hk : k < (pv_r V).length) : 0 ≤ pv_J T V k ∧ pv_J T V k ≤ 999 := by
  have h1 := ho.2.2.2.1 _ (pv_mem hk)
  have h2 := ho.2.2.2.1 _ (pv_mem (l := pv_r V) (k := k - 1) (by omega))
  have hn := ho.1
  exact pv_joins_bd T V _ _ (ht.2.2.1 _ _ (by omega) (by omega))
theorem pv_nodup {l : List Nat} (h : l.Nodup) {i j : Nat} (hi : i < l.length) (hj : j < l.length) (hij : i ≠ j) : l.getD i 0 ≠ l.getD j 0 := by
  intro e
  rw [List.getD_eq_getElem?_getD, List.getD_eq_getElem?_getD, List.getElem?_eq_getElem hi, List.getElem?_eq_getElem hj] at e
  exact hij ((List.getElem_inj h).1 e)
theorem pc_joinAt {T : zt_T} {M : cs_S} {V : pv_V} (hT : pt_ok T) (hV : pc_V M 0 V) (ho : pv_ok (zt_n T) V) {k : Nat} (hk : k < (pv_r V).length) (h1 : 1 ≤ k) :
    pw (gh_joinAt T M (pj k)) (fun p => p.1 = pj (pv_J T V k) ∧ pc_e M p.2) := by
  have hn := ho.1
  have hl := pv_len ho
  have e1 : (k : Int) - 1 = ((k - 1 : Nat) : Int) := by omega
  have ex := hV.2.2.1 k _ (pv_get hk)
  have ey := hV.2.2.1 (k - 1) _ (pv_get (by omega))
  have hx := ho.2.2.2.1 _ (pv_mem hk)
  have hy := ho.2.2.2.1 _ (pv_mem (l := pv_r V) (k := k - 1) (by omega))
  have hxy := pv_nodup ho.2.2.1 (show k - 1 < (pv_r V).length by omega) hk (by omega)
  unfold pv_J
  generalize (pv_r V).getD k 0 = x at ex hx hxy
  generalize (pv_r V).getD (k - 1) 0 = y at ey hy hxy
  have h2 : gh_areTwo T M (pj y) (pj x) = some true := by
    rw [pc_two M hT, pj_toInt (by omega), pj_toInt (by omega), decide_eq_true]
    exact ⟨by omega, by omega, fun e => hxy (by have := (pj_eq (by omega) (by omega)).1 e; omega)⟩
  unfold gh_joinAt gh_joins
  simp (disch := omega) only [pj_lit, pj_add, pj_sub, pj_neg, pj_mul, pj_lt, pj_eq, pj_nat, pj_ald, pj_ast, pj_ix, pw_bind, pw_ite, pw_some, pw_none, pw_let, Option.bind_some, Int.toNat_natCast, Sum.elim_inl, Sum.elim_inr, Int.cast_ofNat_Int, Int.reduceLT, Int.reduceLE, Int.reduceEq, Int.reduceAdd, Int.reduceSub, Int.reduceMul, Int.reduceNeg, Int.reduceToNat, Nat.reduceAdd, Nat.reduceSub, Nat.reduceMul, Nat.reduceEqDiff, Nat.reduceLT, reduceIte, reduceCtorEq, true_and, and_true, forall_const, not_true_eq_false, not_false_eq_true, false_implies, implies_true, e1, ex, ey, h2, pt_k_eq]
  exact pc_joins hT hV ho (by omega) hy hx _
def pv_quarrel (T : zt_T) (V : pv_V) (what : Int32) : Int32 := if pv_am (pv_J T V) 1 ((pv_r V).length - 1) < 0 ∨ what = 0 then pj (pv_am (pv_J T V) 1 ((pv_r V).length - 1)) else pj (pv_J T V (pv_am (pv_J T V) 1 ((pv_r V).length - 1)).toNat)
theorem pv_am_step (f : Nat → Int) (lo k : Nat) : pv_am f lo (k + 1) = if pv_am f lo k < 0 ∨ f (lo + k) < f (pv_am f lo k).toNat then ((lo + k : Nat) : Int) else pv_am f lo k := rfl
theorem pc_quarrel {T : zt_T} {M : cs_S} {V : pv_V} (hT : pt_ok T) (hV : pc_V M 0 V) (ho : pv_ok (zt_n T) V) (a : Int32) (hh : 0 ≤ a.toInt ∧ a.toInt ≤ 1) :
    pw (gh_quarrel T M a) (fun p => p.1 = pv_quarrel T V a ∧ pc_k M p.2) := by
  have hn := ho.1
  have hl := pv_len ho
  unfold gh_quarrel
  simp (disch := omega) only [pj_lit, pj_add, pj_sub, pj_neg, pj_mul, pj_lt, pj_eq, pj_nat, pj_ald, pj_ast, pj_ix, pw_bind, pw_ite, pw_some, pw_none, pw_let, Option.bind_some, Int.toNat_natCast, Sum.elim_inl, Sum.elim_inr, Int.cast_ofNat_Int, Int.reduceLT, Int.reduceLE, Int.reduceEq, Int.reduceAdd, Int.reduceSub, Int.reduceMul, Int.reduceNeg, Int.reduceToNat, Nat.reduceAdd, Nat.reduceSub, Nat.reduceMul, Nat.reduceEqDiff, Nat.reduceLT, reduceIte, reduceCtorEq, true_and, and_true, forall_const, not_true_eq_false, not_false_eq_true, false_implies, implies_true, pc_isIn, decide_eq_true hh]
  refine pw_mono (Q := fun p => p.1 = pj (pv_am (pv_J T V) 1 ((pv_r V).length - 1)) ∧ pc_e M p.2) ?_ ?_
  · refine pw_for ((pv_r V).length - 1) (fun k t => ∃ M', t = (pj (pv_am (pv_J T V) 1 k), pj ((1 + k : Nat) : Int), M') ∧ pc_e M M') 5000 (by omega) ?_ ?_ _ ⟨M, rfl, pc_e_rfl M⟩
    · rintro k t hk ⟨M', rfl, h1⟩
      have hV' := pc_V_e (by omega) h1 hV
      have e5 := hV'.2.1
      have hlt : ((1 + k : Nat) : Int) < ((pv_r V).length : Nat) := by omega
      have hb := pv_am_bd (pv_J T V) 1 k
      have hj1 := pv_J_bd hT ho (k := 1 + k) (by omega)
      rw [pv_am_step]
      unfold gh_quarrel_L16
      generalize pv_am (pv_J T V) 1 k = b at hb
      by_cases q : b < 0
      · simp (disch := omega) only [pj_lit, pj_add, pj_sub, pj_neg, pj_mul, pj_lt, pj_eq, pj_nat, pj_ald, pj_ast, pj_ix, pw_bind, pw_ite, pw_some, pw_none, pw_let, Option.bind_some, Int.toNat_natCast, Sum.elim_inl, Sum.elim_inr, Int.cast_ofNat_Int, Int.reduceLT, Int.reduceLE, Int.reduceEq, Int.reduceAdd, Int.reduceSub, Int.reduceMul, Int.reduceNeg, Int.reduceToNat, Nat.reduceAdd, Nat.reduceSub, Nat.reduceMul, Nat.reduceEqDiff, Nat.reduceLT, reduceIte, reduceCtorEq, true_and, and_true, forall_const, not_true_eq_false, not_false_eq_true, false_implies, implies_true, e5, hlt, q, true_or]
        exact ⟨M', by congr 2, h1⟩
      · obtain ⟨m, rfl⟩ : ∃ m : Nat, b = m := ⟨b.toNat, by omega⟩
        have hj2 := pv_J_bd hT ho (k := m) (by omega)
        simp (disch := omega) only [pj_lit, pj_add, pj_sub, pj_neg, pj_mul, pj_lt, pj_eq, pj_nat, pj_ald, pj_ast, pj_ix, pw_bind, pw_ite, pw_some, pw_none, pw_let, Option.bind_some, Int.toNat_natCast, Sum.elim_inl, Sum.elim_inr, Int.cast_ofNat_Int, Int.reduceLT, Int.reduceLE, Int.reduceEq, Int.reduceAdd, Int.reduceSub, Int.reduceMul, Int.reduceNeg, Int.reduceToNat, Nat.reduceAdd, Nat.reduceSub, Nat.reduceMul, Nat.reduceEqDiff, Nat.reduceLT, reduceIte, reduceCtorEq, true_and, and_true, forall_const, not_true_eq_false, not_false_eq_true, false_implies, implies_true, e5, hlt, q, false_or]
        refine pw_mono (pc_joinAt hT hV' ho (k := 1 + k) (by omega) (by omega)) (fun p hp => ?_)
        have h2 := pc_e_trans h1 hp.2
        refine pw_mono (pc_joinAt hT (pc_V_e (by omega) h2 hV) ho (k := m) (by omega) (by omega)) (fun p2 hp2 => ?_)
        simp (disch := omega) only [pj_lit, pj_add, pj_sub, pj_neg, pj_mul, pj_lt, pj_eq, pj_nat, pj_ald, pj_ast, pj_ix, pw_bind, pw_ite, pw_some, pw_none, pw_let, Option.bind_some, Int.toNat_natCast, Sum.elim_inl, Sum.elim_inr, Int.cast_ofNat_Int, Int.reduceLT, Int.reduceLE, Int.reduceEq, Int.reduceAdd, Int.reduceSub, Int.reduceMul, Int.reduceNeg, Int.reduceToNat, Nat.reduceAdd, Nat.reduceSub, Nat.reduceMul, Nat.reduceEqDiff, Nat.reduceLT, reduceIte, reduceCtorEq, true_and, and_true, forall_const, not_true_eq_false, not_false_eq_true, false_implies, implies_true, hp.1, hp2.1]
        refine ⟨fun z => ⟨p2.2, ?_, pc_e_trans h2 hp2.2⟩, fun z => ⟨p2.2, ?_, pc_e_trans h2 hp2.2⟩⟩
        · rw [if_pos z]; congr 2
        · rw [if_neg z]; congr 2
    · rintro t ⟨M', rfl, h1⟩
      have e5 := (pc_V_e (by omega) h1 hV).2.1
      have hlt : ¬ ((1 + ((pv_r V).length - 1) : Nat) : Int) < ((pv_r V).length : Nat) := by omega
      unfold gh_quarrel_L16
      simp (disch := omega) only [pj_lit, pj_add, pj_sub, pj_neg, pj_mul, pj_lt, pj_eq, pj_nat, pj_ald, pj_ast, pj_ix, pw_bind, pw_ite, pw_some, pw_none, pw_let, Option.bind_some, Int.toNat_natCast, Sum.elim_inl, Sum.elim_inr, Int.cast_ofNat_Int, Int.reduceLT, Int.reduceLE, Int.reduceEq, Int.reduceAdd, Int.reduceSub, Int.reduceMul, Int.reduceNeg, Int.reduceToNat, Nat.reduceAdd, Nat.reduceSub, Nat.reduceMul, Nat.reduceEqDiff, Nat.reduceLT, reduceIte, reduceCtorEq, true_and, and_true, forall_const, not_true_eq_false, not_false_eq_true, false_implies, implies_true, e5, hlt]
      exact h1
  · rintro ⟨x, M1⟩ ⟨h1, h2⟩
    subst h1
    have hb := pv_am_bd (pv_J T V) 1 ((pv_r V).length - 1)
    have hk := pc_e_k h2
    unfold pv_quarrel
    generalize pv_am (pv_J T V) 1 ((pv_r V).length - 1) = b at hb
    simp (disch := omega) only [pj_lit, pj_add, pj_sub, pj_neg, pj_mul, pj_lt, pj_eq, pj_nat, pj_ald, pj_ast, pj_ix, pw_bind, pw_ite, pw_some, pw_none, pw_let, Option.bind_some, Int.toNat_natCast, Sum.elim_inl, Sum.elim_inr, Int.cast_ofNat_Int, Int.reduceLT, Int.reduceLE, Int.reduceEq, Int.reduceAdd, Int.reduceSub, Int.reduceMul, Int.reduceNeg, Int.reduceToNat, Nat.reduceAdd, Nat.reduceSub, Nat.reduceMul, Nat.reduceEqDiff, Nat.reduceLT, reduceIte, reduceCtorEq, true_and, and_true, forall_const, not_true_eq_false, not_false_eq_true, false_implies, implies_true]
    refine ⟨fun q => ⟨by rw [if_pos (Or.inl q)], hk⟩, fun q => ⟨fun q2 => ⟨by rw [if_pos (Or.inr q2)], hk⟩, fun q2 => ?_⟩⟩
    obtain ⟨m, rfl⟩ : ∃ m : Nat, b = m := ⟨b.toNat, by omega⟩
    rw [if_neg (by rintro (z | z); exact q z; exact q2 z), Int.toNat_natCast]
    exact pw_mono (pc_joinAt hT (pc_V_e (by omega) h2 hV) ho (k := m) (by omega) (by omega)) (fun p hp => ⟨hp.1, pc_k_trans hk (pc_e_k hp.2)⟩)
theorem pm_quarrel {T : zt_T} {s : Nat} {Z : zm_S} {V : pv_V} (hT : pt_ok T) (hm : pm_T T s Z) (ho : pv_ok (zt_n T) V) (hrow : pv_row (Z.2.1 47) V) (a : Int32) (hh : 0 ≤ a.toInt ∧ a.toInt ≤ 1) :
    pw (gm_quarrel Z a) (fun p => p.1 = pv_quarrel T V a ∧ pm_k Z p.2) := by
  have hn := ho.1
  have hl := pv_len ho
  obtain ⟨Z1, eZ, hc⟩ := pm_copies hm ho hrow
  have hk1 := pm_c_k hc
  obtain ⟨hm1, hr1, -⟩ := hc
  unfold gm_quarrel
  simp (disch := omega) only [pj_lit, pj_add, pj_sub, pj_neg, pj_mul, pj_lt, pj_eq, pj_nat, pj_ald, pj_ast, pj_ix, pw_bind, pw_ite, pw_some, pw_none, pw_let, Option.bind_some, Int.toNat_natCast, Sum.elim_inl, Sum.elim_inr, Int.cast_ofNat_Int, Int.reduceLT, Int.reduceLE, Int.reduceEq, Int.reduceAdd, Int.reduceSub, Int.reduceMul, Int.reduceNeg, Int.reduceToNat, Nat.reduceAdd, Nat.reduceSub, Nat.reduceMul, Nat.reduceEqDiff, Nat.reduceLT, reduceIte, reduceCtorEq, true_and, and_true, forall_const, not_true_eq_false, not_false_eq_true, false_implies, implies_true, pm_isIn, decide_eq_true hh, eZ]
  refine pw_mono (Q := fun p : Int32 × Int32 × zm_S => p.1 = pj (pv_am (pv_J T V) 1 ((pv_r V).length - 1)) ∧ p.2.1 = pj (if pv_am (pv_J T V) 1 ((pv_r V).length - 1) < 0 then -2 else pv_J T V (pv_am (pv_J T V) 1 ((pv_r V).length - 1)).toNat) ∧ pm_e Z1 p.2.2) ?_ ?_
  · refine pw_for ((pv_r V).length - 1) (fun k t => ∃ Z', t = (pj (pv_am (pv_J T V) 1 k), pj (if pv_am (pv_J T V) 1 k < 0 then -2 else pv_J T V (pv_am (pv_J T V) 1 k).toNat), pj ((1 + k : Nat) : Int), Z') ∧ pm_e Z1 Z') 5000 (by omega) ?_ ?_ _ ⟨Z1, rfl, pm_e_rfl Z1⟩
    · rintro k t hk ⟨Z', rfl, h1⟩
      have hr' := pm_row_e h1 hr1
      have e24 := hr'.2.1
      have hlt : ((1 + k : Nat) : Int) < ((pv_r V).length : Nat) := by omega
      have hb := pv_am_bd (pv_J T V) 1 k
      have hj1 := pv_J_bd hT ho (k := 1 + k) (by omega)
      have ex := hr'.2.2.1 (1 + k) _ (pv_get (by omega))
      have ey := hr'.2.2.1 k _ (pv_get (by omega))
      have hx := ho.2.2.2.1 _ (pv_mem (l := pv_r V) (k := 1 + k) (by omega))
      have hy := ho.2.2.2.1 _ (pv_mem (l := pv_r V) (k := k) (by omega))
      have hJ : pv_J T V (1 + k) = pv_joins T V ((pv_r V).getD k 0) ((pv_r V).getD (1 + k) 0) (pt_k T ((pv_r V).getD k 0) ((pv_r V).getD (1 + k) 0)) := by
        unfold pv_J
        rw [show 1 + k - 1 = k by omega]
      have e1 : (24 : Int) + ((1 + k : Nat) : Int) = ((25 + k : Nat) : Int) := by omega
      have e2 : (25 : Int) + ((1 + k : Nat) : Int) = ((25 + (1 + k) : Nat) : Int) := by omega
      rw [pv_am_step]
      unfold gm_quarrel_L24
      generalize (pv_r V).getD (1 + k) 0 = x at ex hx hJ
      generalize (pv_r V).getD k 0 = y at ey hy hJ
      generalize pv_am (pv_J T V) 1 k = b at hb
      simp (disch := omega) only [pj_lit, pj_add, pj_sub, pj_neg, pj_mul, pj_lt, pj_eq, pj_nat, pj_ald, pj_ast, pj_ix, pw_bind, pw_ite, pw_some, pw_none, pw_let, Option.bind_some, Int.toNat_natCast, Sum.elim_inl, Sum.elim_inr, Int.cast_ofNat_Int, Int.reduceLT, Int.reduceLE, Int.reduceEq, Int.reduceAdd, Int.reduceSub, Int.reduceMul, Int.reduceNeg, Int.reduceToNat, Nat.reduceAdd, Nat.reduceSub, Nat.reduceMul, Nat.reduceEqDiff, Nat.reduceLT, reduceIte, reduceCtorEq, true_and, and_true, forall_const, not_true_eq_false, not_false_eq_true, false_implies, implies_true, e24, hlt, e1, e2, ex, ey]
      refine pw_mono (pm_joins hT (pm_T_e h1 hm1) hr' ho hy hx) (fun p hp => ?_)
      rw [← hJ] at hp
      have h2 := pm_e_trans h1 hp.2
      have hge : ¬ (((1 + k : Nat) : Int) < 0) := by omega
      by_cases q : b < 0
      · simp (disch := omega) only [pj_lit, pj_add, pj_sub, pj_neg, pj_mul, pj_lt, pj_eq, pj_nat, pj_ald, pj_ast, pj_ix, pw_bind, pw_ite, pw_some, pw_none, pw_let, Option.bind_some, Int.toNat_natCast, Sum.elim_inl, Sum.elim_inr, Int.cast_ofNat_Int, Int.reduceLT, Int.reduceLE, Int.reduceEq, Int.reduceAdd, Int.reduceSub, Int.reduceMul, Int.reduceNeg, Int.reduceToNat, Nat.reduceAdd, Nat.reduceSub, Nat.reduceMul, Nat.reduceEqDiff, Nat.reduceLT, reduceIte, reduceCtorEq, true_and, and_true, forall_const, not_true_eq_false, not_false_eq_true, false_implies, implies_true, hp.1, q, true_or]
        exact ⟨p.2, by congr 3, h2⟩
      · obtain ⟨m, rfl⟩ : ∃ m : Nat, b = m := ⟨b.toNat, by omega⟩
        have hj2 := pv_J_bd hT ho (k := m) (by omega)
        simp (disch := omega) only [pj_lit, pj_add, pj_sub, pj_neg, pj_mul, pj_lt, pj_eq, pj_nat, pj_ald, pj_ast, pj_ix, pw_bind, pw_ite, pw_some, pw_none, pw_let, Option.bind_some, Int.toNat_natCast, Sum.elim_inl, Sum.elim_inr, Int.cast_ofNat_Int, Int.reduceLT, Int.reduceLE, Int.reduceEq, Int.reduceAdd, Int.reduceSub, Int.reduceMul, Int.reduceNeg, Int.reduceToNat, Nat.reduceAdd, Nat.reduceSub, Nat.reduceMul, Nat.reduceEqDiff, Nat.reduceLT, reduceIte, reduceCtorEq, true_and, and_true, forall_const, not_true_eq_false, not_false_eq_true, false_implies, implies_true, hp.1, q, false_or]
        refine ⟨fun z => ⟨p.2, ?_, h2⟩, fun z => ⟨p.2, ?_, h2⟩⟩
        · simp only [if_pos z, if_neg hge, Int.toNat_natCast]; congr 3
        · simp only [if_neg z, if_neg q, Int.toNat_natCast]; congr 3
    · rintro t ⟨Z', rfl, h1⟩
      have e24 := (pm_row_e h1 hr1).2.1
      have hlt : ¬ ((1 + ((pv_r V).length - 1) : Nat) : Int) < ((pv_r V).length : Nat) := by omega
      unfold gm_quarrel_L24
      simp (disch := omega) only [pj_lit, pj_add, pj_sub, pj_neg, pj_mul, pj_lt, pj_eq, pj_nat, pj_ald, pj_ast, pj_ix, pw_bind, pw_ite, pw_some, pw_none, pw_let, Option.bind_some, Int.toNat_natCast, Sum.elim_inl, Sum.elim_inr, Int.cast_ofNat_Int, Int.reduceLT, Int.reduceLE, Int.reduceEq, Int.reduceAdd, Int.reduceSub, Int.reduceMul, Int.reduceNeg, Int.reduceToNat, Nat.reduceAdd, Nat.reduceSub, Nat.reduceMul, Nat.reduceEqDiff, Nat.reduceLT, reduceIte, reduceCtorEq, true_and, and_true, forall_const, not_true_eq_false, not_false_eq_true, false_implies, implies_true, e24, hlt]
      exact h1
  · rintro ⟨x, y, Z2⟩ ⟨h1, h2, h3⟩
    dsimp only at h1 h2 h3
    subst h1 h2
    have hb := pv_am_bd (pv_J T V) 1 ((pv_r V).length - 1)
    have hk := pm_k_trans hk1 (pm_e_k h3)
    unfold pv_quarrel
    generalize pv_am (pv_J T V) 1 ((pv_r V).length - 1) = b at hb
    simp (disch := omega) only [pj_lit, pj_add, pj_sub, pj_neg, pj_mul, pj_lt, pj_eq, pj_nat, pj_ald, pj_ast, pj_ix, pw_bind, pw_ite, pw_some, pw_none, pw_let, Option.bind_some, Int.toNat_natCast, Sum.elim_inl, Sum.elim_inr, Int.cast_ofNat_Int, Int.reduceLT, Int.reduceLE, Int.reduceEq, Int.reduceAdd, Int.reduceSub, Int.reduceMul, Int.reduceNeg, Int.reduceToNat, Nat.reduceAdd, Nat.reduceSub, Nat.reduceMul, Nat.reduceEqDiff, Nat.reduceLT, reduceIte, reduceCtorEq, true_and, and_true, forall_const, not_true_eq_false, not_false_eq_true, false_implies, implies_true]
    refine ⟨fun q => ⟨by rw [if_pos (Or.inr q)], hk⟩, fun q => ⟨?_, hk⟩⟩
    by_cases q2 : b < 0
    · rw [if_pos q2, if_pos (Or.inl q2)]
      rcases hb with rfl | hb
      · rfl
      · omega
    · rw [if_neg q2, if_neg (by rintro (z | z); exact q2 z; exact q z)]
theorem pq_quarrel {T : zt_T} {M : cs_S} {Z : zm_S} {s : Nat} {V : pv_V} {H : List pv_V} {at_ : Nat} (h : pr_R0 T M Z s V H at_) (a : Int32) :
    pw (gh_quarrel T M a) (fun p => pw (gm_quarrel Z a) (fun q => p.1 = q.1 ∧ pr_R T p.2 q.2)) := by
  obtain ⟨hT, hm, ho, hV, hsd, hrow, -⟩ := id h
  by_cases hh : 0 ≤ a.toInt ∧ a.toInt ≤ 1
  · exact pr_q h _ (pc_quarrel hT hV ho a hh) (pm_quarrel hT hm ho hrow a hh)
  · unfold gh_quarrel gm_quarrel
    simp (disch := omega) only [pj_lit, pj_add, pj_sub, pj_neg, pj_mul, pj_lt, pj_eq, pj_nat, pj_ald, pj_ast, pj_ix, pw_bind, pw_ite, pw_some, pw_none, pw_let, Option.bind_some, Int.toNat_natCast, Sum.elim_inl, Sum.elim_inr, Int.cast_ofNat_Int, Int.reduceLT, Int.reduceLE, Int.reduceEq, Int.reduceAdd, Int.reduceSub, Int.reduceMul, Int.reduceNeg, Int.reduceToNat, Nat.reduceAdd, Nat.reduceSub, Nat.reduceMul, Nat.reduceEqDiff, Nat.reduceLT, reduceIte, reduceCtorEq, true_and, and_true, forall_const, not_true_eq_false, not_false_eq_true, false_implies, implies_true, pc_isIn, pm_isIn, decide_eq_false hh, Bool.false_eq_true]
    exact ⟨s, V, H, at_, h⟩
/-! two plaits swapped -/
def pv_swl (l : List Nat) (i j : Nat) : List Nat := (l.set i (l.getD j 0)).set j (l.getD i 0)
def pv_sw (V : pv_V) (i j : Nat) : pv_V := (pv_h V, pv_p V, pv_s V, pv_g V, pv_swl (pv_r V) i j, pv_y V, pv_d V)
theorem pv_swl_get (l : List Nat) {i j : Nat} (hi : i < l.length) (hj : j < l.length) (k : Nat) : (pv_swl l i j)[k]? = if k = j then some (l.getD i 0) else if k = i then some (l.getD j 0) else l[k]? := by
  unfold pv_swl
  rw [List.getElem?_set, List.getElem?_set, List.length_set]
  by_cases h1 : j = k
  · subst h1; rw [if_pos rfl, if_pos rfl, if_pos hj]
  · rw [if_neg h1, if_neg (show ¬ k = j from fun e => h1 e.symm)]
    by_cases h2 : i = k
    · subst h2; rw [if_pos rfl, if_pos hi, if_pos rfl]
    · rw [if_neg h2, if_neg (show ¬ k = i from fun e => h2 e.symm)]
theorem pv_swl_len (l : List Nat) (i j : Nat) : (pv_swl l i j).length = l.length := by unfold pv_swl; rw [List.length_set, List.length_set]
theorem pv_swl_mem (l : List Nat) {i j : Nat} (hi : i < l.length) (hj : j < l.length) (x : Nat) : x ∈ pv_swl l i j ↔ x ∈ l := by
  rw [List.mem_iff_getElem?, List.mem_iff_getElem?]
  constructor
  · rintro ⟨k, hk⟩
    rw [pv_swl_get l hi hj] at hk
    split at hk
    · exact ⟨i, by rw [pv_get hi]; exact hk⟩
    · split at hk
      · exact ⟨j, by rw [pv_get hj]; exact hk⟩
      · exact ⟨k, hk⟩
  · rintro ⟨k, hk⟩
    by_cases h1 : k = i
    · refine ⟨j, ?_⟩
      rw [pv_swl_get l hi hj, if_pos rfl, ← hk, h1, pv_get hi]
    · by_cases h2 : k = j
      · refine ⟨i, ?_⟩
        rw [pv_swl_get l hi hj, if_neg (by omega), if_pos rfl, ← hk, h2, pv_get hj]
      · exact ⟨k, by rw [pv_swl_get l hi hj, if_neg h2, if_neg h1]; exact hk⟩
theorem pv_swl_nodup {l : List Nat} (h : l.Nodup) {i j : Nat} (hi : i < l.length) (hj : j < l.length) (hij : i ≠ j) : (pv_swl l i j).Nodup := by
  have key : ∀ a b, a < l.length → b < l.length → a ≠ b → (pv_swl l i j)[a]? ≠ (pv_swl l i j)[b]? := by
    intro a b ha hb hab e
    have gg : ∀ c, c < l.length → l[c]? = some (l.getD c 0) := fun c hc => pv_get hc
    have inj : ∀ c d, c < l.length → d < l.length → l.getD c 0 = l.getD d 0 → c = d := fun c d hc hd e => by
      by_cases q : c = d
      · exact q
      · exact absurd e (pv_nodup h hc hd q)
    rw [pv_swl_get l hi hj, pv_swl_get l hi hj, gg a ha, gg b hb] at e
    repeat' split at e
    all_goals (injection e with e; first | omega | (have := inj _ _ (by omega) (by omega) e; omega))
  unfold List.Nodup
  rw [List.pairwise_iff_getElem]
  intro a b ha hb hab e
  rw [pv_swl_len] at ha hb
  apply key a b ha hb (by omega)
  rw [List.getElem?_eq_getElem (by rw [pv_swl_len]; exact ha), List.getElem?_eq_getElem (by rw [pv_swl_len]; exact hb), e]
theorem pv_sw_ok {n : Nat} {V : pv_V} (ho : pv_ok n V) {i j : Nat} (hi : i < (pv_r V).length) (hj : j < (pv_r V).length) (hij : i ≠ j) : pv_ok n (pv_sw V i j) := by
  refine ⟨ho.1, fun h hh => ?_, pv_swl_nodup ho.2.2.1 hi hj hij, fun h hh => ?_, ho.2.2.2.2⟩
  · have := ho.2.1 h hh
    refine ⟨this.1, this.2.1, this.2.2.1, this.2.2.2.1, this.2.2.2.2.1, this.2.2.2.2.2.1, ?_⟩
    show 0 < pv_p V h ↔ h ∈ pv_swl (pv_r V) i j
    rw [pv_swl_mem _ hi hj]
    exact this.2.2.2.2.2.2
  · exact ho.2.2.2.1 h ((pv_swl_mem _ hi hj h).1 hh)
theorem pc_sw {n : Nat} {M : cs_S} {i j v : Nat} {V : pv_V} (ho : pv_ok n V) (hV : pc_V M v V) (hi : i < (pv_r V).length) (hj : j < (pv_r V).length) :
    pc_V (cs_sA (cs_sA M (10 + v) 4 (pj i) (pj ((pv_r V).getD j 0 : Nat))) (10 + v) 4 (pj j) (pj ((pv_r V).getD i 0 : Nat))) v (pv_sw V i j) := by
  have hl := pv_len ho
  have hn := ho.1
  obtain ⟨g1, g2, g3, g4, g5⟩ := hV
  refine ⟨fun h hh => ?_, ?_, fun k x e => ?_, g4, g5⟩
  · rw [pc_sA2n (by omega), pc_sA2n (by omega), pc_sA2n (by omega), pc_sA2n (by omega), pc_sA2n (by omega), pc_sA2n (by omega), pc_sA2n (by omega), pc_sA2n (by omega)]
    exact g1 h hh
  · show M.1 (10 + v) 5 = pj ((pv_swl (pv_r V) i j).length : Nat)
    rw [pv_swl_len]; exact g2
  · rw [show pv_r (pv_sw V i j) = pv_swl (pv_r V) i j from rfl, pv_swl_get _ hi hj] at e
    rw [pc_sA2s, pj_upd, pj_nat (by omega), Int.toNat_natCast]
    by_cases h1 : k = j
    · rw [if_pos h1] at e ⊢; injection e with e; rw [e]
    · rw [if_neg h1] at e ⊢
      rw [pc_sA2s, pj_upd, pj_nat (by omega), Int.toNat_natCast]
      by_cases h2 : k = i
      · rw [if_pos h2] at e ⊢; injection e with e; rw [e]
      · rw [if_neg h2] at e ⊢; exact g3 k x e
theorem pm_sw {n : Nat} {Z : zm_S} {i j : Nat} {V : pv_V} (ho : pv_ok n V) (hV : pv_row (Z.2.1 48) V) (hi : i < (pv_r V).length) (hj : j < (pv_r V).length) :
    pv_row ((zm_sA (zm_sA Z 48 (pj ((25 + i : Nat) : Int)) (pj ((pv_r V).getD j 0 : Nat))) 48 (pj ((25 + j : Nat) : Int)) (pj ((pv_r V).getD i 0 : Nat))).2.1 48) (pv_sw V i j) := by
  have hl := pv_len ho
  have hn := ho.1
  obtain ⟨g1, g2, g3, g4, g5⟩ := hV
  have cell : ∀ y, (zm_sA (zm_sA Z 48 (pj ((25 + i : Nat) : Int)) (pj ((pv_r V).getD j 0 : Nat))) 48 (pj ((25 + j : Nat) : Int)) (pj ((pv_r V).getD i 0 : Nat))).2.1 48 y = if y = 25 + j then pj ((pv_r V).getD i 0 : Nat) else if y = 25 + i then pj ((pv_r V).getD j 0 : Nat) else Z.2.1 48 y := by
    intro y
    rw [pm_sAs, pj_upd, pj_nat (by omega), Int.toNat_natCast, pm_sAs, pj_upd, pj_nat (by omega), Int.toNat_natCast]
  refine ⟨fun h hh => ?_, ?_, fun k x e => ?_, ?_, ?_⟩
  · rw [cell, cell, cell, cell, if_neg (by omega), if_neg (by omega), if_neg (by omega), if_neg (by omega), if_neg (by omega), if_neg (by omega), if_neg (by omega), if_neg (by omega)]
    exact g1 h hh
  · rw [cell, if_neg (by omega), if_neg (by omega)]
    show _ = pj ((pv_swl (pv_r V) i j).length : Nat)
    rw [pv_swl_len]; exact g2
  · rw [show pv_r (pv_sw V i j) = pv_swl (pv_r V) i j from rfl, pv_swl_get _ hi hj] at e
    rw [cell]
    by_cases h1 : k = j
    · rw [if_pos h1] at e; rw [if_pos (by omega)]; injection e with e; rw [e]
    · rw [if_neg h1] at e; rw [if_neg (by omega)]
      by_cases h2 : k = i
      · rw [if_pos h2] at e; rw [if_pos (by omega)]; injection e with e; rw [e]
      · rw [if_neg h2] at e; rw [if_neg (by omega)]; exact g3 k x e
  · rw [cell, if_neg (by omega), if_neg (by omega)]; exact g4
  · rw [cell, if_neg (by omega), if_neg (by omega)]; exact g5
def pv_swj (T : zt_T) (V : pv_V) (i : Nat) (st : Int × Int) : Nat → Int × Int
  | 0 => st
  | k + 1 => if (pv_swj T V i st k).2 < pv_most T (pv_sw V i (i + 1 + k)) then (((10 * i + (i + 1 + k) : Nat) : Int), pv_most T (pv_sw V i (i + 1 + k))) else pv_swj T V i st k
def pv_swo (T : zt_T) (V : pv_V) : Nat → Int × Int
  | 0 => (-2, pv_most T V)
  | i + 1 => pv_swj T V i (pv_swo T V i) ((pv_r V).length - (i + 1))
theorem pv_swj_bd {T : zt_T} {V : pv_V} (ht : pt_ok T) (ho : pv_ok (zt_n T) V) (i : Nat) (st : Int × Int) (hs : -2 ≤ st.2 ∧ st.2 ≤ 999) : ∀ k, i + k < (pv_r V).length → -2 ≤ (pv_swj T V i st k).2 ∧ (pv_swj T V i st k).2 ≤ 999
  | 0, _ => hs
  | k + 1, hk => by
    have h1 := pv_swj_bd ht ho i st hs k (by omega)
    have h2 := pv_most_bd ht (pv_sw_ok ho (i := i) (j := i + 1 + k) (by omega) (by omega) (by omega))
    unfold pv_swj
    split
    · exact h2.2
    · exact h1
theorem pv_swo_bd {T : zt_T} {V : pv_V} (ht : pt_ok T) (ho : pv_ok (zt_n T) V) : ∀ i, i ≤ (pv_r V).length → -2 ≤ (pv_swo T V i).2 ∧ (pv_swo T V i).2 ≤ 999
  | 0, _ => (pv_most_bd ht ho).2
  | i + 1, hi => pv_swj_bd ht ho i _ (pv_swo_bd ht ho i (by omega)) _ (by omega)
theorem pc_swap {T : zt_T} {M : cs_S} {V : pv_V} (hT : pt_ok T) (hV : pc_V M 0 V) (ho : pv_ok (zt_n T) V) :
    pw (gh_swap T M) (fun p => p.1 = pj (pv_swo T V (pv_r V).length).1 ∧ pc_k M p.2) := by
  have hn := ho.1
  have hl := pv_len ho
  unfold gh_swap gh_most
  simp (disch := omega) only [pj_lit, pj_add, pj_sub, pj_neg, pj_mul, pj_lt, pj_eq, pj_nat, pj_ald, pj_ast, pj_ix, pw_bind, pw_ite, pw_some, pw_none, pw_let, Option.bind_some, Int.toNat_natCast, Sum.elim_inl, Sum.elim_inr, Int.cast_ofNat_Int, Int.reduceLT, Int.reduceLE, Int.reduceEq, Int.reduceAdd, Int.reduceSub, Int.reduceMul, Int.reduceNeg, Int.reduceToNat, Nat.reduceAdd, Nat.reduceSub, Nat.reduceMul, Nat.reduceEqDiff, Nat.reduceLT, reduceIte, reduceCtorEq, true_and, and_true, forall_const, not_true_eq_false, not_false_eq_true, false_implies, implies_true]
  refine pw_mono (pc_most hT hV ho (by omega)) (fun p hp => ?_)
  rw [hp.1]
  have hM0 : pc_w 1 M p.2 := pc_x_w 1 (pc_e_x hp.2)
  generalize p.2 = M0 at hM0
  refine pw_for (pv_r V).length (fun i t => ∃ M', t = (pj (pv_swo T V i).1, pj (pv_swo T V i).2, pj (i : Nat), M') ∧ pc_w 1 M M') 5000 (by omega) ?_ ?_ _ ⟨M0, rfl, hM0⟩
  · rintro i t hi ⟨M1, rfl, h1⟩
    have hV1 := pc_V_w (by omega) (by omega) h1 hV
    have e5 := hV1.2.1
    have hlt : (i : Int) < ((pv_r V).length : Nat) := by omega
    have hsb := pv_swo_bd hT ho i (by omega)
    unfold gh_swap_L10
    simp (disch := omega) only [pj_lit, pj_add, pj_sub, pj_neg, pj_mul, pj_lt, pj_eq, pj_nat, pj_ald, pj_ast, pj_ix, pw_bind, pw_ite, pw_some, pw_none, pw_let, Option.bind_some, Int.toNat_natCast, Sum.elim_inl, Sum.elim_inr, Int.cast_ofNat_Int, Int.reduceLT, Int.reduceLE, Int.reduceEq, Int.reduceAdd, Int.reduceSub, Int.reduceMul, Int.reduceNeg, Int.reduceToNat, Nat.reduceAdd, Nat.reduceSub, Nat.reduceMul, Nat.reduceEqDiff, Nat.reduceLT, reduceIte, reduceCtorEq, true_and, and_true, forall_const, not_true_eq_false, not_false_eq_true, false_implies, implies_true, e5, hlt]
    refine pw_mono (Q := fun r : Int32 × Int32 × cs_S => ∃ M', r = (pj (pv_swo T V (i + 1)).1, pj (pv_swo T V (i + 1)).2, M') ∧ pc_w 1 M M') ?_ ?_
    · refine pw_for ((pv_r V).length - (i + 1)) (fun k t => ∃ M', t = (pj (pv_swj T V i (pv_swo T V i) k).1, pj (pv_swj T V i (pv_swo T V i) k).2, pj ((i + 1 + k : Nat) : Int), M') ∧ pc_w 1 M M') 5000 (by omega) ?_ ?_ _ ⟨M1, rfl, h1⟩
      · rintro k t hk ⟨M2, rfl, h2⟩
        have hj : i + 1 + k < (pv_r V).length := by omega
        have hV2 := pc_V_w (by omega) (by omega) h2 hV
        have e5' := hV2.2.1
        have hlt' : ((i + 1 + k : Nat) : Int) < ((pv_r V).length : Nat) := by omega
        have hb2 := pv_swj_bd hT ho i (pv_swo T V i) hsb k (by omega)
        have hos := pv_sw_ok ho (i := i) (j := i + 1 + k) (by omega) (by omega) (by omega)
        have hmb := pv_most_bd hT hos
        obtain ⟨M3, eM3, v3, -, o3⟩ := pc_becomes T (i := 1) (v := 0) (by omega) hV2 ho
        have hV3 : pc_V M3 0 V := pc_V_w (by omega) (by omega) (pc_o_w o3) hV2
        have r1 := hV3.2.2.1 _ _ (pv_get hj)
        have r2 := hV3.2.2.1 _ _ (pv_get (l := pv_r V) (k := i) (by omega))
        have r2' : ∀ x y, (cs_sA M3 (10 + 1) 4 x y).2 (10 + 0) 4 i = pj ((pv_r V).getD i 0 : Nat) := fun x y => by rw [pc_sA2n (by omega)]; exact r2
        have hs := pc_sw ho v3 (i := i) (j := i + 1 + k) (by omega) (by omega)
        have h4 : pc_w 1 M (cs_sA (cs_sA M3 (10 + 1) 4 (pj i) (pj ((pv_r V).getD (i + 1 + k) 0 : Nat))) (10 + 1) 4 (pj ((i + 1 + k : Nat) : Int)) (pj ((pv_r V).getD i 0 : Nat))) := pc_w_trans h2 (pc_w_trans (pc_o_w o3) (pc_w_trans (pc_w_A _ _ _) (pc_w_A _ _ _)))
        have hstep : pv_swj T V i (pv_swo T V i) (k + 1) = if (pv_swj T V i (pv_swo T V i) k).2 < pv_most T (pv_sw V i (i + 1 + k)) then (((10 * i + (i + 1 + k) : Nat) : Int), pv_most T (pv_sw V i (i + 1 + k))) else pv_swj T V i (pv_swo T V i) k := rfl
        rw [hstep]
        unfold gh_swap_L26
        generalize pv_swj T V i (pv_swo T V i) k = st at hb2
        simp (disch := omega) only [pj_lit, pj_add, pj_sub, pj_neg, pj_mul, pj_lt, pj_eq, pj_nat, pj_ald, pj_ast, pj_ix, pw_bind, pw_ite, pw_some, pw_none, pw_let, Option.bind_some, Int.toNat_natCast, Sum.elim_inl, Sum.elim_inr, Int.cast_ofNat_Int, Int.reduceLT, Int.reduceLE, Int.reduceEq, Int.reduceAdd, Int.reduceSub, Int.reduceMul, Int.reduceNeg, Int.reduceToNat, Nat.reduceAdd, Nat.reduceSub, Nat.reduceMul, Nat.reduceEqDiff, Nat.reduceLT, reduceIte, reduceCtorEq, true_and, and_true, forall_const, not_true_eq_false, not_false_eq_true, false_implies, implies_true, e5', hlt', eM3, r1, r2']
        refine pw_mono (pc_most hT hs hos (by omega)) (fun q hq => ?_)
        have h5 := pc_w_trans h4 (pc_x_w 1 (pc_e_x hq.2))
        simp (disch := omega) only [pj_lit, pj_add, pj_sub, pj_neg, pj_mul, pj_lt, pj_eq, pj_nat, pj_ald, pj_ast, pj_ix, pw_bind, pw_ite, pw_some, pw_none, pw_let, Option.bind_some, Int.toNat_natCast, Sum.elim_inl, Sum.elim_inr, Int.cast_ofNat_Int, Int.reduceLT, Int.reduceLE, Int.reduceEq, Int.reduceAdd, Int.reduceSub, Int.reduceMul, Int.reduceNeg, Int.reduceToNat, Nat.reduceAdd, Nat.reduceSub, Nat.reduceMul, Nat.reduceEqDiff, Nat.reduceLT, reduceIte, reduceCtorEq, true_and, and_true, forall_const, not_true_eq_false, not_false_eq_true, false_implies, implies_true, hq.1]
        refine ⟨fun z => ?_, fun z => ⟨q.2, ?_, h5⟩⟩
        · refine pw_mono (pc_most hT (pc_V_e (by omega) hq.2 hs) hos (by omega)) (fun q2 hq2 => ⟨q2.2, ?_, pc_w_trans h5 (pc_x_w 1 (pc_e_x hq2.2))⟩)
          rw [if_pos z, hq2.1]
          congr 2
        · rw [if_neg z]
          congr 2
      · rintro t ⟨M2, rfl, h2⟩
        have e5' := (pc_V_w (by omega) (by omega) h2 hV).2.1
        have hlt' : ¬ ((i + 1 + ((pv_r V).length - (i + 1)) : Nat) : Int) < ((pv_r V).length : Nat) := by omega
        unfold gh_swap_L26
        simp (disch := omega) only [pj_lit, pj_add, pj_sub, pj_neg, pj_mul, pj_lt, pj_eq, pj_nat, pj_ald, pj_ast, pj_ix, pw_bind, pw_ite, pw_some, pw_none, pw_let, Option.bind_some, Int.toNat_natCast, Sum.elim_inl, Sum.elim_inr, Int.cast_ofNat_Int, Int.reduceLT, Int.reduceLE, Int.reduceEq, Int.reduceAdd, Int.reduceSub, Int.reduceMul, Int.reduceNeg, Int.reduceToNat, Nat.reduceAdd, Nat.reduceSub, Nat.reduceMul, Nat.reduceEqDiff, Nat.reduceLT, reduceIte, reduceCtorEq, true_and, and_true, forall_const, not_true_eq_false, not_false_eq_true, false_implies, implies_true, e5', hlt']
        exact ⟨M2, rfl, h2⟩
    · rintro r ⟨M2, rfl, h2⟩
      exact ⟨M2, rfl, h2⟩
  · rintro t ⟨M1, rfl, h1⟩
    have e5 := (pc_V_w (by omega) (by omega) h1 hV).2.1
    unfold gh_swap_L10
    simp (disch := omega) only [pj_lit, pj_add, pj_sub, pj_neg, pj_mul, pj_lt, pj_eq, pj_nat, pj_ald, pj_ast, pj_ix, pw_bind, pw_ite, pw_some, pw_none, pw_let, Option.bind_some, Int.toNat_natCast, Sum.elim_inl, Sum.elim_inr, Int.cast_ofNat_Int, Int.reduceLT, Int.reduceLE, Int.reduceEq, Int.reduceAdd, Int.reduceSub, Int.reduceMul, Int.reduceNeg, Int.reduceToNat, Nat.reduceAdd, Nat.reduceSub, Nat.reduceMul, Nat.reduceEqDiff, Nat.reduceLT, reduceIte, reduceCtorEq, true_and, and_true, forall_const, not_true_eq_false, not_false_eq_true, false_implies, implies_true, e5, Int.lt_irrefl]
    exact pc_w_k h1
theorem pm_swap {T : zt_T} {s : Nat} {Z : zm_S} {V : pv_V} (hT : pt_ok T) (hm : pm_T T s Z) (ho : pv_ok (zt_n T) V) (hrow : pv_row (Z.2.1 47) V) :
    pw (gm_swap Z) (fun p => p.1 = pj (pv_swo T V (pv_r V).length).1 ∧ pm_k Z p.2) := by
  have hn := ho.1
  have hl := pv_len ho
  obtain ⟨Z1, eZ, hc⟩ := pm_copies hm ho hrow
  have hk1 := pm_c_k hc
  obtain ⟨hm1, hr1, -⟩ := hc
  unfold gm_swap
  simp (disch := omega) only [pj_lit, pj_add, pj_sub, pj_neg, pj_mul, pj_lt, pj_eq, pj_nat, pj_ald, pj_ast, pj_ix, pw_bind, pw_ite, pw_some, pw_none, pw_let, Option.bind_some, Int.toNat_natCast, Sum.elim_inl, Sum.elim_inr, Int.cast_ofNat_Int, Int.reduceLT, Int.reduceLE, Int.reduceEq, Int.reduceAdd, Int.reduceSub, Int.reduceMul, Int.reduceNeg, Int.reduceToNat, Nat.reduceAdd, Nat.reduceSub, Nat.reduceMul, Nat.reduceEqDiff, Nat.reduceLT, reduceIte, reduceCtorEq, true_and, and_true, forall_const, not_true_eq_false, not_false_eq_true, false_implies, implies_true, eZ]
  refine pw_mono (pm_most hT hm1 hr1 ho) (fun p hp => ?_)
  rw [hp.1]
  have hM0 : pm_k Z p.2 := pm_k_trans hk1 (pm_e_k hp.2)
  generalize p.2 = M0 at hM0
  refine pw_for (pv_r V).length (fun i t => ∃ M', t = (pj (pv_swo T V i).2, pj (pv_swo T V i).1, pj (i : Nat), M') ∧ pm_k Z M') 5000 (by omega) ?_ ?_ _ ⟨M0, rfl, hM0⟩
  · rintro i t hi ⟨M1, rfl, h1⟩
    have hrow1 : pv_row (M1.2.1 47) V := by rw [h1.2.1 47 (by omega)]; exact hrow
    have e5 := hrow1.2.1
    have hlt : (i : Int) < ((pv_r V).length : Nat) := by omega
    have hsb := pv_swo_bd hT ho i (by omega)
    unfold gm_swap_L14
    simp (disch := omega) only [pj_lit, pj_add, pj_sub, pj_neg, pj_mul, pj_lt, pj_eq, pj_nat, pj_ald, pj_ast, pj_ix, pw_bind, pw_ite, pw_some, pw_none, pw_let, Option.bind_some, Int.toNat_natCast, Sum.elim_inl, Sum.elim_inr, Int.cast_ofNat_Int, Int.reduceLT, Int.reduceLE, Int.reduceEq, Int.reduceAdd, Int.reduceSub, Int.reduceMul, Int.reduceNeg, Int.reduceToNat, Nat.reduceAdd, Nat.reduceSub, Nat.reduceMul, Nat.reduceEqDiff, Nat.reduceLT, reduceIte, reduceCtorEq, true_and, and_true, forall_const, not_true_eq_false, not_false_eq_true, false_implies, implies_true, e5, hlt]
    refine pw_mono (Q := fun r : Int32 × Int32 × zm_S => ∃ M', r = (pj (pv_swo T V (i + 1)).2, pj (pv_swo T V (i + 1)).1, M') ∧ pm_k Z M') ?_ ?_
    · refine pw_for ((pv_r V).length - (i + 1)) (fun k t => ∃ M', t = (pj (pv_swj T V i (pv_swo T V i) k).2, pj (pv_swj T V i (pv_swo T V i) k).1, pj ((i + 1 + k : Nat) : Int), M') ∧ pm_k Z M') 5000 (by omega) ?_ ?_ _ ⟨M1, rfl, h1⟩
      · rintro k t hk ⟨M2, rfl, h2⟩
        have hj : i + 1 + k < (pv_r V).length := by omega
        have hrow2 : pv_row (M2.2.1 47) V := by rw [h2.2.1 47 (by omega)]; exact hrow
        have e5' := hrow2.2.1
        have hlt' : ((i + 1 + k : Nat) : Int) < ((pv_r V).length : Nat) := by omega
        have hb2 := pv_swj_bd hT ho i (pv_swo T V i) hsb k (by omega)
        have hos := pv_sw_ok ho (i := i) (j := i + 1 + k) (by omega) (by omega) (by omega)
        have hmb := pv_most_bd hT hos
        obtain ⟨M3, eM3, hc3⟩ := pm_copies (pm_T_tx (pm_k_tx h2) hm) ho hrow2
        have hk3 := pm_k_trans h2 (pm_c_k hc3)
        obtain ⟨hm3, hr3, -, -, -, ha3, -, -⟩ := hc3
        have r1 : M3.2.1 47 (25 + (i + 1 + k)) = _ := (congrFun (ha3 47 (by decide)) _).trans (hrow2.2.2.1 _ _ (pv_get hj))
        have r2 : M3.2.1 47 (25 + i) = _ := (congrFun (ha3 47 (by decide)) _).trans (hrow2.2.2.1 _ _ (pv_get (l := pv_r V) (k := i) (by omega)))
        have r2' : ∀ x y, (zm_sA M3 48 x y).2.1 47 (25 + i) = pj ((pv_r V).getD i 0 : Nat) := fun x y => by rw [pm_sAn (by decide)]; exact r2
        have e25 : (25 : Int) + ((i + 1 + k : Nat) : Int) = ((25 + (i + 1 + k) : Nat) : Int) := by omega
        have e25' : (25 : Int) + (i : Int) = ((25 + i : Nat) : Int) := by omega
        have hs := pm_sw ho hr3 (i := i) (j := i + 1 + k) (by omega) (by omega)
        have h4w : pm_w M3 (zm_sA (zm_sA M3 48 (pj ((25 + i : Nat) : Int)) (pj ((pv_r V).getD (i + 1 + k) 0 : Nat))) 48 (pj ((25 + (i + 1 + k) : Nat) : Int)) (pj ((pv_r V).getD i 0 : Nat))) := pm_w_trans (pm_w_A _ _) (pm_w_A _ _)
        have h4 := pm_k_trans hk3 (pm_w_k h4w)
        have hm4 := pm_T_w h4w hm3
        have hstep : pv_swj T V i (pv_swo T V i) (k + 1) = if (pv_swj T V i (pv_swo T V i) k).2 < pv_most T (pv_sw V i (i + 1 + k)) then (((10 * i + (i + 1 + k) : Nat) : Int), pv_most T (pv_sw V i (i + 1 + k))) else pv_swj T V i (pv_swo T V i) k := rfl
        rw [hstep]
        unfold gm_swap_L30
        generalize pv_swj T V i (pv_swo T V i) k = st at hb2
        simp (disch := omega) only [pj_lit, pj_add, pj_sub, pj_neg, pj_mul, pj_lt, pj_eq, pj_nat, pj_ald, pj_ast, pj_ix, pw_bind, pw_ite, pw_some, pw_none, pw_let, Option.bind_some, Int.toNat_natCast, Sum.elim_inl, Sum.elim_inr, Int.cast_ofNat_Int, Int.reduceLT, Int.reduceLE, Int.reduceEq, Int.reduceAdd, Int.reduceSub, Int.reduceMul, Int.reduceNeg, Int.reduceToNat, Nat.reduceAdd, Nat.reduceSub, Nat.reduceMul, Nat.reduceEqDiff, Nat.reduceLT, reduceIte, reduceCtorEq, true_and, and_true, forall_const, not_true_eq_false, not_false_eq_true, false_implies, implies_true, e5', hlt', eM3, e25, r1, e25', r2']
        refine pw_mono (pm_most hT hm4 hs hos) (fun q hq => ?_)
        have h5 := pm_k_trans h4 (pm_e_k hq.2)
        simp (disch := omega) only [pj_lit, pj_add, pj_sub, pj_neg, pj_mul, pj_lt, pj_eq, pj_nat, pj_ald, pj_ast, pj_ix, pw_bind, pw_ite, pw_some, pw_none, pw_let, Option.bind_some, Int.toNat_natCast, Sum.elim_inl, Sum.elim_inr, Int.cast_ofNat_Int, Int.reduceLT, Int.reduceLE, Int.reduceEq, Int.reduceAdd, Int.reduceSub, Int.reduceMul, Int.reduceNeg, Int.reduceToNat, Nat.reduceAdd, Nat.reduceSub, Nat.reduceMul, Nat.reduceEqDiff, Nat.reduceLT, reduceIte, reduceCtorEq, true_and, and_true, forall_const, not_true_eq_false, not_false_eq_true, false_implies, implies_true, hq.1]
        refine ⟨fun z => ?_, fun z => ⟨q.2, ?_, h5⟩⟩
        · refine pw_mono (pm_most hT (pm_T_e hq.2 hm4) (pm_row_e hq.2 hs) hos) (fun q2 hq2 => ⟨q2.2, ?_, pm_k_trans h5 (pm_e_k hq2.2)⟩)
          rw [if_pos z, hq2.1]
          congr 2
        · rw [if_neg z]
          congr 2
      · rintro t ⟨M2, rfl, h2⟩
        have e5' : M2.2.1 47 24 = _ := (congrFun (h2.2.1 47 (by omega)) _).trans hrow.2.1
        have hlt' : ¬ ((i + 1 + ((pv_r V).length - (i + 1)) : Nat) : Int) < ((pv_r V).length : Nat) := by omega
        unfold gm_swap_L30
        simp (disch := omega) only [pj_lit, pj_add, pj_sub, pj_neg, pj_mul, pj_lt, pj_eq, pj_nat, pj_ald, pj_ast, pj_ix, pw_bind, pw_ite, pw_some, pw_none, pw_let, Option.bind_some, Int.toNat_natCast, Sum.elim_inl, Sum.elim_inr, Int.cast_ofNat_Int, Int.reduceLT, Int.reduceLE, Int.reduceEq, Int.reduceAdd, Int.reduceSub, Int.reduceMul, Int.reduceNeg, Int.reduceToNat, Nat.reduceAdd, Nat.reduceSub, Nat.reduceMul, Nat.reduceEqDiff, Nat.reduceLT, reduceIte, reduceCtorEq, true_and, and_true, forall_const, not_true_eq_false, not_false_eq_true, false_implies, implies_true, e5', hlt']
        exact ⟨M2, rfl, h2⟩
    · rintro r ⟨M2, rfl, h2⟩
      exact ⟨M2, rfl, h2⟩
  · rintro t ⟨M1, rfl, h1⟩
    have e5 : M1.2.1 47 24 = _ := (congrFun (h1.2.1 47 (by omega)) _).trans hrow.2.1
    unfold gm_swap_L14
    simp (disch := omega) only [pj_lit, pj_add, pj_sub, pj_neg, pj_mul, pj_lt, pj_eq, pj_nat, pj_ald, pj_ast, pj_ix, pw_bind, pw_ite, pw_some, pw_none, pw_let, Option.bind_some, Int.toNat_natCast, Sum.elim_inl, Sum.elim_inr, Int.cast_ofNat_Int, Int.reduceLT, Int.reduceLE, Int.reduceEq, Int.reduceAdd, Int.reduceSub, Int.reduceMul, Int.reduceNeg, Int.reduceToNat, Nat.reduceAdd, Nat.reduceSub, Nat.reduceMul, Nat.reduceEqDiff, Nat.reduceLT, reduceIte, reduceCtorEq, true_and, and_true, forall_const, not_true_eq_false, not_false_eq_true, false_implies, implies_true, e5, Int.lt_irrefl]
    exact h1
theorem pq_swap {T : zt_T} {M : cs_S} {Z : zm_S} {s : Nat} {V : pv_V} {H : List pv_V} {at_ : Nat} (h : pr_R0 T M Z s V H at_) :
    pw (gh_swap T M) (fun p => pw (gm_swap Z) (fun q => p.1 = q.1 ∧ pr_R T p.2 q.2)) := by
  obtain ⟨hT, hm, ho, hV, hsd, hrow, -⟩ := id h
  exact pr_q h _ (pc_swap hT hV ho) (pm_swap hT hm ho hrow)
/-! years ahead -/
def pv_run (T : zt_T) (sd : Int32) (st : Bool) (V : pv_V) : Nat → pv_V
  | 0 => V
  | k + 1 => pv_year T sd st (pv_run T sd st V k)
theorem pv_run_ok {T : zt_T} {V : pv_V} (ho : pv_ok (zt_n T) V) (sd : Int32) (st : Bool) : ∀ k, pv_ok (zt_n T) (pv_run T sd st V k)
  | 0 => ho
  | k + 1 => pv_year_ok (pv_run_ok ho sd st k) sd st
theorem pc_runs {T : zt_T} {M : cs_S} {i : Nat} {V : pv_V} (hT : pt_ok T) (hV : pc_V M i V) (ho : pv_ok (zt_n T) V) (hi : i < 45) (st : Bool) {n : Nat} (hn : n ≤ 60) {sd : Int32} (hs : M.1 (10 + i) 8 = sd) :
    pw (gh_runs T M i (pj n) st) (fun M' => pc_V M' i (pv_run T sd st V n) ∧ pc_w i M M' ∧ M'.1 (10 + i) 8 = sd) := by
  unfold gh_runs
  refine pw_seq (Q := fun M' => pc_V M' i (pv_run T sd st V n) ∧ pc_w i M M' ∧ M'.1 (10 + i) 8 = sd) ?_ (fun M' h => (pw_some _ _).2 h)
  rw [pj_0]
  refine pw_for n (fun k t => ∃ M', t = (pj (k : Nat), M') ∧ pc_V M' i (pv_run T sd st V k) ∧ pc_w i M M' ∧ M'.1 (10 + i) 8 = sd) 5000 (by omega) ?_ ?_ _ ⟨M, rfl, hV, pc_w_rfl i M, hs⟩
  · rintro k t hk ⟨M', rfl, h1, h2, h3⟩
    have hlt : (k : Int) < (n : Nat) := by omega
    unfold gh_runs_L3
    simp (disch := omega) only [pj_lit, pj_add, pj_sub, pj_neg, pj_mul, pj_lt, pj_eq, pj_nat, pj_ald, pj_ast, pj_ix, pw_bind, pw_ite, pw_some, pw_none, pw_let, Option.bind_some, Int.toNat_natCast, Sum.elim_inl, Sum.elim_inr, Int.cast_ofNat_Int, Int.reduceLT, Int.reduceLE, Int.reduceEq, Int.reduceAdd, Int.reduceSub, Int.reduceMul, Int.reduceNeg, Int.reduceToNat, Nat.reduceAdd, Nat.reduceSub, Nat.reduceMul, Nat.reduceEqDiff, Nat.reduceLT, reduceIte, reduceCtorEq, true_and, and_true, forall_const, not_true_eq_false, not_false_eq_true, false_implies, implies_true, hlt]
    refine pw_mono (pc_year hT h1 (pv_run_ok ho sd st k) hi st) (fun M2 h4 => ⟨M2, rfl, ?_, pc_w_trans h2 h4.2.1, h4.2.2.trans h3⟩)
    rw [h3] at h4
    exact h4.1
  · rintro t ⟨M', rfl, h1, h2, h3⟩
    unfold gh_runs_L3
    simp (disch := omega) only [pj_lit, pj_add, pj_sub, pj_neg, pj_mul, pj_lt, pj_eq, pj_nat, pj_ald, pj_ast, pj_ix, pw_bind, pw_ite, pw_some, pw_none, pw_let, Option.bind_some, Int.toNat_natCast, Sum.elim_inl, Sum.elim_inr, Int.cast_ofNat_Int, Int.reduceLT, Int.reduceLE, Int.reduceEq, Int.reduceAdd, Int.reduceSub, Int.reduceMul, Int.reduceNeg, Int.reduceToNat, Nat.reduceAdd, Nat.reduceSub, Nat.reduceMul, Nat.reduceEqDiff, Nat.reduceLT, reduceIte, reduceCtorEq, true_and, and_true, forall_const, not_true_eq_false, not_false_eq_true, false_implies, implies_true, Int.lt_irrefl]
    exact ⟨h1, h2, h3⟩
theorem pm_goes {T : zt_T} {s : Nat} {Z : zm_S} {V : pv_V} (hm : pm_T T s Z) (hV : pv_row (Z.2.1 48) V) (ho : pv_ok (zt_n T) V) {st : Bool} (h5 : Z.1 50 = zs_b st) {n : Nat} (hn : n ≤ 60) {sd : Int32} (hs : Z.1 49 = sd) :
    pw (gm_goes Z (pj n)) (fun Z' => pv_row (Z'.2.1 48) (pv_run T sd st V n) ∧ pm_w Z Z') := by
  unfold gm_goes
  refine pw_seq (Q := fun Z' => pv_row (Z'.2.1 48) (pv_run T sd st V n) ∧ pm_w Z Z') ?_ (fun M' h => (pw_some _ _).2 h)
  rw [pj_0]
  refine pw_for n (fun k t => ∃ Z', t = (pj (k : Nat), Z') ∧ pv_row (Z'.2.1 48) (pv_run T sd st V k) ∧ pm_w Z Z') 5000 (by omega) ?_ ?_ _ ⟨Z, rfl, hV, pm_w_rfl Z⟩
  · rintro k t hk ⟨Z', rfl, h1, h2⟩
    have hlt : (k : Int) < (n : Nat) := by omega
    unfold gm_goes_L2
    simp (disch := omega) only [pj_lit, pj_add, pj_sub, pj_neg, pj_mul, pj_lt, pj_eq, pj_nat, pj_ald, pj_ast, pj_ix, pw_bind, pw_ite, pw_some, pw_none, pw_let, Option.bind_some, Int.toNat_natCast, Sum.elim_inl, Sum.elim_inr, Int.cast_ofNat_Int, Int.reduceLT, Int.reduceLE, Int.reduceEq, Int.reduceAdd, Int.reduceSub, Int.reduceMul, Int.reduceNeg, Int.reduceToNat, Nat.reduceAdd, Nat.reduceSub, Nat.reduceMul, Nat.reduceEqDiff, Nat.reduceLT, reduceIte, reduceCtorEq, true_and, and_true, forall_const, not_true_eq_false, not_false_eq_true, false_implies, implies_true, hlt]
    refine pw_mono (pm_year (pm_T_w h2 hm) h1 (pv_run_ok ho sd st k) ((h2.1 50 (by decide)).trans h5)) (fun M2 h4 => ⟨M2, rfl, ?_, pm_w_trans h2 h4.2⟩)
    rw [h2.1 49 (by decide), hs] at h4
    exact h4.1
  · rintro t ⟨M', rfl, h1, h2⟩
    unfold gm_goes_L2
    simp (disch := omega) only [pj_lit, pj_add, pj_sub, pj_neg, pj_mul, pj_lt, pj_eq, pj_nat, pj_ald, pj_ast, pj_ix, pw_bind, pw_ite, pw_some, pw_none, pw_let, Option.bind_some, Int.toNat_natCast, Sum.elim_inl, Sum.elim_inr, Int.cast_ofNat_Int, Int.reduceLT, Int.reduceLE, Int.reduceEq, Int.reduceAdd, Int.reduceSub, Int.reduceMul, Int.reduceNeg, Int.reduceToNat, Nat.reduceAdd, Nat.reduceSub, Nat.reduceMul, Nat.reduceEqDiff, Nat.reduceLT, reduceIte, reduceCtorEq, true_and, and_true, forall_const, not_true_eq_false, not_false_eq_true, false_implies, implies_true, Int.lt_irrefl]
    exact ⟨h1, h2⟩
/-- the trial village becomes the village -/
theorem pc_trial {T : zt_T} {M : cs_S} {V : pv_V} {n : Nat} (hV : pc_V M 0 V) (ho : pv_ok n V) (hs : M.1 (10 + 0) 8 = zt_f T 7) :
    ∃ M', gv_becomes T M 1 0 = some M' ∧ pc_V M' 1 V ∧ M'.1 (10 + 1) 8 = zt_f T 7 ∧ pc_w 1 M M' := by
  obtain ⟨M3, eM3, v3, s3, o3⟩ := pc_becomes T (i := 1) (v := 0) (by omega) hV ho
  exact ⟨M3, eM3, v3, s3.trans hs, pc_o_w o3⟩
theorem pj_60 {a : Int32} (h : 0 ≤ a.toInt ∧ a.toInt ≤ 60) : ∃ k : Nat, a = pj k ∧ k ≤ 60 := ⟨a.toInt.toNat, by rw [Int.toNat_of_nonneg h.1, pj_of], by omega⟩
theorem pj_range {a : Int32} {lo hi : Nat} (h : (lo : Int) ≤ a.toInt ∧ a.toInt ≤ hi) : ∃ k : Nat, a = pj k ∧ lo ≤ k ∧ k ≤ hi := ⟨a.toInt.toNat, by rw [Int.toNat_of_nonneg (by omega), pj_of], by omega, by omega⟩
theorem pc_ahead (a : Int32) : gh_isAhead a = some (decide (0 ≤ a.toInt ∧ a.toInt ≤ 60)) := by
  unfold gh_isAhead
  simp (disch := omega) only [pj_lit, pj_add, pj_sub, pj_neg, pj_mul, pj_lt, pj_eq, pj_nat, pj_ald, pj_ast, pj_ix, pw_bind, pw_ite, pw_some, pw_none, pw_let, Option.bind_some, Int.toNat_natCast, Sum.elim_inl, Sum.elim_inr, Int.cast_ofNat_Int, Int.reduceLT, Int.reduceLE, Int.reduceEq, Int.reduceAdd, Int.reduceSub, Int.reduceMul, Int.reduceNeg, Int.reduceToNat, Nat.reduceAdd, Nat.reduceSub, Nat.reduceMul, Nat.reduceEqDiff, Nat.reduceLT, reduceIte, reduceCtorEq, true_and, and_true, forall_const, not_true_eq_false, not_false_eq_true, false_implies, implies_true, pc_isIn]
theorem pm_long (a : Int32) : gm_isLong a = some (decide (0 ≤ a.toInt ∧ a.toInt ≤ 60)) := by
  unfold gm_isLong
  simp (disch := omega) only [pj_lit, pj_add, pj_sub, pj_neg, pj_mul, pj_lt, pj_eq, pj_nat, pj_ald, pj_ast, pj_ix, pw_bind, pw_ite, pw_some, pw_none, pw_let, Option.bind_some, Int.toNat_natCast, Sum.elim_inl, Sum.elim_inr, Int.cast_ofNat_Int, Int.reduceLT, Int.reduceLE, Int.reduceEq, Int.reduceAdd, Int.reduceSub, Int.reduceMul, Int.reduceNeg, Int.reduceToNat, Nat.reduceAdd, Nat.reduceSub, Nat.reduceMul, Nat.reduceEqDiff, Nat.reduceLT, reduceIte, reduceCtorEq, true_and, and_true, forall_const, not_true_eq_false, not_false_eq_true, false_implies, implies_true, pm_isIn]
theorem pc_haulw (a : Int32) : gh_isHaul a = some (decide (0 ≤ a.toInt ∧ a.toInt ≤ 999)) := by
  unfold gh_isHaul
  simp (disch := omega) only [pj_lit, pj_add, pj_sub, pj_neg, pj_mul, pj_lt, pj_eq, pj_nat, pj_ald, pj_ast, pj_ix, pw_bind, pw_ite, pw_some, pw_none, pw_let, Option.bind_some, Int.toNat_natCast, Sum.elim_inl, Sum.elim_inr, Int.cast_ofNat_Int, Int.reduceLT, Int.reduceLE, Int.reduceEq, Int.reduceAdd, Int.reduceSub, Int.reduceMul, Int.reduceNeg, Int.reduceToNat, Nat.reduceAdd, Nat.reduceSub, Nat.reduceMul, Nat.reduceEqDiff, Nat.reduceLT, reduceIte, reduceCtorEq, true_and, and_true, forall_const, not_true_eq_false, not_false_eq_true, false_implies, implies_true, pc_isIn]
theorem pm_weight (a : Int32) : gm_isWeight a = some (decide (0 ≤ a.toInt ∧ a.toInt ≤ 999)) := by
  unfold gm_isWeight
  simp (disch := omega) only [pj_lit, pj_add, pj_sub, pj_neg, pj_mul, pj_lt, pj_eq, pj_nat, pj_ald, pj_ast, pj_ix, pw_bind, pw_ite, pw_some, pw_none, pw_let, Option.bind_some, Int.toNat_natCast, Sum.elim_inl, Sum.elim_inr, Int.cast_ofNat_Int, Int.reduceLT, Int.reduceLE, Int.reduceEq, Int.reduceAdd, Int.reduceSub, Int.reduceMul, Int.reduceNeg, Int.reduceToNat, Nat.reduceAdd, Nat.reduceSub, Nat.reduceMul, Nat.reduceEqDiff, Nat.reduceLT, reduceIte, reduceCtorEq, true_and, and_true, forall_const, not_true_eq_false, not_false_eq_true, false_implies, implies_true, pm_isIn]
theorem pm_mark (a : Int32) : gm_isMark a = some (decide (0 ≤ a.toInt ∧ a.toInt ≤ 99)) := by
  unfold gm_isMark
  simp (disch := omega) only [pj_lit, pj_add, pj_sub, pj_neg, pj_mul, pj_lt, pj_eq, pj_nat, pj_ald, pj_ast, pj_ix, pw_bind, pw_ite, pw_some, pw_none, pw_let, Option.bind_some, Int.toNat_natCast, Sum.elim_inl, Sum.elim_inr, Int.cast_ofNat_Int, Int.reduceLT, Int.reduceLE, Int.reduceEq, Int.reduceAdd, Int.reduceSub, Int.reduceMul, Int.reduceNeg, Int.reduceToNat, Nat.reduceAdd, Nat.reduceSub, Nat.reduceMul, Nat.reduceEqDiff, Nat.reduceLT, reduceIte, reduceCtorEq, true_and, and_true, forall_const, not_true_eq_false, not_false_eq_true, false_implies, implies_true, pm_isIn]
theorem pq_then {T : zt_T} {M : cs_S} {Z : zm_S} {s : Nat} {V : pv_V} {H : List pv_V} {at_ : Nat} (h : pr_R0 T M Z s V H at_) (a1 a2 a3 : Int32) :
    pw (gh_then T M a1 a2 a3) (fun p => pw (gm_then Z a1 a2 a3) (fun q => p.1 = q.1 ∧ pr_R T p.2 q.2)) := by
  obtain ⟨hT, hm, ho, hV, hsd, hrow, -⟩ := id h
  have hn := hT.1
  by_cases h1 : 0 ≤ a1.toInt ∧ a1.toInt < zt_n T
  · by_cases h2 : 0 ≤ a2.toInt ∧ a2.toInt ≤ 60
    · by_cases h3 : 0 ≤ a3.toInt ∧ a3.toInt ≤ 1
      · obtain ⟨k, rfl, hk⟩ := pj_house h1
        obtain ⟨n, rfl, hn60⟩ := pj_60 h2
        have hk6 : k < 6 := by omega
        have hor := pv_run_ok ho (zt_f T 7) false n
        refine pr_q h (if a3 = 0 then pj (pv_h (pv_run T (zt_f T 7) false V n) k) else pj (pv_s (pv_run T (zt_f T 7) false V n) k)) ?_ ?_
        · obtain ⟨M1, e1, v1, s1, w1⟩ := pc_trial hV ho hsd
          unfold gh_then
          rw [pc_isHouse M hT, decide_eq_true h1, pc_ahead, decide_eq_true h2]
          simp (disch := omega) only [pj_lit, pj_add, pj_sub, pj_neg, pj_mul, pj_lt, pj_eq, pj_nat, pj_ald, pj_ast, pj_ix, pw_bind, pw_ite, pw_some, pw_none, pw_let, Option.bind_some, Int.toNat_natCast, Sum.elim_inl, Sum.elim_inr, Int.cast_ofNat_Int, Int.reduceLT, Int.reduceLE, Int.reduceEq, Int.reduceAdd, Int.reduceSub, Int.reduceMul, Int.reduceNeg, Int.reduceToNat, Nat.reduceAdd, Nat.reduceSub, Nat.reduceMul, Nat.reduceEqDiff, Nat.reduceLT, reduceIte, reduceCtorEq, true_and, and_true, forall_const, not_true_eq_false, not_false_eq_true, false_implies, implies_true, pc_isIn, decide_eq_true h3, e1]
          refine pw_mono (pc_runs hT v1 ho (by omega) false hn60 s1) (fun M2 hM2 => ?_)
          have c0 := (hM2.1.1 k hk6).1
          have c2 := (hM2.1.1 k hk6).2.2.1
          have hk2 := pc_w_k (pc_w_trans w1 hM2.2.1)
          simp (disch := omega) only [pj_lit, pj_add, pj_sub, pj_neg, pj_mul, pj_lt, pj_eq, pj_nat, pj_ald, pj_ast, pj_ix, pw_bind, pw_ite, pw_some, pw_none, pw_let, Option.bind_some, Int.toNat_natCast, Sum.elim_inl, Sum.elim_inr, Int.cast_ofNat_Int, Int.reduceLT, Int.reduceLE, Int.reduceEq, Int.reduceAdd, Int.reduceSub, Int.reduceMul, Int.reduceNeg, Int.reduceToNat, Nat.reduceAdd, Nat.reduceSub, Nat.reduceMul, Nat.reduceEqDiff, Nat.reduceLT, reduceIte, reduceCtorEq, true_and, and_true, forall_const, not_true_eq_false, not_false_eq_true, false_implies, implies_true, c0, c2]
          exact ⟨fun q => ⟨by rw [if_pos q], hk2⟩, fun q => ⟨by rw [if_neg q], hk2⟩⟩
        · obtain ⟨Z1, eZ, hc⟩ := pm_copies hm ho hrow
          have hk1 := pm_c_k hc
          obtain ⟨hm1, hr1, h49, h50, -⟩ := hc
          have e12 : (12 : Int) + (k : Int) = ((12 + k : Nat) : Int) := by omega
          unfold gm_then
          rw [pm_isHouse hT hm, decide_eq_true h1, pm_long, decide_eq_true h2]
          simp (disch := omega) only [pj_lit, pj_add, pj_sub, pj_neg, pj_mul, pj_lt, pj_eq, pj_nat, pj_ald, pj_ast, pj_ix, pw_bind, pw_ite, pw_some, pw_none, pw_let, Option.bind_some, Int.toNat_natCast, Sum.elim_inl, Sum.elim_inr, Int.cast_ofNat_Int, Int.reduceLT, Int.reduceLE, Int.reduceEq, Int.reduceAdd, Int.reduceSub, Int.reduceMul, Int.reduceNeg, Int.reduceToNat, Nat.reduceAdd, Nat.reduceSub, Nat.reduceMul, Nat.reduceEqDiff, Nat.reduceLT, reduceIte, reduceCtorEq, true_and, and_true, forall_const, not_true_eq_false, not_false_eq_true, false_implies, implies_true, pm_isIn, decide_eq_true h3, eZ]
          refine pw_mono (pm_goes hm1 hr1 ho (st := false) h50 hn60 h49) (fun M2 hM2 => ?_)
          have c0 := (hM2.1.1 k hk6).1
          have c2 := (hM2.1.1 k hk6).2.2.1
          have hk2 := pm_k_trans hk1 (pm_w_k hM2.2)
          simp (disch := omega) only [pj_lit, pj_add, pj_sub, pj_neg, pj_mul, pj_lt, pj_eq, pj_nat, pj_ald, pj_ast, pj_ix, pw_bind, pw_ite, pw_some, pw_none, pw_let, Option.bind_some, Int.toNat_natCast, Sum.elim_inl, Sum.elim_inr, Int.cast_ofNat_Int, Int.reduceLT, Int.reduceLE, Int.reduceEq, Int.reduceAdd, Int.reduceSub, Int.reduceMul, Int.reduceNeg, Int.reduceToNat, Nat.reduceAdd, Nat.reduceSub, Nat.reduceMul, Nat.reduceEqDiff, Nat.reduceLT, reduceIte, reduceCtorEq, true_and, and_true, forall_const, not_true_eq_false, not_false_eq_true, false_implies, implies_true, c0, c2, e12]
          exact ⟨fun q => ⟨by rw [if_pos q], hk2⟩, fun q => ⟨by rw [if_neg q], hk2⟩⟩
      · unfold gh_then gm_then
        rw [pc_isHouse M hT, pm_isHouse hT hm, decide_eq_true h1, pc_ahead, pm_long, decide_eq_true h2]
        simp (disch := omega) only [pj_lit, pj_add, pj_sub, pj_neg, pj_mul, pj_lt, pj_eq, pj_nat, pj_ald, pj_ast, pj_ix, pw_bind, pw_ite, pw_some, pw_none, pw_let, Option.bind_some, Int.toNat_natCast, Sum.elim_inl, Sum.elim_inr, Int.cast_ofNat_Int, Int.reduceLT, Int.reduceLE, Int.reduceEq, Int.reduceAdd, Int.reduceSub, Int.reduceMul, Int.reduceNeg, Int.reduceToNat, Nat.reduceAdd, Nat.reduceSub, Nat.reduceMul, Nat.reduceEqDiff, Nat.reduceLT, reduceIte, reduceCtorEq, true_and, and_true, forall_const, not_true_eq_false, not_false_eq_true, false_implies, implies_true, pc_isIn, pm_isIn, decide_eq_false h3, Bool.false_eq_true]
        exact ⟨s, V, H, at_, h⟩
    · unfold gh_then gm_then
      rw [pc_isHouse M hT, pm_isHouse hT hm, decide_eq_true h1, pc_ahead, pm_long, decide_eq_false h2]
      simp (disch := omega) only [pj_lit, pj_add, pj_sub, pj_neg, pj_mul, pj_lt, pj_eq, pj_nat, pj_ald, pj_ast, pj_ix, pw_bind, pw_ite, pw_some, pw_none, pw_let, Option.bind_some, Int.toNat_natCast, Sum.elim_inl, Sum.elim_inr, Int.cast_ofNat_Int, Int.reduceLT, Int.reduceLE, Int.reduceEq, Int.reduceAdd, Int.reduceSub, Int.reduceMul, Int.reduceNeg, Int.reduceToNat, Nat.reduceAdd, Nat.reduceSub, Nat.reduceMul, Nat.reduceEqDiff, Nat.reduceLT, reduceIte, reduceCtorEq, true_and, and_true, forall_const, not_true_eq_false, not_false_eq_true, false_implies, implies_true, Bool.false_eq_true]
      exact ⟨s, V, H, at_, h⟩
  · unfold gh_then gm_then
    rw [pc_isHouse M hT, pm_isHouse hT hm, decide_eq_false h1]
    simp (disch := omega) only [pj_lit, pj_add, pj_sub, pj_neg, pj_mul, pj_lt, pj_eq, pj_nat, pj_ald, pj_ast, pj_ix, pw_bind, pw_ite, pw_some, pw_none, pw_let, Option.bind_some, Int.toNat_natCast, Sum.elim_inl, Sum.elim_inr, Int.cast_ofNat_Int, Int.reduceLT, Int.reduceLE, Int.reduceEq, Int.reduceAdd, Int.reduceSub, Int.reduceMul, Int.reduceNeg, Int.reduceToNat, Nat.reduceAdd, Nat.reduceSub, Nat.reduceMul, Nat.reduceEqDiff, Nat.reduceLT, reduceIte, reduceCtorEq, true_and, and_true, forall_const, not_true_eq_false, not_false_eq_true, false_implies, implies_true, Bool.false_eq_true]
    exact ⟨s, V, H, at_, h⟩
def pv_yr (T : zt_T) (V : pv_V) (h : Nat) (v : Int) (n : Nat) : Nat → Int
  | 0 => 0
  | k + 1 => pv_yr T V h v n k + if pv_h (pv_run T (zt_f T 7 + pj k) false V n) h < v then 0 else 1
theorem pc_yearq {T : zt_T} {M : cs_S} {V : pv_V} (hT : pt_ok T) (hV : pc_V M 0 V) (ho : pv_ok (zt_n T) V) (hsd : M.1 (10 + 0) 8 = zt_f T 7) {x n m : Nat} {v : Int} (hx : x < zt_n T) (hv : 0 ≤ v ∧ v ≤ 99) (hn60 : n ≤ 60) (hm : 1 ≤ m ∧ m ≤ 20) :
    pw (gh_year T M (pj x) (pj v) (pj n) (pj m)) (fun p => p.1 = pj (pv_yr T V x v n m) ∧ pc_k M p.2) := by
  have hn := hT.1
  unfold gh_year
  rw [pc_isHouse M hT, pc_ahead, pj_toInt (by omega), pj_toInt (by omega), decide_eq_true (show 0 ≤ (x : Int) ∧ (x : Int) < (zt_n T : Nat) by omega), decide_eq_true (show 0 ≤ (n : Int) ∧ (n : Int) ≤ 60 by omega)]
  simp (disch := omega) only [pj_lit, pj_add, pj_sub, pj_neg, pj_mul, pj_lt, pj_eq, pj_nat, pj_ald, pj_ast, pj_ix, pw_bind, pw_ite, pw_some, pw_none, pw_let, Option.bind_some, Int.toNat_natCast, Sum.elim_inl, Sum.elim_inr, Int.cast_ofNat_Int, Int.reduceLT, Int.reduceLE, Int.reduceEq, Int.reduceAdd, Int.reduceSub, Int.reduceMul, Int.reduceNeg, Int.reduceToNat, Nat.reduceAdd, Nat.reduceSub, Nat.reduceMul, Nat.reduceEqDiff, Nat.reduceLT, reduceIte, reduceCtorEq, true_and, and_true, forall_const, not_true_eq_false, not_false_eq_true, false_implies, implies_true, pc_isIn, pj_toInt, decide_eq_true (show 0 ≤ v ∧ v ≤ 99 from hv), decide_eq_true (show 1 ≤ (m : Int) ∧ (m : Int) ≤ 20 by omega)]
  refine pw_mono (Q := fun p => p.1 = pj (pv_yr T V x v n m) ∧ pc_w 1 M p.2) ?_ (fun p hp => ⟨hp.1, pc_w_k hp.2⟩)
  refine pw_for m (fun k t => ∃ M', t = (pj (pv_yr T V x v n k), pj (k : Nat), M') ∧ pc_w 1 M M') 5000 (by omega) ?_ ?_ _ ⟨M, rfl, pc_w_rfl 1 M⟩
  · rintro k t hk ⟨M1, rfl, h1⟩
    have hV1 := pc_V_w (by omega) (by omega) h1 hV
    have hlt : (k : Int) < (m : Nat) := by omega
    obtain ⟨M2, e2, v2, s2, w2⟩ := pc_trial (T := T) hV1 ho ((h1.1 _ _ (by omega) (by omega)).trans hsd)
    have v3 : pc_V (cs_sF M2 (10 + 1) 8 (zt_f T 7 + pj (k : Nat))) 1 V := by
      obtain ⟨g1, g2, g3, g4, g5⟩ := v2
      refine ⟨g1, ?_, g3, ?_, ?_⟩
      · rw [pc_sF1, if_neg (by omega)]; exact g2
      · rw [pc_sF1, if_neg (by omega)]; exact g4
      · rw [pc_sF1, if_neg (by omega)]; exact g5
    have s3 : (cs_sF M2 (10 + 1) 8 (zt_f T 7 + pj (k : Nat))).1 (10 + 1) 8 = zt_f T 7 + pj (k : Nat) := by rw [pc_sF1, if_pos ⟨rfl, rfl⟩]
    have w3 := pc_w_trans h1 (pc_w_trans w2 (pc_w_F (M := M2) (i := 1) 8 (zt_f T 7 + pj (k : Nat))))
    have hor := pv_run_ok ho (zt_f T 7 + pj (k : Nat)) false n
    have hb := hor.2.1 x (by omega)
    unfold gh_year_L44
    simp (disch := omega) only [pj_lit, pj_add, pj_sub, pj_neg, pj_mul, pj_lt, pj_eq, pj_nat, pj_ald, pj_ast, pj_ix, pw_bind, pw_ite, pw_some, pw_none, pw_let, Option.bind_some, Int.toNat_natCast, Sum.elim_inl, Sum.elim_inr, Int.cast_ofNat_Int, Int.reduceLT, Int.reduceLE, Int.reduceEq, Int.reduceAdd, Int.reduceSub, Int.reduceMul, Int.reduceNeg, Int.reduceToNat, Nat.reduceAdd, Nat.reduceSub, Nat.reduceMul, Nat.reduceEqDiff, Nat.reduceLT, reduceIte, reduceCtorEq, true_and, and_true, forall_const, not_true_eq_false, not_false_eq_true, false_implies, implies_true, hlt, e2]
    refine pw_mono (pc_runs hT v3 ho (by omega) false hn60 s3) (fun M4 hM4 => ?_)
    have c0 := (hM4.1.1 x (by omega)).1
    have hk2 := pc_w_trans w3 hM4.2.1
    have hstep : pv_yr T V x v n (k + 1) = pv_yr T V x v n k + if pv_h (pv_run T (zt_f T 7 + pj k) false V n) x < v then 0 else 1 := rfl
    simp (disch := omega) only [pj_lit, pj_add, pj_sub, pj_neg, pj_mul, pj_lt, pj_eq, pj_nat, pj_ald, pj_ast, pj_ix, pw_bind, pw_ite, pw_some, pw_none, pw_let, Option.bind_some, Int.toNat_natCast, Sum.elim_inl, Sum.elim_inr, Int.cast_ofNat_Int, Int.reduceLT, Int.reduceLE, Int.reduceEq, Int.reduceAdd, Int.reduceSub, Int.reduceMul, Int.reduceNeg, Int.reduceToNat, Nat.reduceAdd, Nat.reduceSub, Nat.reduceMul, Nat.reduceEqDiff, Nat.reduceLT, reduceIte, reduceCtorEq, true_and, and_true, forall_const, not_true_eq_false, not_false_eq_true, false_implies, implies_true, c0]
    rw [hstep]
    refine ⟨fun q => ⟨M4, ?_, hk2⟩, fun q => ⟨M4, ?_, hk2⟩⟩
    · rw [if_pos q]; rfl
    · rw [if_neg q]; rfl
  · rintro t ⟨M1, rfl, h1⟩
    unfold gh_year_L44
    simp (disch := omega) only [pj_lit, pj_add, pj_sub, pj_neg, pj_mul, pj_lt, pj_eq, pj_nat, pj_ald, pj_ast, pj_ix, pw_bind, pw_ite, pw_some, pw_none, pw_let, Option.bind_some, Int.toNat_natCast, Sum.elim_inl, Sum.elim_inr, Int.cast_ofNat_Int, Int.reduceLT, Int.reduceLE, Int.reduceEq, Int.reduceAdd, Int.reduceSub, Int.reduceMul, Int.reduceNeg, Int.reduceToNat, Nat.reduceAdd, Nat.reduceSub, Nat.reduceMul, Nat.reduceEqDiff, Nat.reduceLT, reduceIte, reduceCtorEq, true_and, and_true, forall_const, not_true_eq_false, not_false_eq_true, false_implies, implies_true, Int.lt_irrefl]
    exact h1
theorem pm_yearq {T : zt_T} {s : Nat} {Z : zm_S} {V : pv_V} (hT : pt_ok T) (hmT : pm_T T s Z) (ho : pv_ok (zt_n T) V) (hrow : pv_row (Z.2.1 47) V) {x n m : Nat} {v : Int} (hx : x < zt_n T) (hv : 0 ≤ v ∧ v ≤ 99) (hn60 : n ≤ 60) (hm : 1 ≤ m ∧ m ≤ 20) :
    pw (gm_year Z (pj x) (pj v) (pj n) (pj m)) (fun p => p.1 = pj (pv_yr T V x v n m) ∧ pm_k Z p.2) := by
  have hn := hT.1
  unfold gm_year
  rw [pm_isHouse hT hmT, pm_long, pm_mark, pj_toInt (by omega), pj_toInt (by omega), pj_toInt (by omega), decide_eq_true (show 0 ≤ (x : Int) ∧ (x : Int) < (zt_n T : Nat) by omega), decide_eq_true (show 0 ≤ (n : Int) ∧ (n : Int) ≤ 60 by omega), decide_eq_true (show 0 ≤ v ∧ v ≤ 99 from hv)]
  simp (disch := omega) only [pj_lit, pj_add, pj_sub, pj_neg, pj_mul, pj_lt, pj_eq, pj_nat, pj_ald, pj_ast, pj_ix, pw_bind, pw_ite, pw_some, pw_none, pw_let, Option.bind_some, Int.toNat_natCast, Sum.elim_inl, Sum.elim_inr, Int.cast_ofNat_Int, Int.reduceLT, Int.reduceLE, Int.reduceEq, Int.reduceAdd, Int.reduceSub, Int.reduceMul, Int.reduceNeg, Int.reduceToNat, Nat.reduceAdd, Nat.reduceSub, Nat.reduceMul, Nat.reduceEqDiff, Nat.reduceLT, reduceIte, reduceCtorEq, true_and, and_true, forall_const, not_true_eq_false, not_false_eq_true, false_implies, implies_true, pm_isIn, pj_toInt, decide_eq_true (show 1 ≤ (m : Int) ∧ (m : Int) ≤ 20 by omega)]
  refine pw_for m (fun k t => ∃ M', t = (pj (pv_yr T V x v n k), pj (k : Nat), M') ∧ pm_k Z M') 5000 (by omega) ?_ ?_ _ ⟨Z, rfl, pm_k_rfl Z⟩
  · rintro k t hk ⟨M1, rfl, h1⟩
    have hlt : (k : Int) < (m : Nat) := by omega
    have hrow1 : pv_row (M1.2.1 47) V := by rw [h1.2.1 47 (by omega)]; exact hrow
    obtain ⟨Z2, e2, hc⟩ := pm_copies (pm_T_tx (pm_k_tx h1) hmT) ho hrow1
    have hk1 := pm_k_trans h1 (pm_c_k hc)
    obtain ⟨hm1, hr1, h49, h50, -⟩ := hc
    have hor := pv_run_ok ho (zt_f T 7 + pj (k : Nat)) false n
    have hb := hor.2.1 x (by omega)
    have hk3 : pm_k Z (zm_sF Z2 49 (zt_f T 7 + pj (k : Nat))) := pm_k_trans hk1 ⟨fun j _ b _ _ => if_neg b, fun _ _ => rfl, rfl⟩
    have hm3 : pm_T T s (zm_sF Z2 49 (zt_f T 7 + pj (k : Nat))) := pm_T_tx ⟨rfl, fun _ _ => rfl⟩ hm1
    unfold gm_year_L41
    simp (disch := omega) only [pj_lit, pj_add, pj_sub, pj_neg, pj_mul, pj_lt, pj_eq, pj_nat, pj_ald, pj_ast, pj_ix, pw_bind, pw_ite, pw_some, pw_none, pw_let, Option.bind_some, Int.toNat_natCast, Sum.elim_inl, Sum.elim_inr, Int.cast_ofNat_Int, Int.reduceLT, Int.reduceLE, Int.reduceEq, Int.reduceAdd, Int.reduceSub, Int.reduceMul, Int.reduceNeg, Int.reduceToNat, Nat.reduceAdd, Nat.reduceSub, Nat.reduceMul, Nat.reduceEqDiff, Nat.reduceLT, reduceIte, reduceCtorEq, true_and, and_true, forall_const, not_true_eq_false, not_false_eq_true, false_implies, implies_true, hlt, e2, h49]
    refine pw_mono (pm_goes (T := T) (V := V) (s := s) hm3 hr1 ho (st := false) (n := n) (sd := zt_f T 7 + pj (k : Nat)) h50 hn60 rfl) (fun M4 hM4 => ?_)
    have c0 := (hM4.1.1 x (by omega)).1
    have hk2 := pm_k_trans hk3 (pm_w_k hM4.2)
    have hstep : pv_yr T V x v n (k + 1) = pv_yr T V x v n k + if pv_h (pv_run T (zt_f T 7 + pj k) false V n) x < v then 0 else 1 := rfl
    simp (disch := omega) only [pj_lit, pj_add, pj_sub, pj_neg, pj_mul, pj_lt, pj_eq, pj_nat, pj_ald, pj_ast, pj_ix, pw_bind, pw_ite, pw_some, pw_none, pw_let, Option.bind_some, Int.toNat_natCast, Sum.elim_inl, Sum.elim_inr, Int.cast_ofNat_Int, Int.reduceLT, Int.reduceLE, Int.reduceEq, Int.reduceAdd, Int.reduceSub, Int.reduceMul, Int.reduceNeg, Int.reduceToNat, Nat.reduceAdd, Nat.reduceSub, Nat.reduceMul, Nat.reduceEqDiff, Nat.reduceLT, reduceIte, reduceCtorEq, true_and, and_true, forall_const, not_true_eq_false, not_false_eq_true, false_implies, implies_true, c0]
    rw [hstep]
    refine ⟨fun q => ⟨M4, ?_, hk2⟩, fun q => ⟨M4, ?_, hk2⟩⟩
    · rw [if_pos q, Int.add_zero]; rfl
    · rw [if_neg q]; rfl
  · rintro t ⟨M1, rfl, h1⟩
    unfold gm_year_L41
    simp (disch := omega) only [pj_lit, pj_add, pj_sub, pj_neg, pj_mul, pj_lt, pj_eq, pj_nat, pj_ald, pj_ast, pj_ix, pw_bind, pw_ite, pw_some, pw_none, pw_let, Option.bind_some, Int.toNat_natCast, Sum.elim_inl, Sum.elim_inr, Int.cast_ofNat_Int, Int.reduceLT, Int.reduceLE, Int.reduceEq, Int.reduceAdd, Int.reduceSub, Int.reduceMul, Int.reduceNeg, Int.reduceToNat, Nat.reduceAdd, Nat.reduceSub, Nat.reduceMul, Nat.reduceEqDiff, Nat.reduceLT, reduceIte, reduceCtorEq, true_and, and_true, forall_const, not_true_eq_false, not_false_eq_true, false_implies, implies_true, Int.lt_irrefl]
    exact h1
theorem pq_year {T : zt_T} {M : cs_S} {Z : zm_S} {s : Nat} {V : pv_V} {H : List pv_V} {at_ : Nat} (h : pr_R0 T M Z s V H at_) (a1 a2 a3 a4 : Int32) :
    pw (gh_year T M a1 a2 a3 a4) (fun p => pw (gm_year Z a1 a2 a3 a4) (fun q => p.1 = q.1 ∧ pr_R T p.2 q.2)) := by
  obtain ⟨hT, hm, ho, hV, hsd, hrow, -⟩ := id h
  by_cases h1 : 0 ≤ a1.toInt ∧ a1.toInt < zt_n T
  · by_cases h2 : 0 ≤ a2.toInt ∧ a2.toInt ≤ 99
    · by_cases h3 : 0 ≤ a3.toInt ∧ a3.toInt ≤ 60
      · by_cases h4 : 1 ≤ a4.toInt ∧ a4.toInt ≤ 20
        · obtain ⟨x, rfl, hx⟩ := pj_house h1
          obtain ⟨n, rfl, hn60⟩ := pj_60 h3
          obtain ⟨m, rfl, hm1⟩ := pj_range (lo := 1) (hi := 20) h4
          rw [← pj_of a2]
          exact pr_q h _ (pc_yearq hT hV ho hsd hx h2 hn60 hm1) (pm_yearq hT hm ho hrow hx h2 hn60 hm1)
        · unfold gh_year gm_year
          rw [pc_isHouse M hT, pm_isHouse hT hm, decide_eq_true h1, pc_ahead, pm_long, decide_eq_true h3, pm_mark, decide_eq_true h2]
          simp (disch := omega) only [pj_lit, pj_add, pj_sub, pj_neg, pj_mul, pj_lt, pj_eq, pj_nat, pj_ald, pj_ast, pj_ix, pw_bind, pw_ite, pw_some, pw_none, pw_let, Option.bind_some, Int.toNat_natCast, Sum.elim_inl, Sum.elim_inr, Int.cast_ofNat_Int, Int.reduceLT, Int.reduceLE, Int.reduceEq, Int.reduceAdd, Int.reduceSub, Int.reduceMul, Int.reduceNeg, Int.reduceToNat, Nat.reduceAdd, Nat.reduceSub, Nat.reduceMul, Nat.reduceEqDiff, Nat.reduceLT, reduceIte, reduceCtorEq, true_and, and_true, forall_const, not_true_eq_false, not_false_eq_true, false_implies, implies_true, pc_isIn, pm_isIn, decide_eq_true h2, decide_eq_false h4, Bool.false_eq_true]
          exact ⟨s, V, H, at_, h⟩
      · unfold gh_year gm_year
        rw [pc_isHouse M hT, pm_isHouse hT hm, decide_eq_true h1, pc_ahead, pm_long, decide_eq_false h3, pm_mark, decide_eq_true h2]
        simp (disch := omega) only [pj_lit, pj_add, pj_sub, pj_neg, pj_mul, pj_lt, pj_eq, pj_nat, pj_ald, pj_ast, pj_ix, pw_bind, pw_ite, pw_some, pw_none, pw_let, Option.bind_some, Int.toNat_natCast, Sum.elim_inl, Sum.elim_inr, Int.cast_ofNat_Int, Int.reduceLT, Int.reduceLE, Int.reduceEq, Int.reduceAdd, Int.reduceSub, Int.reduceMul, Int.reduceNeg, Int.reduceToNat, Nat.reduceAdd, Nat.reduceSub, Nat.reduceMul, Nat.reduceEqDiff, Nat.reduceLT, reduceIte, reduceCtorEq, true_and, and_true, forall_const, not_true_eq_false, not_false_eq_true, false_implies, implies_true, pc_isIn, decide_eq_true h2, Bool.false_eq_true]
        exact ⟨s, V, H, at_, h⟩
    · unfold gh_year gm_year
      rw [pc_isHouse M hT, pm_isHouse hT hm, decide_eq_true h1, pm_mark, decide_eq_false h2]
      simp (disch := omega) only [pj_lit, pj_add, pj_sub, pj_neg, pj_mul, pj_lt, pj_eq, pj_nat, pj_ald, pj_ast, pj_ix, pw_bind, pw_ite, pw_some, pw_none, pw_let, Option.bind_some, Int.toNat_natCast, Sum.elim_inl, Sum.elim_inr, Int.cast_ofNat_Int, Int.reduceLT, Int.reduceLE, Int.reduceEq, Int.reduceAdd, Int.reduceSub, Int.reduceMul, Int.reduceNeg, Int.reduceToNat, Nat.reduceAdd, Nat.reduceSub, Nat.reduceMul, Nat.reduceEqDiff, Nat.reduceLT, reduceIte, reduceCtorEq, true_and, and_true, forall_const, not_true_eq_false, not_false_eq_true, false_implies, implies_true, pc_isIn, decide_eq_false h2, Bool.false_eq_true]
      exact ⟨s, V, H, at_, h⟩
  · unfold gh_year gm_year
    rw [pc_isHouse M hT, pm_isHouse hT hm, decide_eq_false h1]
    simp (disch := omega) only [pj_lit, pj_add, pj_sub, pj_neg, pj_mul, pj_lt, pj_eq, pj_nat, pj_ald, pj_ast, pj_ix, pw_bind, pw_ite, pw_some, pw_none, pw_let, Option.bind_some, Int.toNat_natCast, Sum.elim_inl, Sum.elim_inr, Int.cast_ofNat_Int, Int.reduceLT, Int.reduceLE, Int.reduceEq, Int.reduceAdd, Int.reduceSub, Int.reduceMul, Int.reduceNeg, Int.reduceToNat, Nat.reduceAdd, Nat.reduceSub, Nat.reduceMul, Nat.reduceEqDiff, Nat.reduceLT, reduceIte, reduceCtorEq, true_and, and_true, forall_const, not_true_eq_false, not_false_eq_true, false_implies, implies_true, Bool.false_eq_true]
    exact ⟨s, V, H, at_, h⟩
/-! how long it lasts, harvests -/
def pv_lasts (T : zt_T) (V : pv_V) (w : Int) : Int := match (List.range 61).find? (fun k => decide (0 ≤ pv_brk T (pv_run T (zt_f T 7) true V k) w)) with
  | some k => (k : Nat)
  | none => -2
theorem pv_lasts_at {T : zt_T} {V : pv_V} {w : Int} {k : Nat} (h : ∀ j, j < k → pv_brk T (pv_run T (zt_f T 7) true V j) w < 0) (hk : k < 61) (h2 : 0 ≤ pv_brk T (pv_run T (zt_f T 7) true V k) w) : pv_lasts T V w = k := by
  have : (List.range 61).find? (fun k => decide (0 ≤ pv_brk T (pv_run T (zt_f T 7) true V k) w)) = some k := by
    rw [List.find?_range_eq_some]
    exact ⟨decide_eq_true h2, List.mem_range.2 hk, fun j hj => by simpa using h j hj⟩
  unfold pv_lasts
  rw [this]
theorem pv_lasts_no {T : zt_T} {V : pv_V} {w : Int} (h : ∀ j, j < 61 → pv_brk T (pv_run T (zt_f T 7) true V j) w < 0) : pv_lasts T V w = -2 := by
  have : (List.range 61).find? (fun k => decide (0 ≤ pv_brk T (pv_run T (zt_f T 7) true V k) w)) = none := by
    rw [List.find?_eq_none]
    intro j hj
    simpa using h j (List.mem_range.1 hj)
  unfold pv_lasts
  rw [this]
theorem pq_lasts {T : zt_T} {M : cs_S} {Z : zm_S} {s : Nat} {V : pv_V} {H : List pv_V} {at_ : Nat} (h : pr_R0 T M Z s V H at_) (a : Int32) :
    pw (gh_lasts T M a) (fun p => pw (gm_lasts Z a) (fun q => p.1 = q.1 ∧ pr_R T p.2 q.2)) := by
  obtain ⟨hT, hm, ho, hV, hsd, hrow, -⟩ := id h
  have hn := hT.1
  by_cases hh : 0 ≤ a.toInt ∧ a.toInt ≤ 999
  · generalize hw : a.toInt = w at hh
    obtain rfl : a = pj w := by rw [← hw, pj_of]
    refine pr_q h (pj (pv_lasts T V w)) ?_ ?_
    · obtain ⟨M1, e1, v1, s1, w1⟩ := pc_trial hV ho hsd
      unfold gh_lasts
      rw [pc_haulw, hw, decide_eq_true hh]
      simp (disch := omega) only [pj_lit, pj_add, pj_sub, pj_neg, pj_mul, pj_lt, pj_eq, pj_nat, pj_ald, pj_ast, pj_ix, pw_bind, pw_ite, pw_some, pw_none, pw_let, Option.bind_some, Int.toNat_natCast, Sum.elim_inl, Sum.elim_inr, Int.cast_ofNat_Int, Int.reduceLT, Int.reduceLE, Int.reduceEq, Int.reduceAdd, Int.reduceSub, Int.reduceMul, Int.reduceNeg, Int.reduceToNat, Nat.reduceAdd, Nat.reduceSub, Nat.reduceMul, Nat.reduceEqDiff, Nat.reduceLT, reduceIte, reduceCtorEq, true_and, and_true, forall_const, not_true_eq_false, not_false_eq_true, false_implies, implies_true, e1]
      refine pw_for 61 (fun k t => ∃ M', t = (pj (k : Nat), M') ∧ pc_V M' 1 (pv_run T (zt_f T 7) true V k) ∧ M'.1 (10 + 1) 8 = zt_f T 7 ∧ pc_w 1 M M' ∧ ∀ j, j < k → pv_brk T (pv_run T (zt_f T 7) true V j) w < 0) 5000 (by omega) ?_ ?_ _ ⟨M1, rfl, v1, s1, w1, fun j hj => absurd hj (Nat.not_lt_zero j)⟩
      · rintro k t hk ⟨M2, rfl, v2, s2, w2, hj⟩
        have hlt : ¬ (60 < (k : Int)) := by omega
        have hok := pv_run_ok ho (zt_f T 7) true k
        have hbb := pv_brk_bd T hok w
        have hll := pv_len hok
        unfold gh_lasts_L22
        simp (disch := omega) only [pj_lit, pj_add, pj_sub, pj_neg, pj_mul, pj_lt, pj_eq, pj_nat, pj_ald, pj_ast, pj_ix, pw_bind, pw_ite, pw_some, pw_none, pw_let, Option.bind_some, Int.toNat_natCast, Sum.elim_inl, Sum.elim_inr, Int.cast_ofNat_Int, Int.reduceLT, Int.reduceLE, Int.reduceEq, Int.reduceAdd, Int.reduceSub, Int.reduceMul, Int.reduceNeg, Int.reduceToNat, Nat.reduceAdd, Nat.reduceSub, Nat.reduceMul, Nat.reduceEqDiff, Nat.reduceLT, reduceIte, reduceCtorEq, true_and, and_true, forall_const, not_true_eq_false, not_false_eq_true, false_implies, implies_true, hlt]
        refine pw_mono (pc_brk hT v2 hok (by omega) (by omega)) (fun p hp => ?_)
        have w3 := pc_w_trans w2 (pc_x_w 1 (pc_e_x hp.2))
        simp (disch := omega) only [pj_lit, pj_add, pj_sub, pj_neg, pj_mul, pj_lt, pj_eq, pj_nat, pj_ald, pj_ast, pj_ix, pw_bind, pw_ite, pw_some, pw_none, pw_let, Option.bind_some, Int.toNat_natCast, Sum.elim_inl, Sum.elim_inr, Int.cast_ofNat_Int, Int.reduceLT, Int.reduceLE, Int.reduceEq, Int.reduceAdd, Int.reduceSub, Int.reduceMul, Int.reduceNeg, Int.reduceToNat, Nat.reduceAdd, Nat.reduceSub, Nat.reduceMul, Nat.reduceEqDiff, Nat.reduceLT, reduceIte, reduceCtorEq, true_and, and_true, forall_const, not_true_eq_false, not_false_eq_true, false_implies, implies_true, hp.1]
        refine ⟨fun q => ?_, fun q => ⟨?_, pc_w_k w3⟩⟩
        · have s3 : p.2.1 (10 + 1) 8 = zt_f T 7 := (hp.2.1 _ _ (by omega)).trans s2
          refine pw_mono (pc_year hT (pc_V_e (by omega) hp.2 v2) hok (by omega) true) (fun M4 hM4 => ⟨M4, rfl, ?_, hM4.2.2.trans s3, pc_w_trans w3 hM4.2.1, fun j hj2 => ?_⟩)
          · rw [s3] at hM4; exact hM4.1
          · by_cases e : j = k
            · rw [e]; exact q
            · exact hj j (by omega)
        · rw [pv_lasts_at hj (by omega) (by omega)]
      · rintro t ⟨M2, rfl, v2, s2, w2, hj⟩
        have hlt : (60 < ((61 : Nat) : Int)) := by omega
        unfold gh_lasts_L22
        simp (disch := omega) only [pj_lit, pj_add, pj_sub, pj_neg, pj_mul, pj_lt, pj_eq, pj_nat, pj_ald, pj_ast, pj_ix, pw_bind, pw_ite, pw_some, pw_none, pw_let, Option.bind_some, Int.toNat_natCast, Sum.elim_inl, Sum.elim_inr, Int.cast_ofNat_Int, Int.reduceLT, Int.reduceLE, Int.reduceEq, Int.reduceAdd, Int.reduceSub, Int.reduceMul, Int.reduceNeg, Int.reduceToNat, Nat.reduceAdd, Nat.reduceSub, Nat.reduceMul, Nat.reduceEqDiff, Nat.reduceLT, reduceIte, reduceCtorEq, true_and, and_true, forall_const, not_true_eq_false, not_false_eq_true, false_implies, implies_true, hlt]
        rw [pv_lasts_no hj]
        exact ⟨rfl, pc_w_k w2⟩
    · obtain ⟨Z1, eZ, hc⟩ := pm_copies hm ho hrow
      have hk1 := pm_c_k hc
      obtain ⟨hm1, hr1, h49, h50, -⟩ := hc
      have htx : pm_tx Z1 (zm_sF Z1 50 (pj 1)) := ⟨rfl, fun _ _ => rfl⟩
      have hm2 := pm_T_tx htx hm1
      have hk2 : pm_k Z (zm_sF Z1 50 (pj 1)) := pm_k_trans hk1 ⟨fun j _ _ b _ => if_neg b, fun _ _ => rfl, rfl⟩
      have h50' : (zm_sF Z1 50 (pj 1)).1 50 = zs_b true := rfl
      have h49' : (zm_sF Z1 50 (pj 1)).1 49 = zt_f T 7 := h49
      have hr2 : pv_row ((zm_sF Z1 50 (pj 1)).2.1 48) V := hr1
      unfold gm_lasts gm_copiesStill
      rw [pm_weight, hw, decide_eq_true hh]
      simp (disch := omega) only [pj_lit, pj_add, pj_sub, pj_neg, pj_mul, pj_lt, pj_eq, pj_nat, pj_ald, pj_ast, pj_ix, pw_bind, pw_ite, pw_some, pw_none, pw_let, Option.bind_some, Int.toNat_natCast, Sum.elim_inl, Sum.elim_inr, Int.cast_ofNat_Int, Int.reduceLT, Int.reduceLE, Int.reduceEq, Int.reduceAdd, Int.reduceSub, Int.reduceMul, Int.reduceNeg, Int.reduceToNat, Nat.reduceAdd, Nat.reduceSub, Nat.reduceMul, Nat.reduceEqDiff, Nat.reduceLT, reduceIte, reduceCtorEq, true_and, and_true, forall_const, not_true_eq_false, not_false_eq_true, false_implies, implies_true, eZ]
      generalize zm_sF Z1 50 (pj 1) = Z2 at hm2 hk2 h50' h49' hr2
      refine pw_for 61 (fun k t => ∃ Z', t = (pj (k : Nat), Z') ∧ pv_row (Z'.2.1 48) (pv_run T (zt_f T 7) true V k) ∧ pm_w Z2 Z' ∧ ∀ j, j < k → pv_brk T (pv_run T (zt_f T 7) true V j) w < 0) 5000 (by omega) ?_ ?_ _ ⟨Z2, rfl, hr2, pm_w_rfl Z2, fun j hj => absurd hj (Nat.not_lt_zero j)⟩
      · rintro k t hk ⟨Z3, rfl, r3, w3, hj⟩
        have hlt : ¬ (60 < (k : Int)) := by omega
        have hok := pv_run_ok ho (zt_f T 7) true k
        have hbb := pv_brk_bd T hok w
        have hll := pv_len hok
        have hm3 := pm_T_w w3 hm2
        unfold gm_lasts_L15
        simp (disch := omega) only [pj_lit, pj_add, pj_sub, pj_neg, pj_mul, pj_lt, pj_eq, pj_nat, pj_ald, pj_ast, pj_ix, pw_bind, pw_ite, pw_some, pw_none, pw_let, Option.bind_some, Int.toNat_natCast, Sum.elim_inl, Sum.elim_inr, Int.cast_ofNat_Int, Int.reduceLT, Int.reduceLE, Int.reduceEq, Int.reduceAdd, Int.reduceSub, Int.reduceMul, Int.reduceNeg, Int.reduceToNat, Nat.reduceAdd, Nat.reduceSub, Nat.reduceMul, Nat.reduceEqDiff, Nat.reduceLT, reduceIte, reduceCtorEq, true_and, and_true, forall_const, not_true_eq_false, not_false_eq_true, false_implies, implies_true, hlt]
        refine pw_mono (pm_brk hT hm3 r3 hok (by omega)) (fun p hp => ?_)
        have w4 := pm_w_trans w3 (pm_x_w (pm_e_x hp.2))
        simp (disch := omega) only [pj_lit, pj_add, pj_sub, pj_neg, pj_mul, pj_lt, pj_eq, pj_nat, pj_ald, pj_ast, pj_ix, pw_bind, pw_ite, pw_some, pw_none, pw_let, Option.bind_some, Int.toNat_natCast, Sum.elim_inl, Sum.elim_inr, Int.cast_ofNat_Int, Int.reduceLT, Int.reduceLE, Int.reduceEq, Int.reduceAdd, Int.reduceSub, Int.reduceMul, Int.reduceNeg, Int.reduceToNat, Nat.reduceAdd, Nat.reduceSub, Nat.reduceMul, Nat.reduceEqDiff, Nat.reduceLT, reduceIte, reduceCtorEq, true_and, and_true, forall_const, not_true_eq_false, not_false_eq_true, false_implies, implies_true, hp.1]
        refine ⟨fun q => ?_, fun q => ⟨?_, pm_k_trans hk2 (pm_w_k w4)⟩⟩
        · refine pw_mono (pm_year (pm_T_w w4 hm2) (pm_row_e hp.2 r3) hok ((w4.1 50 (by decide)).trans h50')) (fun M4 hM4 => ⟨M4, rfl, ?_, pm_w_trans w4 hM4.2, fun j hj2 => ?_⟩)
          · rw [w4.1 49 (by decide), h49'] at hM4; exact hM4.1
          · by_cases e : j = k
            · rw [e]; exact q
            · exact hj j (by omega)
        · rw [pv_lasts_at hj (by omega) (by omega)]
      · rintro t ⟨Z3, rfl, r3, w3, hj⟩
        have hlt : (60 < ((61 : Nat) : Int)) := by omega
        unfold gm_lasts_L15
        simp (disch := omega) only [pj_lit, pj_add, pj_sub, pj_neg, pj_mul, pj_lt, pj_eq, pj_nat, pj_ald, pj_ast, pj_ix, pw_bind, pw_ite, pw_some, pw_none, pw_let, Option.bind_some, Int.toNat_natCast, Sum.elim_inl, Sum.elim_inr, Int.cast_ofNat_Int, Int.reduceLT, Int.reduceLE, Int.reduceEq, Int.reduceAdd, Int.reduceSub, Int.reduceMul, Int.reduceNeg, Int.reduceToNat, Nat.reduceAdd, Nat.reduceSub, Nat.reduceMul, Nat.reduceEqDiff, Nat.reduceLT, reduceIte, reduceCtorEq, true_and, and_true, forall_const, not_true_eq_false, not_false_eq_true, false_implies, implies_true, hlt]
        rw [pv_lasts_no hj]
        exact ⟨rfl, pm_k_trans hk2 (pm_w_k w3)⟩
  · unfold gh_lasts gm_lasts
    rw [pc_haulw, pm_weight, decide_eq_false hh]
    simp (disch := omega) only [pj_lit, pj_add, pj_sub, pj_neg, pj_mul, pj_lt, pj_eq, pj_nat, pj_ald, pj_ast, pj_ix, pw_bind, pw_ite, pw_some, pw_none, pw_let, Option.bind_some, Int.toNat_natCast, Sum.elim_inl, Sum.elim_inr, Int.cast_ofNat_Int, Int.reduceLT, Int.reduceLE, Int.reduceEq, Int.reduceAdd, Int.reduceSub, Int.reduceMul, Int.reduceNeg, Int.reduceToNat, Nat.reduceAdd, Nat.reduceSub, Nat.reduceMul, Nat.reduceEqDiff, Nat.reduceLT, reduceIte, reduceCtorEq, true_and, and_true, forall_const, not_true_eq_false, not_false_eq_true, false_implies, implies_true, Bool.false_eq_true]
    exact ⟨s, V, H, at_, h⟩
/-- its hair is taken -/
def pv_cut (V : pv_V) (x : Nat) : pv_V := (fun h => if h = x then 0 else pv_h V h, pv_p V, pv_s V, pv_g V, pv_r V, pv_y V, pv_d V)
theorem pv_cut_ok {n : Nat} {V : pv_V} (ho : pv_ok n V) (x : Nat) : pv_ok n (pv_cut V x) := by
  refine ⟨ho.1, fun h hh => ?_, ho.2.2.1, ho.2.2.2.1, fun h h1 h2 => ?_⟩
  · have h3 := ho.2.1 h hh
    refine ⟨?_, ?_, h3.2.2⟩
    · show 0 ≤ if h = x then 0 else pv_h V h
      split <;> omega
    · show (if h = x then 0 else pv_h V h) ≤ 99
      split <;> omega
  · refine ⟨?_, (ho.2.2.2.2 h h1 h2).2⟩
    show (if h = x then 0 else pv_h V h) = 0
    rw [(ho.2.2.2.2 h h1 h2).1]; split <;> rfl
theorem pc_cut {M : cs_S} {i : Nat} {V : pv_V} (hV : pc_V M i V) {x : Nat} (hx : x < 6) : pc_V (cs_sA M (10 + i) 0 (pj x) (pj 0)) i (pv_cut V x) := by
  obtain ⟨g1, g2, g3, g4, g5⟩ := hV
  refine ⟨fun h hh => ⟨?_, ?_, ?_, ?_⟩, g2, fun k y e => ?_, g4, g5⟩
  · rw [pc_sA2s, pj_upd, pj_nat (by omega), Int.toNat_natCast]
    show _ = pj (if h = x then 0 else pv_h V h)
    by_cases e : h = x
    · rw [if_pos e, if_pos e]
    · rw [if_neg e, if_neg e]; exact (g1 h hh).1
  · rw [pc_sA2n (by omega)]; exact (g1 h hh).2.1
  · rw [pc_sA2n (by omega)]; exact (g1 h hh).2.2.1
  · rw [pc_sA2n (by omega)]; exact (g1 h hh).2.2.2
  · rw [pc_sA2n (by omega)]; exact g3 k y e
theorem pm_cut {n : Nat} {Z : zm_S} {V : pv_V} (ho : pv_ok n V) (hV : pv_row (Z.2.1 48) V) {x : Nat} (hx : x < 6) : pv_row ((zm_sA Z 48 (pj x) (pj 0)).2.1 48) (pv_cut V x) := by
  obtain ⟨g1, g2, g3, g4, g5⟩ := hV
  have cell : ∀ y, (zm_sA Z 48 (pj x) (pj 0)).2.1 48 y = if y = x then pj 0 else Z.2.1 48 y := fun y => by rw [pm_sAs, pj_upd, pj_nat (by omega), Int.toNat_natCast]
  refine ⟨fun h hh => ⟨?_, ?_, ?_, ?_⟩, ?_, fun k y e => ?_, ?_, ?_⟩
  · rw [cell]
    show _ = pj (if h = x then 0 else pv_h V h)
    by_cases e : h = x
    · rw [if_pos e, if_pos e]
    · rw [if_neg e, if_neg e]; exact (g1 h hh).1
  · rw [cell, if_neg (by omega)]; exact (g1 h hh).2.1
  · rw [cell, if_neg (by omega)]; exact (g1 h hh).2.2.1
  · rw [cell, if_neg (by omega)]; exact (g1 h hh).2.2.2
  · rw [cell, if_neg (by omega)]; exact g2
  · rw [cell, if_neg (by omega)]; exact g3 k y e
  · rw [cell, if_neg (by omega)]; exact g4
  · rw [cell, if_neg (by omega)]; exact g5
def pv_gv (T : zt_T) (V : pv_V) (x n g : Nat) : Nat → Int × pv_V
  | 0 => (0, V)
  | k + 1 => if (k + 1) % g = 0 ∨ k + 1 = n then ((pv_gv T V x n g k).1 + pv_h (pv_year T (zt_f T 7) true (pv_gv T V x n g k).2) x, pv_cut (pv_year T (zt_f T 7) true (pv_gv T V x n g k).2) x) else ((pv_gv T V x n g k).1, pv_year T (zt_f T 7) true (pv_gv T V x n g k).2)
theorem pv_gv_ok {T : zt_T} {V : pv_V} (ho : pv_ok (zt_n T) V) {x : Nat} (n g : Nat) : ∀ k, pv_ok (zt_n T) (pv_gv T V x n g k).2
  | 0 => ho
  | k + 1 => by
    have h1 := pv_year_ok (pv_gv_ok ho (x := x) n g k) (zt_f T 7) true
    unfold pv_gv
    split
    · exact pv_cut_ok h1 x
    · exact h1
theorem pv_gv_bd {T : zt_T} {V : pv_V} (ho : pv_ok (zt_n T) V) {x : Nat} (hx : x < 6) (n g : Nat) : ∀ k, 0 ≤ (pv_gv T V x n g k).1 ∧ (pv_gv T V x n g k).1 ≤ 99 * k
  | 0 => ⟨Int.le_refl _, Int.le_refl _⟩
  | k + 1 => by
    have h1 := pv_gv_bd ho hx n g k
    have h2 := (pv_year_ok (pv_gv_ok ho (x := x) n g k) (zt_f T 7) true).2.1 x hx
    unfold pv_gv
    split
    · dsimp only; omega
    · dsimp only; omega
theorem pc_given {T : zt_T} {M : cs_S} {V : pv_V} (hT : pt_ok T) (hV : pc_V M 0 V) (ho : pv_ok (zt_n T) V) (hsd : M.1 (10 + 0) 8 = zt_f T 7) {x n g : Nat} (hx : x < zt_n T) (hn60 : n ≤ 60) (hg : 1 ≤ g ∧ g ≤ 60) :
    pw (gh_givenBy T M (pj x) (pj n) (pj g)) (fun p => p.1 = pj (pv_gv T V x n g n).1 ∧ pc_w 1 M p.2) := by
  have hn := hT.1
  obtain ⟨M1, e1, v1, s1, w1⟩ := pc_trial hV ho hsd
  unfold gh_givenBy
  simp (disch := omega) only [pj_lit, pj_add, pj_sub, pj_neg, pj_mul, pj_lt, pj_eq, pj_nat, pj_ald, pj_ast, pj_ix, pw_bind, pw_ite, pw_some, pw_none, pw_let, Option.bind_some, Int.toNat_natCast, Sum.elim_inl, Sum.elim_inr, Int.cast_ofNat_Int, Int.reduceLT, Int.reduceLE, Int.reduceEq, Int.reduceAdd, Int.reduceSub, Int.reduceMul, Int.reduceNeg, Int.reduceToNat, Nat.reduceAdd, Nat.reduceSub, Nat.reduceMul, Nat.reduceEqDiff, Nat.reduceLT, reduceIte, reduceCtorEq, true_and, and_true, forall_const, not_true_eq_false, not_false_eq_true, false_implies, implies_true, e1]
  refine pw_for n (fun k t => ∃ M', t = (pj (pv_gv T V x n g k).1, pj ((1 + k : Nat) : Int), M') ∧ pc_V M' 1 (pv_gv T V x n g k).2 ∧ M'.1 (10 + 1) 8 = zt_f T 7 ∧ pc_w 1 M M') 5000 (by omega) ?_ ?_ _ ⟨M1, rfl, v1, s1, w1⟩
  · rintro k t hk ⟨M2, rfl, v2, s2, w2⟩
    have hlt : ¬ ((n : Int) < ((1 + k : Nat) : Int)) := by omega
    have hok := pv_gv_ok ho (x := x) n g k
    have hstep : pv_gv T V x n g (k + 1) = if (k + 1) % g = 0 ∨ k + 1 = n then ((pv_gv T V x n g k).1 + pv_h (pv_year T (zt_f T 7) true (pv_gv T V x n g k).2) x, pv_cut (pv_year T (zt_f T 7) true (pv_gv T V x n g k).2) x) else ((pv_gv T V x n g k).1, pv_year T (zt_f T 7) true (pv_gv T V x n g k).2) := rfl
    have hr : zs_mod (pj ((1 + k : Nat) : Int)) (pj (g : Nat)) = some (pj (((k + 1) % g : Nat) : Int)) := by
      unfold zs_mod
      rw [if_neg (fun q => by have := (pj_eq (b := 0) (by omega) (by omega)).1 q; omega), pj_remN (by omega) (by omega), Nat.add_comm 1 k]
    have hlm : (k + 1) % g < g := Nat.mod_lt _ (by omega)
    rw [hstep]
    unfold gh_givenBy_L17
    generalize pv_gv T V x n g k = st at v2 hok
    simp (disch := omega) only [pj_lit, pj_add, pj_sub, pj_neg, pj_mul, pj_lt, pj_eq, pj_nat, pj_ald, pj_ast, pj_ix, pw_bind, pw_ite, pw_some, pw_none, pw_let, Option.bind_some, Int.toNat_natCast, Sum.elim_inl, Sum.elim_inr, Int.cast_ofNat_Int, Int.reduceLT, Int.reduceLE, Int.reduceEq, Int.reduceAdd, Int.reduceSub, Int.reduceMul, Int.reduceNeg, Int.reduceToNat, Nat.reduceAdd, Nat.reduceSub, Nat.reduceMul, Nat.reduceEqDiff, Nat.reduceLT, reduceIte, reduceCtorEq, true_and, and_true, forall_const, not_true_eq_false, not_false_eq_true, false_implies, implies_true, hlt, hr]
    refine pw_mono (pc_year hT v2 hok (by omega) true) (fun M4 hM4 => ?_)
    have w3 := pc_w_trans w2 hM4.2.1
    rw [s2] at hM4
    obtain ⟨v4, -, s4⟩ := hM4
    have c0 := (v4.1 x (by omega)).1
    have v5 := pc_cut v4 (x := x) (by omega)
    have w5 := pc_w_trans w3 (pc_w_A (M := M4) (i := 1) 0 (pj (x : Nat)) (pj 0))
    simp (disch := omega) only [pj_lit, pj_add, pj_sub, pj_neg, pj_mul, pj_lt, pj_eq, pj_nat, pj_ald, pj_ast, pj_ix, pw_bind, pw_ite, pw_some, pw_none, pw_let, Option.bind_some, Int.toNat_natCast, Sum.elim_inl, Sum.elim_inr, Int.cast_ofNat_Int, Int.reduceLT, Int.reduceLE, Int.reduceEq, Int.reduceAdd, Int.reduceSub, Int.reduceMul, Int.reduceNeg, Int.reduceToNat, Nat.reduceAdd, Nat.reduceSub, Nat.reduceMul, Nat.reduceEqDiff, Nat.reduceLT, reduceIte, reduceCtorEq, true_and, and_true, forall_const, not_true_eq_false, not_false_eq_true, false_implies, implies_true, c0]
    refine ⟨fun q => ⟨cs_sA M4 (10 + 1) 0 (pj (x : Nat)) (pj 0), ?_, ?_, s4, w5⟩, fun q => ⟨fun q2 => ⟨cs_sA M4 (10 + 1) 0 (pj (x : Nat)) (pj 0), ?_, ?_, s4, w5⟩, fun q2 => ⟨M4, ?_, ?_, s4, w3⟩⟩⟩
    · rw [if_pos (Or.inl (by omega))]; congr 2
    · rw [if_pos (Or.inl (by omega))]; exact v5
    · rw [if_pos (Or.inr (by omega))]; congr 2
    · rw [if_pos (Or.inr (by omega))]; exact v5
    · rw [if_neg (by omega)]; congr 2
    · rw [if_neg (by omega)]; exact v4
  · rintro t ⟨M2, rfl, v2, s2, w2⟩
    have hlt : ((n : Int) < ((1 + n : Nat) : Int)) := by omega
    unfold gh_givenBy_L17
    simp (disch := omega) only [pj_lit, pj_add, pj_sub, pj_neg, pj_mul, pj_lt, pj_eq, pj_nat, pj_ald, pj_ast, pj_ix, pw_bind, pw_ite, pw_some, pw_none, pw_let, Option.bind_some, Int.toNat_natCast, Sum.elim_inl, Sum.elim_inr, Int.cast_ofNat_Int, Int.reduceLT, Int.reduceLE, Int.reduceEq, Int.reduceAdd, Int.reduceSub, Int.reduceMul, Int.reduceNeg, Int.reduceToNat, Nat.reduceAdd, Nat.reduceSub, Nat.reduceMul, Nat.reduceEqDiff, Nat.reduceLT, reduceIte, reduceCtorEq, true_and, and_true, forall_const, not_true_eq_false, not_false_eq_true, false_implies, implies_true, hlt]
    exact w2
theorem pm_given {T : zt_T} {s : Nat} {Z : zm_S} {V : pv_V} (hT : pt_ok T) (hm : pm_T T s Z) (ho : pv_ok (zt_n T) V) (hrow : pv_row (Z.2.1 47) V) {x n g : Nat} (hx : x < zt_n T) (hn60 : n ≤ 60) (hg : 1 ≤ g ∧ g ≤ 60) :
    pw (gm_harvestOf Z (pj x) (pj n) (pj g)) (fun p => p.1 = pj (pv_gv T V x n g n).1 ∧ pm_k Z p.2) := by
  have hn := hT.1
  obtain ⟨Z1, eZ, hc⟩ := pm_copies hm ho hrow
  have hk1 := pm_c_k hc
  obtain ⟨hm1, hr1, h49, h50, -⟩ := hc
  have htx : pm_tx Z1 (zm_sF Z1 50 (pj 1)) := ⟨rfl, fun _ _ => rfl⟩
  have hm2 := pm_T_tx htx hm1
  have hk2 : pm_k Z (zm_sF Z1 50 (pj 1)) := pm_k_trans hk1 ⟨fun j _ _ b _ => if_neg b, fun _ _ => rfl, rfl⟩
  have h50' : (zm_sF Z1 50 (pj 1)).1 50 = zs_b true := rfl
  have h49' : (zm_sF Z1 50 (pj 1)).1 49 = zt_f T 7 := h49
  have hr2 : pv_row ((zm_sF Z1 50 (pj 1)).2.1 48) V := hr1
  unfold gm_harvestOf gm_copiesStill
  simp (disch := omega) only [pj_lit, pj_add, pj_sub, pj_neg, pj_mul, pj_lt, pj_eq, pj_nat, pj_ald, pj_ast, pj_ix, pw_bind, pw_ite, pw_some, pw_none, pw_let, Option.bind_some, Int.toNat_natCast, Sum.elim_inl, Sum.elim_inr, Int.cast_ofNat_Int, Int.reduceLT, Int.reduceLE, Int.reduceEq, Int.reduceAdd, Int.reduceSub, Int.reduceMul, Int.reduceNeg, Int.reduceToNat, Nat.reduceAdd, Nat.reduceSub, Nat.reduceMul, Nat.reduceEqDiff, Nat.reduceLT, reduceIte, reduceCtorEq, true_and, and_true, forall_const, not_true_eq_false, not_false_eq_true, false_implies, implies_true, eZ]
  generalize zm_sF Z1 50 (pj 1) = Z2 at hm2 hk2 h50' h49' hr2
  refine pw_for n (fun k t => ∃ Z', t = (pj (pv_gv T V x n g k).1, pj ((1 + k : Nat) : Int), Z') ∧ pv_row (Z'.2.1 48) (pv_gv T V x n g k).2 ∧ pm_w Z2 Z') 5000 (by omega) ?_ ?_ _ ⟨Z2, rfl, hr2, pm_w_rfl Z2⟩
  · rintro k t hk ⟨Z3, rfl, v2, w2⟩
    have hlt : ¬ ((n : Int) < ((1 + k : Nat) : Int)) := by omega
    have hok := pv_gv_ok ho (x := x) n g k
    have hstep : pv_gv T V x n g (k + 1) = if (k + 1) % g = 0 ∨ k + 1 = n then ((pv_gv T V x n g k).1 + pv_h (pv_year T (zt_f T 7) true (pv_gv T V x n g k).2) x, pv_cut (pv_year T (zt_f T 7) true (pv_gv T V x n g k).2) x) else ((pv_gv T V x n g k).1, pv_year T (zt_f T 7) true (pv_gv T V x n g k).2) := rfl
    have hr : zs_mod (pj ((1 + k : Nat) : Int)) (pj (g : Nat)) = some (pj (((k + 1) % g : Nat) : Int)) := by
      unfold zs_mod
      rw [if_neg (fun q => by have := (pj_eq (b := 0) (by omega) (by omega)).1 q; omega), pj_remN (by omega) (by omega), Nat.add_comm 1 k]
    have hlm : (k + 1) % g < g := Nat.mod_lt _ (by omega)
    rw [hstep]
    unfold gm_harvestOf_L10
    generalize pv_gv T V x n g k = st at v2 hok
    simp (disch := omega) only [pj_lit, pj_add, pj_sub, pj_neg, pj_mul, pj_lt, pj_eq, pj_nat, pj_ald, pj_ast, pj_ix, pw_bind, pw_ite, pw_some, pw_none, pw_let, Option.bind_some, Int.toNat_natCast, Sum.elim_inl, Sum.elim_inr, Int.cast_ofNat_Int, Int.reduceLT, Int.reduceLE, Int.reduceEq, Int.reduceAdd, Int.reduceSub, Int.reduceMul, Int.reduceNeg, Int.reduceToNat, Nat.reduceAdd, Nat.reduceSub, Nat.reduceMul, Nat.reduceEqDiff, Nat.reduceLT, reduceIte, reduceCtorEq, true_and, and_true, forall_const, not_true_eq_false, not_false_eq_true, false_implies, implies_true, hlt, hr]
    refine pw_mono (pm_year (pm_T_w w2 hm2) v2 hok ((w2.1 50 (by decide)).trans h50')) (fun M4 hM4 => ?_)
    have w3 := pm_w_trans w2 hM4.2
    rw [w2.1 49 (by decide), h49'] at hM4
    have v4 := hM4.1
    have hok4 := pv_year_ok hok (zt_f T 7) true
    have c0 := (v4.1 x (by omega)).1
    have v5 := pm_cut hok4 v4 (x := x) (by omega)
    have w5 := pm_w_trans w3 (pm_w_A (Z := M4) (pj (x : Nat)) (pj 0))
    simp (disch := omega) only [pj_lit, pj_add, pj_sub, pj_neg, pj_mul, pj_lt, pj_eq, pj_nat, pj_ald, pj_ast, pj_ix, pw_bind, pw_ite, pw_some, pw_none, pw_let, Option.bind_some, Int.toNat_natCast, Sum.elim_inl, Sum.elim_inr, Int.cast_ofNat_Int, Int.reduceLT, Int.reduceLE, Int.reduceEq, Int.reduceAdd, Int.reduceSub, Int.reduceMul, Int.reduceNeg, Int.reduceToNat, Nat.reduceAdd, Nat.reduceSub, Nat.reduceMul, Nat.reduceEqDiff, Nat.reduceLT, reduceIte, reduceCtorEq, true_and, and_true, forall_const, not_true_eq_false, not_false_eq_true, false_implies, implies_true, c0]
    refine ⟨fun q => ⟨fun q2 => ⟨M4, ?_, ?_, w3⟩, fun q2 => ⟨zm_sA M4 48 (pj (x : Nat)) (pj 0), ?_, ?_, w5⟩⟩, fun q => ⟨zm_sA M4 48 (pj (x : Nat)) (pj 0), ?_, ?_, w5⟩⟩
    · rw [if_neg (by omega)]; congr 2
    · rw [if_neg (by omega)]; exact v4
    · rw [if_pos (Or.inr (by omega))]; congr 2
    · rw [if_pos (Or.inr (by omega))]; exact v5
    · rw [if_pos (Or.inl (by omega))]; congr 2
    · rw [if_pos (Or.inl (by omega))]; exact v5
  · rintro t ⟨M2, rfl, v2, w2⟩
    have hlt : ((n : Int) < ((1 + n : Nat) : Int)) := by omega
    unfold gm_harvestOf_L10
    simp (disch := omega) only [pj_lit, pj_add, pj_sub, pj_neg, pj_mul, pj_lt, pj_eq, pj_nat, pj_ald, pj_ast, pj_ix, pw_bind, pw_ite, pw_some, pw_none, pw_let, Option.bind_some, Int.toNat_natCast, Sum.elim_inl, Sum.elim_inr, Int.cast_ofNat_Int, Int.reduceLT, Int.reduceLE, Int.reduceEq, Int.reduceAdd, Int.reduceSub, Int.reduceMul, Int.reduceNeg, Int.reduceToNat, Nat.reduceAdd, Nat.reduceSub, Nat.reduceMul, Nat.reduceEqDiff, Nat.reduceLT, reduceIte, reduceCtorEq, true_and, and_true, forall_const, not_true_eq_false, not_false_eq_true, false_implies, implies_true, hlt]
    exact pm_k_trans hk2 (pm_w_k w2)
def pv_hv (T : zt_T) (V : pv_V) (x n : Nat) : Nat → Int × Int
  | 0 => (0, -1)
  | k + 1 => if (pv_hv T V x n k).2 < (pv_gv T V x n (k + 1) n).1 then (((k + 1 : Nat) : Int), (pv_gv T V x n (k + 1) n).1) else pv_hv T V x n k
theorem pv_hv_bd {T : zt_T} {V : pv_V} (ho : pv_ok (zt_n T) V) {x n : Nat} (hx : x < 6) (hn : n ≤ 60) : ∀ k, -1 ≤ (pv_hv T V x n k).2 ∧ (pv_hv T V x n k).2 ≤ 6000
  | 0 => ⟨Int.le_refl _, by show (-1 : Int) ≤ 6000; omega⟩
  | k + 1 => by
    have h1 := pv_hv_bd ho hx hn k
    have h2 := pv_gv_bd ho hx n (k + 1) n
    unfold pv_hv
    split
    · dsimp only; omega
    · exact h1
theorem pq_harvest {T : zt_T} {M : cs_S} {Z : zm_S} {s : Nat} {V : pv_V} {H : List pv_V} {at_ : Nat} (h : pr_R0 T M Z s V H at_) (a1 a2 a3 : Int32) :
    pw (gh_harvest T M a1 a2 a3) (fun p => pw (gm_harvest Z a1 a2 a3) (fun q => p.1 = q.1 ∧ pr_R T p.2 q.2)) := by
  obtain ⟨hT, hm, ho, hV, hsd, hrow, -⟩ := id h
  have hn := hT.1
  by_cases h1 : 0 ≤ a1.toInt ∧ a1.toInt < zt_n T
  · by_cases h2 : 1 ≤ a2.toInt ∧ a2.toInt ≤ 60
    · by_cases h3 : 0 ≤ a3.toInt ∧ a3.toInt ≤ 1
      · obtain ⟨x, rfl, hx⟩ := pj_house h1
        obtain ⟨n, rfl, hn1, hn60⟩ := pj_range (lo := 1) (hi := 60) h2
        refine pr_q h (if a3 = 0 then pj (pv_hv T V x n n).1 else pj (pv_hv T V x n n).2) ?_ ?_
        · unfold gh_harvest
          rw [pc_isHouse M hT, decide_eq_true h1]
          simp (disch := omega) only [pj_lit, pj_add, pj_sub, pj_neg, pj_mul, pj_lt, pj_eq, pj_nat, pj_ald, pj_ast, pj_ix, pw_bind, pw_ite, pw_some, pw_none, pw_let, Option.bind_some, Int.toNat_natCast, Sum.elim_inl, Sum.elim_inr, Int.cast_ofNat_Int, Int.reduceLT, Int.reduceLE, Int.reduceEq, Int.reduceAdd, Int.reduceSub, Int.reduceMul, Int.reduceNeg, Int.reduceToNat, Nat.reduceAdd, Nat.reduceSub, Nat.reduceMul, Nat.reduceEqDiff, Nat.reduceLT, reduceIte, reduceCtorEq, true_and, and_true, forall_const, not_true_eq_false, not_false_eq_true, false_implies, implies_true, pc_isIn, decide_eq_true h2, decide_eq_true h3]
          refine pw_mono (Q := fun r : Int32 × Int32 × cs_S => r.1 = pj (pv_hv T V x n n).1 ∧ r.2.1 = pj (pv_hv T V x n n).2 ∧ pc_w 1 M r.2.2) ?_ ?_
          · refine pw_for n (fun k t => ∃ M', t = (pj (pv_hv T V x n k).1, pj (pv_hv T V x n k).2, pj ((1 + k : Nat) : Int), M') ∧ pc_w 1 M M') 5000 (by omega) ?_ ?_ _ ⟨M, rfl, pc_w_rfl 1 M⟩
            · rintro k t hk ⟨M2, rfl, w2⟩
              have hlt : ¬ ((n : Int) < ((1 + k : Nat) : Int)) := by omega
              have hb := pv_hv_bd (T := T) ho (x := x) (n := n) (by omega) hn60 k
              have hgb := pv_gv_bd (T := T) ho (x := x) (by omega) n (k + 1) n
              have hstep : pv_hv T V x n (k + 1) = if (pv_hv T V x n k).2 < (pv_gv T V x n (k + 1) n).1 then (((k + 1 : Nat) : Int), (pv_gv T V x n (k + 1) n).1) else pv_hv T V x n k := rfl
              rw [hstep]
              unfold gh_harvest_L38
              generalize pv_hv T V x n k = st at hb
              simp (disch := omega) only [pj_lit, pj_add, pj_sub, pj_neg, pj_mul, pj_lt, pj_eq, pj_nat, pj_ald, pj_ast, pj_ix, pw_bind, pw_ite, pw_some, pw_none, pw_let, Option.bind_some, Int.toNat_natCast, Sum.elim_inl, Sum.elim_inr, Int.cast_ofNat_Int, Int.reduceLT, Int.reduceLE, Int.reduceEq, Int.reduceAdd, Int.reduceSub, Int.reduceMul, Int.reduceNeg, Int.reduceToNat, Nat.reduceAdd, Nat.reduceSub, Nat.reduceMul, Nat.reduceEqDiff, Nat.reduceLT, reduceIte, reduceCtorEq, true_and, and_true, forall_const, not_true_eq_false, not_false_eq_true, false_implies, implies_true, hlt]
              rw [Nat.add_comm 1 k]
              refine pw_mono (pc_given hT (pc_V_w (by omega) (by omega) w2 hV) ho ((w2.1 _ _ (by omega) (by omega)).trans hsd) hx hn60 (g := k + 1) (by omega)) (fun p hp => ?_)
              have w3 := pc_w_trans w2 hp.2
              simp (disch := omega) only [pj_lit, pj_add, pj_sub, pj_neg, pj_mul, pj_lt, pj_eq, pj_nat, pj_ald, pj_ast, pj_ix, pw_bind, pw_ite, pw_some, pw_none, pw_let, Option.bind_some, Int.toNat_natCast, Sum.elim_inl, Sum.elim_inr, Int.cast_ofNat_Int, Int.reduceLT, Int.reduceLE, Int.reduceEq, Int.reduceAdd, Int.reduceSub, Int.reduceMul, Int.reduceNeg, Int.reduceToNat, Nat.reduceAdd, Nat.reduceSub, Nat.reduceMul, Nat.reduceEqDiff, Nat.reduceLT, reduceIte, reduceCtorEq, true_and, and_true, forall_const, not_true_eq_false, not_false_eq_true, false_implies, implies_true, hp.1]
              refine ⟨fun q => ⟨p.2, ?_, w3⟩, fun q => ⟨p.2, ?_, w3⟩⟩
              · rw [if_pos q]; congr 3; congr 1; omega
              · rw [if_neg q]; congr 3; congr 1; omega
            · rintro t ⟨M2, rfl, w2⟩
              have hlt : ((n : Int) < ((1 + n : Nat) : Int)) := by omega
              unfold gh_harvest_L38
              simp (disch := omega) only [pj_lit, pj_add, pj_sub, pj_neg, pj_mul, pj_lt, pj_eq, pj_nat, pj_ald, pj_ast, pj_ix, pw_bind, pw_ite, pw_some, pw_none, pw_let, Option.bind_some, Int.toNat_natCast, Sum.elim_inl, Sum.elim_inr, Int.cast_ofNat_Int, Int.reduceLT, Int.reduceLE, Int.reduceEq, Int.reduceAdd, Int.reduceSub, Int.reduceMul, Int.reduceNeg, Int.reduceToNat, Nat.reduceAdd, Nat.reduceSub, Nat.reduceMul, Nat.reduceEqDiff, Nat.reduceLT, reduceIte, reduceCtorEq, true_and, and_true, forall_const, not_true_eq_false, not_false_eq_true, false_implies, implies_true, hlt]
              exact w2
          · rintro ⟨x1, x2, M2⟩ ⟨q1, q2, q3⟩
            dsimp only at q1 q2 q3
            subst q1 q2
            simp (disch := omega) only [pj_lit, pj_add, pj_sub, pj_neg, pj_mul, pj_lt, pj_eq, pj_nat, pj_ald, pj_ast, pj_ix, pw_bind, pw_ite, pw_some, pw_none, pw_let, Option.bind_some, Int.toNat_natCast, Sum.elim_inl, Sum.elim_inr, Int.cast_ofNat_Int, Int.reduceLT, Int.reduceLE, Int.reduceEq, Int.reduceAdd, Int.reduceSub, Int.reduceMul, Int.reduceNeg, Int.reduceToNat, Nat.reduceAdd, Nat.reduceSub, Nat.reduceMul, Nat.reduceEqDiff, Nat.reduceLT, reduceIte, reduceCtorEq, true_and, and_true, forall_const, not_true_eq_false, not_false_eq_true, false_implies, implies_true]
            exact ⟨fun q => ⟨by rw [if_pos q], pc_w_k q3⟩, fun q => ⟨by rw [if_neg q], pc_w_k q3⟩⟩
        · unfold gm_harvest
          rw [pm_isHouse hT hm, decide_eq_true h1]
          simp (disch := omega) only [pj_lit, pj_add, pj_sub, pj_neg, pj_mul, pj_lt, pj_eq, pj_nat, pj_ald, pj_ast, pj_ix, pw_bind, pw_ite, pw_some, pw_none, pw_let, Option.bind_some, Int.toNat_natCast, Sum.elim_inl, Sum.elim_inr, Int.cast_ofNat_Int, Int.reduceLT, Int.reduceLE, Int.reduceEq, Int.reduceAdd, Int.reduceSub, Int.reduceMul, Int.reduceNeg, Int.reduceToNat, Nat.reduceAdd, Nat.reduceSub, Nat.reduceMul, Nat.reduceEqDiff, Nat.reduceLT, reduceIte, reduceCtorEq, true_and, and_true, forall_const, not_true_eq_false, not_false_eq_true, false_implies, implies_true, pm_isIn, decide_eq_true h2, decide_eq_true h3]
          refine pw_mono (Q := fun r : Int32 × Int32 × zm_S => r.1 = pj (pv_hv T V x n n).1 ∧ r.2.1 = pj (pv_hv T V x n n).2 ∧ pm_k Z r.2.2) ?_ ?_
          · refine pw_for n (fun k t => ∃ M', t = (pj (pv_hv T V x n k).1, pj (pv_hv T V x n k).2, pj ((1 + k : Nat) : Int), M') ∧ pm_k Z M') 5000 (by omega) ?_ ?_ _ ⟨Z, rfl, pm_k_rfl Z⟩
            · rintro k t hk ⟨M2, rfl, w2⟩
              have hlt : ¬ ((n : Int) < ((1 + k : Nat) : Int)) := by omega
              have hb := pv_hv_bd (T := T) ho (x := x) (n := n) (by omega) hn60 k
              have hgb := pv_gv_bd (T := T) ho (x := x) (by omega) n (k + 1) n
              have hstep : pv_hv T V x n (k + 1) = if (pv_hv T V x n k).2 < (pv_gv T V x n (k + 1) n).1 then (((k + 1 : Nat) : Int), (pv_gv T V x n (k + 1) n).1) else pv_hv T V x n k := rfl
              have hrow2 : pv_row (M2.2.1 47) V := by rw [w2.2.1 47 (by omega)]; exact hrow
              rw [hstep]
              unfold gm_harvest_L38
              generalize pv_hv T V x n k = st at hb
              simp (disch := omega) only [pj_lit, pj_add, pj_sub, pj_neg, pj_mul, pj_lt, pj_eq, pj_nat, pj_ald, pj_ast, pj_ix, pw_bind, pw_ite, pw_some, pw_none, pw_let, Option.bind_some, Int.toNat_natCast, Sum.elim_inl, Sum.elim_inr, Int.cast_ofNat_Int, Int.reduceLT, Int.reduceLE, Int.reduceEq, Int.reduceAdd, Int.reduceSub, Int.reduceMul, Int.reduceNeg, Int.reduceToNat, Nat.reduceAdd, Nat.reduceSub, Nat.reduceMul, Nat.reduceEqDiff, Nat.reduceLT, reduceIte, reduceCtorEq, true_and, and_true, forall_const, not_true_eq_false, not_false_eq_true, false_implies, implies_true, hlt]
              rw [Nat.add_comm 1 k]
              refine pw_mono (pm_given hT (pm_T_tx (pm_k_tx w2) hm) ho hrow2 hx hn60 (g := k + 1) (by omega)) (fun p hp => ?_)
              have w3 := pm_k_trans w2 hp.2
              simp (disch := omega) only [pj_lit, pj_add, pj_sub, pj_neg, pj_mul, pj_lt, pj_eq, pj_nat, pj_ald, pj_ast, pj_ix, pw_bind, pw_ite, pw_some, pw_none, pw_let, Option.bind_some, Int.toNat_natCast, Sum.elim_inl, Sum.elim_inr, Int.cast_ofNat_Int, Int.reduceLT, Int.reduceLE, Int.reduceEq, Int.reduceAdd, Int.reduceSub, Int.reduceMul, Int.reduceNeg, Int.reduceToNat, Nat.reduceAdd, Nat.reduceSub, Nat.reduceMul, Nat.reduceEqDiff, Nat.reduceLT, reduceIte, reduceCtorEq, true_and, and_true, forall_const, not_true_eq_false, not_false_eq_true, false_implies, implies_true, hp.1]
              refine ⟨fun q => ⟨p.2, ?_, w3⟩, fun q => ⟨p.2, ?_, w3⟩⟩
              · rw [if_pos q]; congr 3; congr 1; omega
              · rw [if_neg q]; congr 3; congr 1; omega
            · rintro t ⟨M2, rfl, w2⟩
              have hlt : ((n : Int) < ((1 + n : Nat) : Int)) := by omega
              unfold gm_harvest_L38
              simp (disch := omega) only [pj_lit, pj_add, pj_sub, pj_neg, pj_mul, pj_lt, pj_eq, pj_nat, pj_ald, pj_ast, pj_ix, pw_bind, pw_ite, pw_some, pw_none, pw_let, Option.bind_some, Int.toNat_natCast, Sum.elim_inl, Sum.elim_inr, Int.cast_ofNat_Int, Int.reduceLT, Int.reduceLE, Int.reduceEq, Int.reduceAdd, Int.reduceSub, Int.reduceMul, Int.reduceNeg, Int.reduceToNat, Nat.reduceAdd, Nat.reduceSub, Nat.reduceMul, Nat.reduceEqDiff, Nat.reduceLT, reduceIte, reduceCtorEq, true_and, and_true, forall_const, not_true_eq_false, not_false_eq_true, false_implies, implies_true, hlt]
              exact w2
          · rintro ⟨x1, x2, M2⟩ ⟨q1, q2, q3⟩
            dsimp only at q1 q2 q3
            subst q1 q2
            simp (disch := omega) only [pj_lit, pj_add, pj_sub, pj_neg, pj_mul, pj_lt, pj_eq, pj_nat, pj_ald, pj_ast, pj_ix, pw_bind, pw_ite, pw_some, pw_none, pw_let, Option.bind_some, Int.toNat_natCast, Sum.elim_inl, Sum.elim_inr, Int.cast_ofNat_Int, Int.reduceLT, Int.reduceLE, Int.reduceEq, Int.reduceAdd, Int.reduceSub, Int.reduceMul, Int.reduceNeg, Int.reduceToNat, Nat.reduceAdd, Nat.reduceSub, Nat.reduceMul, Nat.reduceEqDiff, Nat.reduceLT, reduceIte, reduceCtorEq, true_and, and_true, forall_const, not_true_eq_false, not_false_eq_true, false_implies, implies_true]
            exact ⟨fun q => ⟨by rw [if_pos q], q3⟩, fun q => ⟨by rw [if_neg q], q3⟩⟩
      · unfold gh_harvest gm_harvest
        rw [pc_isHouse M hT, pm_isHouse hT hm, decide_eq_true h1]
        simp (disch := omega) only [pj_lit, pj_add, pj_sub, pj_neg, pj_mul, pj_lt, pj_eq, pj_nat, pj_ald, pj_ast, pj_ix, pw_bind, pw_ite, pw_some, pw_none, pw_let, Option.bind_some, Int.toNat_natCast, Sum.elim_inl, Sum.elim_inr, Int.cast_ofNat_Int, Int.reduceLT, Int.reduceLE, Int.reduceEq, Int.reduceAdd, Int.reduceSub, Int.reduceMul, Int.reduceNeg, Int.reduceToNat, Nat.reduceAdd, Nat.reduceSub, Nat.reduceMul, Nat.reduceEqDiff, Nat.reduceLT, reduceIte, reduceCtorEq, true_and, and_true, forall_const, not_true_eq_false, not_false_eq_true, false_implies, implies_true, pc_isIn, pm_isIn, decide_eq_true h2, decide_eq_false h3, Bool.false_eq_true]
        exact ⟨s, V, H, at_, h⟩
    · unfold gh_harvest gm_harvest
      rw [pc_isHouse M hT, pm_isHouse hT hm, decide_eq_true h1]
      simp (disch := omega) only [pj_lit, pj_add, pj_sub, pj_neg, pj_mul, pj_lt, pj_eq, pj_nat, pj_ald, pj_ast, pj_ix, pw_bind, pw_ite, pw_some, pw_none, pw_let, Option.bind_some, Int.toNat_natCast, Sum.elim_inl, Sum.elim_inr, Int.cast_ofNat_Int, Int.reduceLT, Int.reduceLE, Int.reduceEq, Int.reduceAdd, Int.reduceSub, Int.reduceMul, Int.reduceNeg, Int.reduceToNat, Nat.reduceAdd, Nat.reduceSub, Nat.reduceMul, Nat.reduceEqDiff, Nat.reduceLT, reduceIte, reduceCtorEq, true_and, and_true, forall_const, not_true_eq_false, not_false_eq_true, false_implies, implies_true, pc_isIn, pm_isIn, decide_eq_false h2, Bool.false_eq_true]
      exact ⟨s, V, H, at_, h⟩
  · unfold gh_harvest gm_harvest
    rw [pc_isHouse M hT, pm_isHouse hT hm, decide_eq_false h1]
    simp (disch := omega) only [pj_lit, pj_add, pj_sub, pj_neg, pj_mul, pj_lt, pj_eq, pj_nat, pj_ald, pj_ast, pj_ix, pw_bind, pw_ite, pw_some, pw_none, pw_let, Option.bind_some, Int.toNat_natCast, Sum.elim_inl, Sum.elim_inr, Int.cast_ofNat_Int, Int.reduceLT, Int.reduceLE, Int.reduceEq, Int.reduceAdd, Int.reduceSub, Int.reduceMul, Int.reduceNeg, Int.reduceToNat, Nat.reduceAdd, Nat.reduceSub, Nat.reduceMul, Nat.reduceEqDiff, Nat.reduceLT, reduceIte, reduceCtorEq, true_and, and_true, forall_const, not_true_eq_false, not_false_eq_true, false_implies, implies_true, Bool.false_eq_true]
    exact ⟨s, V, H, at_, h⟩
