set_option maxRecDepth 100000
/-! joins laid; the model's plans -/
def pc_j (M M' : cs_S) : Prop := (∀ o f, o < 110 ∨ 155 ≤ o → M'.1 o f = M.1 o f) ∧ (∀ o f, ¬ (10 ≤ o ∧ o < 55 ∧ f = 11) → o ≠ 61 → M'.2 o f = M.2 o f)
theorem pc_j_rfl (M : cs_S) : pc_j M M := ⟨fun _ _ _ => rfl, fun _ _ _ _ => rfl⟩
theorem pc_j_trans {A B C : cs_S} (h : pc_j A B) (g : pc_j B C) : pc_j A C := ⟨fun o f q => (g.1 o f q).trans (h.1 o f q), fun o f q r => (g.2 o f q r).trans (h.2 o f q r)⟩
theorem pc_e_j {M M' : cs_S} (h : pc_e M M') : pc_j M M' := ⟨h.1, fun o f q _ => h.2 o f q⟩
theorem pc_j_A (M : cs_S) (k : Nat) (j x : Int32) : pc_j M (cs_sA M 61 k j x) := ⟨fun _ _ _ => rfl, fun o f _ q => pc_sA2n (by omega)⟩
theorem pc_j_k {M M' : cs_S} (h : pc_j M M') : pc_k M M' := ⟨fun o f a _ _ => h.1 o f (by omega), fun o f a _ _ b _ _ => h.2 o f (by omega) b, congrFun (h.2 0 16 (by omega) (by omega)) 0⟩
theorem pc_V_j {M M' : cs_S} {i : Nat} {V : pv_V} (hi : i < 45) (h : pc_j M M') (g : pc_V M i V) : pc_V M' i V := by
  obtain ⟨g1, g2, g3, g4, g5⟩ := g
  refine ⟨fun k hk => ?_, ?_, fun k x e => ?_, ?_, ?_⟩
  · rw [h.2 _ 0 (by omega) (by omega), h.2 _ 1 (by omega) (by omega), h.2 _ 2 (by omega) (by omega), h.2 _ 3 (by omega) (by omega)]; exact g1 k hk
  · rw [h.1 _ _ (by omega)]; exact g2
  · rw [h.2 _ _ (by omega) (by omega)]; exact g3 k x e
  · rw [h.1 _ _ (by omega)]; exact g4
  · rw [h.1 _ _ (by omega)]; exact g5
def po_jn (T : zt_T) (V : pv_V) (a b : Nat) : Int := pv_joins T V a b (pt_k T a b)
theorem pc_laysJoins {T : zt_T} {M : cs_S} {i : Nat} {V : pv_V} (hT : pt_ok T) (hV : pc_V M i V) (ho : pv_ok (zt_n T) V) (hi : i < 45) :
    pw (gh_laysJoins T M i) (fun M' => po_Jn T M' (po_jn T V) ∧ pc_j M M') := by
  have hn := hT.1
  have hjb : ∀ a b, a < 6 → b < 6 → 0 ≤ po_jn T V a b ∧ po_jn T V a b ≤ 999 := fun a b ha hb => pv_joins_bd T V a b (hT.2.2.1 a b ha hb)
  unfold gh_laysJoins
  refine pw_seq (Q := fun M' => po_Jn T M' (po_jn T V) ∧ pc_j M M') ?_ (fun M' h => (pw_some _ _).2 h)
  rw [pj_0]
  refine pw_for (zt_n T) (fun k t => ∃ M', t = (pj (k : Nat), M') ∧ pc_j M M' ∧ ∀ a b, a < k → b < zt_n T → M'.2 61 a b = pj (po_jn T V a b)) 5000 (by omega) ?_ ?_ _ ⟨M, rfl, pc_j_rfl M, fun a b ha => absurd ha (Nat.not_lt_zero a)⟩
  · rintro k t hk ⟨M1, rfl, h1, h2⟩
    have hlt : (k : Int) < (zt_n T : Nat) := by omega
    unfold gh_laysJoins_L2 gh_houses
    simp (disch := omega) only [pj_lit, pj_add, pj_sub, pj_neg, pj_mul, pj_lt, pj_eq, pj_nat, pj_ald, pj_ast, pj_ix, pw_bind, pw_ite, pw_some, pw_none, pw_let, Option.bind_some, Int.toNat_natCast, Sum.elim_inl, Sum.elim_inr, Int.cast_ofNat_Int, Int.reduceLT, Int.reduceLE, Int.reduceEq, Int.reduceAdd, Int.reduceSub, Int.reduceMul, Int.reduceNeg, Int.reduceToNat, Nat.reduceAdd, Nat.reduceSub, Nat.reduceMul, Nat.reduceEqDiff, Nat.reduceLT, reduceIte, reduceCtorEq, true_and, and_true, forall_const, not_true_eq_false, not_false_eq_true, false_implies, implies_true, pj_nI, hlt]
    refine pw_mono (Q := fun M' => pc_j M M' ∧ (∀ a b, a < k → b < zt_n T → M'.2 61 a b = pj (po_jn T V a b)) ∧ ∀ b, b < zt_n T → M'.2 61 k b = pj (po_jn T V k b)) ?_ (fun M' h => ⟨M', by congr 2, h.1, fun a b ha hb => ?_⟩)
    · refine pw_for (zt_n T) (fun j t => ∃ M', t = (pj (j : Nat), M') ∧ pc_j M M' ∧ (∀ a b, a < k → b < zt_n T → M'.2 61 a b = pj (po_jn T V a b)) ∧ ∀ b, b < j → M'.2 61 k b = pj (po_jn T V k b)) 5000 (by omega) ?_ ?_ _ ⟨M1, rfl, h1, h2, fun b hb => absurd hb (Nat.not_lt_zero b)⟩
      · rintro j t hj ⟨M2, rfl, g1, g2, g3⟩
        have hltj : (j : Int) < (zt_n T : Nat) := by omega
        unfold gh_laysJoins_L12 gh_houses
        simp (disch := omega) only [pj_lit, pj_add, pj_sub, pj_neg, pj_mul, pj_lt, pj_eq, pj_nat, pj_ald, pj_ast, pj_ix, pw_bind, pw_ite, pw_some, pw_none, pw_let, Option.bind_some, Int.toNat_natCast, Sum.elim_inl, Sum.elim_inr, Int.cast_ofNat_Int, Int.reduceLT, Int.reduceLE, Int.reduceEq, Int.reduceAdd, Int.reduceSub, Int.reduceMul, Int.reduceNeg, Int.reduceToNat, Nat.reduceAdd, Nat.reduceSub, Nat.reduceMul, Nat.reduceEqDiff, Nat.reduceLT, reduceIte, reduceCtorEq, true_and, and_true, forall_const, not_true_eq_false, not_false_eq_true, false_implies, implies_true, pj_nI, hltj, pt_k_eq]
        refine pw_mono (pc_joins hT (pc_V_j hi g1 hV) ho hi hk hj (pt_k T k j)) (fun p hp => ?_)
        obtain ⟨p1, p2⟩ := hp
        refine ⟨_, rfl, pc_j_trans g1 (pc_j_trans (pc_e_j p2) (pc_j_A _ _ _ _)), fun a b ha hb => ?_, fun b hb => ?_⟩
        · rw [pc_sA2n (by omega), p2.2 _ _ (by omega)]; exact g2 a b ha hb
        · rw [pc_sA2s, pj_nat (by omega), Int.toNat_natCast, pj_upd]
          by_cases e : b = j
          · rw [if_pos e, e, p1]; rfl
          · rw [if_neg e, p2.2 _ _ (by omega)]; exact g3 b (by omega)
      · rintro t ⟨M2, rfl, g1, g2, g3⟩
        unfold gh_laysJoins_L12 gh_houses
        simp (disch := omega) only [pj_lit, pj_add, pj_sub, pj_neg, pj_mul, pj_lt, pj_eq, pj_nat, pj_ald, pj_ast, pj_ix, pw_bind, pw_ite, pw_some, pw_none, pw_let, Option.bind_some, Int.toNat_natCast, Sum.elim_inl, Sum.elim_inr, Int.cast_ofNat_Int, Int.reduceLT, Int.reduceLE, Int.reduceEq, Int.reduceAdd, Int.reduceSub, Int.reduceMul, Int.reduceNeg, Int.reduceToNat, Nat.reduceAdd, Nat.reduceSub, Nat.reduceMul, Nat.reduceEqDiff, Nat.reduceLT, reduceIte, reduceCtorEq, true_and, and_true, forall_const, not_true_eq_false, not_false_eq_true, false_implies, implies_true, pj_nI, Int.lt_irrefl]
        exact ⟨g1, g2, g3⟩
    · by_cases e : a = k
      · rw [e]; exact h.2.2 b hb
      · exact h.2.1 a b (by omega) hb
  · rintro t ⟨M1, rfl, h1, h2⟩
    unfold gh_laysJoins_L2 gh_houses
    simp (disch := omega) only [pj_lit, pj_add, pj_sub, pj_neg, pj_mul, pj_lt, pj_eq, pj_nat, pj_ald, pj_ast, pj_ix, pw_bind, pw_ite, pw_some, pw_none, pw_let, Option.bind_some, Int.toNat_natCast, Sum.elim_inl, Sum.elim_inr, Int.cast_ofNat_Int, Int.reduceLT, Int.reduceLE, Int.reduceEq, Int.reduceAdd, Int.reduceSub, Int.reduceMul, Int.reduceNeg, Int.reduceToNat, Nat.reduceAdd, Nat.reduceSub, Nat.reduceMul, Nat.reduceEqDiff, Nat.reduceLT, reduceIte, reduceCtorEq, true_and, and_true, forall_const, not_true_eq_false, not_false_eq_true, false_implies, implies_true, pj_nI, Int.lt_irrefl]
    exact ⟨fun a b ha hb _ => ⟨h2 a b ha hb, hjb a b (by omega) (by omega)⟩, h1⟩
/-- the model's plans -/
def pm_q (Z Z' : zm_S) : Prop := (∀ k, k ≠ 46 → Z'.1 k = Z.1 k) ∧ (∀ k, k ≠ 44 → k ≠ 45 → ¬ (55 ≤ k ∧ k ≤ 59) → Z'.2.1 k = Z.2.1 k) ∧ Z'.2.2 = Z.2.2
theorem pm_q_rfl (Z : zm_S) : pm_q Z Z := ⟨fun _ _ => rfl, fun _ _ _ _ => rfl, rfl⟩
theorem pm_q_trans {A B C : zm_S} (h : pm_q A B) (g : pm_q B C) : pm_q A C := ⟨fun k q => (g.1 k q).trans (h.1 k q), fun k a b c => (g.2.1 k a b c).trans (h.2.1 k a b c), g.2.2.trans h.2.2⟩
theorem pm_e_q {Z Z' : zm_S} (h : pm_e Z Z') : pm_q Z Z' := ⟨h.1, fun k a b _ => h.2.1 k a b, h.2.2⟩
theorem pm_q_A {Z : zm_S} {k : Nat} (i x : Int32) (h : 55 ≤ k ∧ k ≤ 59) : pm_q Z (zm_sA Z k i x) := ⟨fun _ _ => rfl, fun j _ _ c => pm_sAn (by omega), rfl⟩
theorem pm_q_k {Z Z' : zm_S} (h : pm_q Z Z') : pm_k Z Z' := ⟨fun k a _ _ _ => h.1 k a, fun k a => h.2.1 k (by omega) (by omega) (by omega), h.2.2⟩
theorem pm_q_tx {Z Z' : zm_S} (h : pm_q Z Z') : pm_tx Z Z' := ⟨h.1 18 (by decide), fun k q => h.2.1 k (by omega) (by omega) (by omega)⟩
theorem pm_row_q {Z Z' : zm_S} (h : pm_q Z Z') {V : pv_V} (g : pv_row (Z.2.1 48) V) : pv_row (Z'.2.1 48) V := by rw [h.2.1 48 (by decide) (by decide) (by omega)]; exact g
/-- how long, how strong, what joins bear, by the model -/
def pm_P (T : zt_T) (V : pv_V) (Z : zm_S) : Prop := (∀ h, h < 6 → Z.2.1 55 h = pj (pv_lg V h)) ∧ (∀ h, h < zt_n T → Z.2.1 56 h = pj (pv_st T V h)) ∧ (∀ a b, a < zt_n T → b < zt_n T → a ≠ b → Z.2.1 57 (6 * a + b) = pj (po_jn T V a b) ∧ Z.2.1 58 (6 * a + b) = pj (pv_joins T V a b 9))
theorem pm_fills {T : zt_T} {s : Nat} {Z : zm_S} {V : pv_V} (ht : pt_ok T) (hm : pm_T T s Z) (hV : pv_row (Z.2.1 48) V) (ho : pv_ok (zt_n T) V) :
    pw (gm_fillsPlans Z) (fun Z' => pm_P T V Z' ∧ (∀ a b, a < zt_n T → b < zt_n T → a ≠ b → Z'.2.1 59 (6 * a + b) = pj (po_jn T V a b)) ∧ pm_q Z Z') := by
  have hn := ht.1
  unfold gm_fillsPlans
  refine pw_seq (Q := fun Z' => (∀ h, h < 6 → Z'.2.1 55 h = pj (pv_lg V h)) ∧ (∀ h, h < zt_n T → Z'.2.1 56 h = pj (pv_st T V h)) ∧ pm_q Z Z') ?_ ?_
  · rw [pj_0]
    refine pw_for 6 (fun k t => ∃ Z', t = (pj (k : Nat), Z') ∧ (∀ h, h < k → Z'.2.1 55 h = pj (pv_lg V h)) ∧ (∀ h, h < k → h < zt_n T → Z'.2.1 56 h = pj (pv_st T V h)) ∧ pm_q Z Z') 5000 (by omega) ?_ ?_ _ ⟨Z, rfl, fun h hh => absurd hh (Nat.not_lt_zero h), fun h hh => absurd hh (Nat.not_lt_zero h), pm_q_rfl Z⟩
    · rintro k t hk ⟨Z1, rfl, h1, h2, h3⟩
      have hlt : (k : Int) < 6 := by omega
      have hm1 := pm_T_tx (pm_q_tx h3) hm
      have hr1 := pm_row_q h3 hV
      obtain ⟨c0, c1, c2, c3⟩ := hr1.1 k hk
      have e6 : (6 : Int) + (k : Int) = ((6 + k : Nat) : Int) := by omega
      have hh1 : gm_isHouse Z1 (pj k) = some (decide (k < zt_n T)) := by
        rw [pm_isHouse ht hm1, pj_toInt (by omega)]
        congr 2
        exact propext ⟨fun h => by omega, fun h => by omega⟩
      have up : ∀ (Z2 : zm_S) (x y : Int32), x = pj (pv_lg V k) → (k < zt_n T → y = pj (pv_st T V k)) → Z2 = zm_sA (zm_sA Z1 55 (pj (k : Nat)) x) 56 (pj (k : Nat)) y →
          ∃ Z', (pj ((k : Int) + 1), Z2) = (pj ((k + 1 : Nat) : Int), Z') ∧ (∀ h, h < k + 1 → Z'.2.1 55 h = pj (pv_lg V h)) ∧ (∀ h, h < k + 1 → h < zt_n T → Z'.2.1 56 h = pj (pv_st T V h)) ∧ pm_q Z Z' := by
        rintro Z2 x y hx hy rfl
        refine ⟨_, rfl, fun h hh => ?_, fun h hh hh2 => ?_, pm_q_trans h3 (pm_q_trans (pm_q_A _ _ (by omega)) (pm_q_A _ _ (by omega)))⟩
        · rw [pm_sAn (by decide), pm_sAs, pj_nat (by omega), Int.toNat_natCast, pj_upd]
          by_cases e : h = k
          · rw [if_pos e, e, hx]
          · rw [if_neg e]; exact h1 h (by omega)
        · rw [pm_sAs, pj_nat (by omega), Int.toNat_natCast, pj_upd]
          by_cases e : h = k
          · rw [if_pos e, e]; exact hy (by omega)
          · rw [if_neg e, pm_sAn (by decide)]; exact h2 h (by omega) hh2
      have hh2 : ∀ x, gm_isHouse (zm_sA Z1 55 (pj k) x) (pj k) = some (decide (k < zt_n T)) := by
        intro x
        rw [← hh1]
        unfold gm_isHouse
        rw [pm_sA1, pm_sAn (by decide)]
      have hst : ∀ x, k < zt_n T → gm_strongOf (zm_sA Z1 55 (pj k) x) (pj k) = some (pj (pv_st T V k)) := by
        intro x hx
        have := pm_str (T := T) (pm_T_tx (pm_q_tx (pm_q_A (Z := Z1) (k := 55) (pj k) x (by omega))) hm1) (pm_row_q (pm_q_A (Z := Z1) (k := 55) (pj k) x (by omega)) hr1) ho hx
        exact this
      unfold gm_fillsPlans_L2
      by_cases c : k < zt_n T
      · simp (disch := omega) only [pj_lit, pj_add, pj_sub, pj_neg, pj_mul, pj_lt, pj_eq, pj_nat, pj_ald, pj_ast, pj_ix, pw_bind, pw_ite, pw_some, pw_none, pw_let, Option.bind_some, Int.toNat_natCast, Sum.elim_inl, Sum.elim_inr, Int.cast_ofNat_Int, Int.reduceLT, Int.reduceLE, Int.reduceEq, Int.reduceAdd, Int.reduceSub, Int.reduceMul, Int.reduceNeg, Int.reduceToNat, Nat.reduceAdd, Nat.reduceSub, Nat.reduceMul, Nat.reduceEqDiff, Nat.reduceLT, reduceIte, reduceCtorEq, true_and, and_true, forall_const, not_true_eq_false, not_false_eq_true, false_implies, implies_true, hlt, hh1, decide_eq_true c, pm_has hr1 ho k hk, e6, c1, c0, hh2, hst _ c, decide_eq_true_eq]
        refine ⟨fun q => up _ _ _ ?_ (fun _ => rfl) rfl, fun q => up _ _ _ ?_ (fun _ => rfl) rfl⟩
        · unfold pv_lg; rw [if_pos q]
        · unfold pv_lg; rw [if_neg q]
      · simp (disch := omega) only [pj_lit, pj_add, pj_sub, pj_neg, pj_mul, pj_lt, pj_eq, pj_nat, pj_ald, pj_ast, pj_ix, pw_bind, pw_ite, pw_some, pw_none, pw_let, Option.bind_some, Int.toNat_natCast, Sum.elim_inl, Sum.elim_inr, Int.cast_ofNat_Int, Int.reduceLT, Int.reduceLE, Int.reduceEq, Int.reduceAdd, Int.reduceSub, Int.reduceMul, Int.reduceNeg, Int.reduceToNat, Nat.reduceAdd, Nat.reduceSub, Nat.reduceMul, Nat.reduceEqDiff, Nat.reduceLT, reduceIte, reduceCtorEq, true_and, and_true, forall_const, not_true_eq_false, not_false_eq_true, false_implies, implies_true, hlt, hh1, decide_eq_false c, hh2, Bool.false_eq_true]
        refine up _ _ _ ?_ (fun q => absurd q c) rfl
        rw [pv_lg_no ho (by omega) hk]
    · rintro t ⟨Z1, rfl, h1, h2, h3⟩
      unfold gm_fillsPlans_L2
      simp (disch := omega) only [pj_lit, pj_add, pj_sub, pj_neg, pj_mul, pj_lt, pj_eq, pj_nat, pj_ald, pj_ast, pj_ix, pw_bind, pw_ite, pw_some, pw_none, pw_let, Option.bind_some, Int.toNat_natCast, Sum.elim_inl, Sum.elim_inr, Int.cast_ofNat_Int, Int.reduceLT, Int.reduceLE, Int.reduceEq, Int.reduceAdd, Int.reduceSub, Int.reduceMul, Int.reduceNeg, Int.reduceToNat, Nat.reduceAdd, Nat.reduceSub, Nat.reduceMul, Nat.reduceEqDiff, Nat.reduceLT, reduceIte, reduceCtorEq, true_and, and_true, forall_const, not_true_eq_false, not_false_eq_true, false_implies, implies_true, Int.lt_irrefl]
      exact ⟨h1, fun h hh => h2 h (by omega) hh, h3⟩
  · rintro Z0 ⟨a1, a2, a3⟩
    refine pw_seq (Q := fun Z' => pm_P T V Z' ∧ (∀ a b, a < zt_n T → b < zt_n T → a ≠ b → Z'.2.1 59 (6 * a + b) = pj (po_jn T V a b)) ∧ pm_q Z Z') ?_ (fun M' h => (pw_some _ _).2 h)
    rw [pj_0]
    refine pw_for 36 (fun k t => ∃ Z', t = (pj (k : Nat), Z') ∧ (∀ h, h < 6 → Z'.2.1 55 h = pj (pv_lg V h)) ∧ (∀ h, h < zt_n T → Z'.2.1 56 h = pj (pv_st T V h)) ∧ (∀ a b, a < zt_n T → b < zt_n T → a ≠ b → 6 * a + b < k → Z'.2.1 57 (6 * a + b) = pj (po_jn T V a b) ∧ Z'.2.1 58 (6 * a + b) = pj (pv_joins T V a b 9) ∧ Z'.2.1 59 (6 * a + b) = pj (po_jn T V a b)) ∧ pm_q Z Z') 5000 (by omega) ?_ ?_ _ ⟨Z0, rfl, a1, a2, fun a b _ _ _ q => absurd q (Nat.not_lt_zero _), a3⟩
    · rintro k t hk ⟨Z1, rfl, h1, h2, h4, h3⟩
      have hlt : (k : Int) < 36 := by omega
      have hm1 := pm_T_tx (pm_q_tx h3) hm
      have hr1 := pm_row_q h3 hV
      have hd : pj (k : Int) / pj 6 = pj ((k / 6 : Nat) : Int) := pj_divN (b := 6) (by omega) (by omega)
      have hr : zs_rem (pj (k : Int)) (pj 6) = pj ((k % 6 : Nat) : Int) := pj_remN (b := 6) (by omega) (by omega)
      have htwo : gm_areTwo Z1 (pj ((k / 6 : Nat) : Int)) (pj ((k % 6 : Nat) : Int)) = some (decide (k / 6 < zt_n T ∧ k % 6 < zt_n T ∧ k / 6 ≠ k % 6)) := by
        rw [pm_two ht hm1, pj_toInt (by omega), pj_toInt (by omega)]
        congr 2
        refine propext ⟨fun h => ⟨by omega, by omega, fun e => h.2.2 (by rw [e])⟩, fun h => ⟨by omega, by omega, fun e => ?_⟩⟩
        have := (pj_eq (by omega) (by omega)).1 e
        omega
      unfold gm_fillsPlans_L83
      by_cases c : k / 6 < zt_n T ∧ k % 6 < zt_n T ∧ k / 6 ≠ k % 6
      · obtain ⟨c1, c2, c3⟩ := c
        simp (disch := omega) only [pj_lit, pj_add, pj_sub, pj_neg, pj_mul, pj_lt, pj_eq, pj_nat, pj_ald, pj_ast, pj_ix, pw_bind, pw_ite, pw_some, pw_none, pw_let, Option.bind_some, Int.toNat_natCast, Sum.elim_inl, Sum.elim_inr, Int.cast_ofNat_Int, Int.reduceLT, Int.reduceLE, Int.reduceEq, Int.reduceAdd, Int.reduceSub, Int.reduceMul, Int.reduceNeg, Int.reduceToNat, Nat.reduceAdd, Nat.reduceSub, Nat.reduceMul, Nat.reduceEqDiff, Nat.reduceLT, reduceIte, reduceCtorEq, true_and, and_true, forall_const, not_true_eq_false, not_false_eq_true, false_implies, implies_true, hlt, hd, hr, htwo, decide_eq_true (show k / 6 < zt_n T ∧ k % 6 < zt_n T ∧ k / 6 ≠ k % 6 from ⟨c1, c2, c3⟩)]
        refine pw_mono (pm_joins ht hm1 hr1 ho c1 c2) (fun p hp => ?_)
        obtain ⟨p1, p2⟩ := hp
        have q1 : pm_q Z1 (zm_sA p.2 57 (pj (k : Nat)) p.1) := pm_q_trans (pm_e_q p2) (pm_q_A _ _ (by omega))
        have s55 : (zm_sA p.2 57 (pj (k : Nat)) p.1).2.1 55 = Z1.2.1 55 := by rw [pm_sAn (by decide), p2.2.1 _ (by decide) (by decide)]
        have s56 : (zm_sA p.2 57 (pj (k : Nat)) p.1).2.1 56 = Z1.2.1 56 := by rw [pm_sAn (by decide), p2.2.1 _ (by decide) (by decide)]
        have s58 : (zm_sA p.2 57 (pj (k : Nat)) p.1).2.1 58 = Z1.2.1 58 := by rw [pm_sAn (by decide), p2.2.1 _ (by decide) (by decide)]
        have s59 : (zm_sA p.2 57 (pj (k : Nat)) p.1).2.1 59 = Z1.2.1 59 := by rw [pm_sAn (by decide), p2.2.1 _ (by decide) (by decide)]
        have s57 : ∀ j, (zm_sA p.2 57 (pj (k : Nat)) p.1).2.1 57 j = if j = k then pj (po_jn T V (k / 6) (k % 6)) else Z1.2.1 57 j := fun j => by
          rw [pm_sAs, pj_nat (by omega), Int.toNat_natCast, pj_upd, p2.2.1 _ (by decide) (by decide), p1]; rfl
        generalize zm_sA p.2 57 (pj (k : Nat)) p.1 = Z2 at q1 s55 s56 s57 s58 s59
        refine pw_mono (pm_joinsBy (pm_T_tx (pm_q_tx q1) hm1) (pm_row_q q1 hr1) ho c1 c2 (like := 9) (by omega)) (fun p3 hp3 => ?_)
        obtain ⟨p4, p5⟩ := hp3
        have r57 : (zm_sA p3.2 58 (pj (k : Nat)) p3.1).2.1 57 k = pj (po_jn T V (k / 6) (k % 6)) := by rw [pm_sAn (by decide), p5.2.1 _ (by decide) (by decide), s57, if_pos rfl]
        simp (disch := omega) only [pj_lit, pj_add, pj_sub, pj_neg, pj_mul, pj_lt, pj_eq, pj_nat, pj_ald, pj_ast, pj_ix, pw_bind, pw_ite, pw_some, pw_none, pw_let, Option.bind_some, Int.toNat_natCast, Sum.elim_inl, Sum.elim_inr, Int.cast_ofNat_Int, Int.reduceLT, Int.reduceLE, Int.reduceEq, Int.reduceAdd, Int.reduceSub, Int.reduceMul, Int.reduceNeg, Int.reduceToNat, Nat.reduceAdd, Nat.reduceSub, Nat.reduceMul, Nat.reduceEqDiff, Nat.reduceLT, reduceIte, reduceCtorEq, true_and, and_true, forall_const, not_true_eq_false, not_false_eq_true, false_implies, implies_true, r57]
        refine ⟨_, rfl, fun h hh => ?_, fun h hh => ?_, fun a b ha hb hab hk2 => ?_, pm_q_trans h3 (pm_q_trans q1 (pm_q_trans (pm_e_q p5) (pm_q_trans (pm_q_A _ _ (by omega)) (pm_q_A _ _ (by omega)))))⟩
        · rw [pm_sAn (by decide), pm_sAn (by decide), p5.2.1 _ (by decide) (by decide), s55]; exact h1 h hh
        · rw [pm_sAn (by decide), pm_sAn (by decide), p5.2.1 _ (by decide) (by decide), s56]; exact h2 h hh
        · rw [pm_sAn (by decide), pm_sAn (by decide), p5.2.1 _ (by decide) (by decide), s57, pm_sAn (by decide), pm_sAs, pm_sAs, pj_nat (by omega), Int.toNat_natCast, pj_upd, pj_upd, p5.2.1 _ (by decide) (by decide), s58, pm_sAn (by decide), p5.2.1 _ (by decide) (by decide), s59]
          by_cases e : 6 * a + b = k
          · have ea : k / 6 = a := by omega
            have eb : k % 6 = b := by omega
            rw [if_pos e, if_pos e, if_pos e, p4, ea, eb]
            exact ⟨rfl, rfl, rfl⟩
          · rw [if_neg e, if_neg e, if_neg e]
            exact h4 a b ha hb hab (by omega)
      · simp (disch := omega) only [pj_lit, pj_add, pj_sub, pj_neg, pj_mul, pj_lt, pj_eq, pj_nat, pj_ald, pj_ast, pj_ix, pw_bind, pw_ite, pw_some, pw_none, pw_let, Option.bind_some, Int.toNat_natCast, Sum.elim_inl, Sum.elim_inr, Int.cast_ofNat_Int, Int.reduceLT, Int.reduceLE, Int.reduceEq, Int.reduceAdd, Int.reduceSub, Int.reduceMul, Int.reduceNeg, Int.reduceToNat, Nat.reduceAdd, Nat.reduceSub, Nat.reduceMul, Nat.reduceEqDiff, Nat.reduceLT, reduceIte, reduceCtorEq, true_and, and_true, forall_const, not_true_eq_false, not_false_eq_true, false_implies, implies_true, hlt, hd, hr, htwo, decide_eq_false c, Bool.false_eq_true]
        refine ⟨Z1, rfl, h1, h2, fun a b ha hb hab hk2 => ?_, h3⟩
        refine h4 a b ha hb hab ?_
        have : 6 * a + b ≠ k := by
          intro e
          have ea : k / 6 = a := by omega
          have eb : k % 6 = b := by omega
          exact c ⟨by omega, by omega, by omega⟩
        omega
    · rintro t ⟨Z1, rfl, h1, h2, h4, h3⟩
      unfold gm_fillsPlans_L83
      simp (disch := omega) only [pj_lit, pj_add, pj_sub, pj_neg, pj_mul, pj_lt, pj_eq, pj_nat, pj_ald, pj_ast, pj_ix, pw_bind, pw_ite, pw_some, pw_none, pw_let, Option.bind_some, Int.toNat_natCast, Sum.elim_inl, Sum.elim_inr, Int.cast_ofNat_Int, Int.reduceLT, Int.reduceLE, Int.reduceEq, Int.reduceAdd, Int.reduceSub, Int.reduceMul, Int.reduceNeg, Int.reduceToNat, Nat.reduceAdd, Nat.reduceSub, Nat.reduceMul, Nat.reduceEqDiff, Nat.reduceLT, reduceIte, reduceCtorEq, true_and, and_true, forall_const, not_true_eq_false, not_false_eq_true, false_implies, implies_true, Int.lt_irrefl]
      exact ⟨⟨h1, h2, fun a b ha hb hab => ⟨(h4 a b ha hb hab (by omega)).1, (h4 a b ha hb hab (by omega)).2.1⟩⟩, fun a b ha hb hab => (h4 a b ha hb hab (by omega)).2.2, h3⟩
/-! the model goes through all rows -/
theorem po_F5b : (po_all.all fun o => decide o.Nodup) = true := by decide +kernel
theorem po_F5 {o : List Nat} (h : o ∈ po_all) : o.Nodup := of_decide_eq_true (List.all_eq_true.1 po_F5b o h)
theorem po_each {α τ ρ : Type} {b : τ → Option (τ ⊕ ρ)} (H : Nat) (f : α → List Nat → α) (I : α → List Nat → τ → Prop) (Q : α → ρ → Prop)
    (h1 : ∀ a r o t, I a r t → po_next H r = some o.reverse → o ∈ po_lst H → pw (b t) (Sum.elim (I (f a o) o.reverse) (fun _ => False)))
    (h2 : ∀ a r t, I a r t → po_next H r = none → pw (b t) (Sum.elim (fun _ => False) (Q a))) :
    ∀ (os : List (List Nat)) r a t fuel, po_chk H r os = true → (∀ o ∈ os, o ∈ po_lst H) → os.length < fuel → I a r t → pw (zs_loop fuel b t) (Q (os.foldl f a))
  | [], r, a, t, fuel, hc, _, hf, hI => by
    cases fuel with
    | zero => omega
    | succ n =>
      refine pw_seq (h2 a r t hI (by unfold po_chk at hc; exact Option.isNone_iff_eq_none.1 hc)) (fun s hs => ?_)
      cases s with
      | inl t' => exact hs.elim
      | inr x => exact (pw_some x _).2 hs
  | o :: os, r, a, t, fuel, hc, hm, hf, hI => by
    cases fuel with
    | zero => omega
    | succ n =>
      unfold po_chk at hc
      rw [Bool.and_eq_true, beq_iff_eq] at hc
      refine pw_seq (h1 a r o t hI hc.1 (hm o List.mem_cons_self)) (fun s hs => ?_)
      cases s with
      | inl t' => exact po_each H f I Q h1 h2 os o.reverse (f a o) t' n hc.2 (fun x hx => hm x (List.mem_cons_of_mem _ hx)) (by rw [List.length_cons] at hf; omega) hs
      | inr x => exact hs.elim
theorem po_lst_len (H : Nat) : (po_lst H).length ≤ 1956 := by
  have := List.length_filter_le (po_in H) po_all
  rw [po_lenb] at this
  exact this
theorem po_eachA {α τ ρ : Type} {b : τ → Option (τ ⊕ ρ)} {H : Nat} (hH : H < 64) (f : α → List Nat → α) (I : α → List Nat → τ → Prop) (Q : α → ρ → Prop)
    (h1 : ∀ a r o t, I a r t → po_next H r = some o.reverse → o ∈ po_lst H → pw (b t) (Sum.elim (I (f a o) o.reverse) (fun _ => False)))
    (h2 : ∀ a r t, I a r t → po_next H r = none → pw (b t) (Sum.elim (fun _ => False) (Q a))) (a : α) (t : τ) (h : I a [] t) : pw (zs_loop 5000 b t) (Q ((po_lst H).foldl f a)) :=
  po_each H f I Q h1 h2 (po_lst H) [] a t 5000 (po_F2 hH) (fun _ h => h) (by have := po_lst_len H; omega) h
/-- the model's row of places: from the bottom r -/
def pm_O (Z : zm_S) (r : List Nat) : Prop := Z.1 61 = pj r.length ∧ r.length ≤ 6 ∧ (∀ x ∈ r, x < 6) ∧ ∀ (i h : Nat), r.reverse[i]? = some h → Z.2.1 60 i = pj h
def pm_g (Z Z' : zm_S) : Prop := (∀ k, k ≠ 61 → Z'.1 k = Z.1 k) ∧ (∀ k, k ≠ 60 → Z'.2.1 k = Z.2.1 k) ∧ Z'.2.2 = Z.2.2
theorem pm_g_rfl (Z : zm_S) : pm_g Z Z := ⟨fun _ _ => rfl, fun _ _ => rfl, rfl⟩
theorem pm_g_trans {A B C : zm_S} (h : pm_g A B) (g : pm_g B C) : pm_g A C := ⟨fun k q => (g.1 k q).trans (h.1 k q), fun k a => (g.2.1 k a).trans (h.2.1 k a), g.2.2.trans h.2.2⟩
theorem pm_g_k {Z Z' : zm_S} (h : pm_g Z Z') : pm_k Z Z' := ⟨fun k _ _ _ a => h.1 k a, fun k a => h.2.1 k (by omega), h.2.2⟩
theorem pm_isIn_r {Z : zm_S} {r : List Nat} (hO : pm_O Z r) {x : Nat} (hx : x < 6) : gm_isIn Z (pj x) = some (decide (x ∈ r)) := by
  obtain ⟨g1, g2, g3, g4⟩ := hO
  have hl : r.reverse.length = r.length := List.length_reverse
  unfold gm_isIn
  have key : zs_loop 5000 (gm_isIn_L2 Z (pj x)) (pj 0) = some (decide (x ∈ r)) := by
    have hi := List.idxOf_le_length (a := x) (l := r.reverse)
    refine pw_forE (r.reverse.idxOf x) (fun k => pj (k : Nat)) 5000 (by omega) ?_ ?_
    · intro k hk
      have hk2 : k < r.reverse.length := by omega
      have e := g4 k _ (List.getElem?_eq_getElem hk2)
      have hlt : (k : Int) < (r.length : Nat) := by omega
      have hy := g3 r.reverse[k] (List.mem_reverse.1 (List.getElem_mem hk2))
      have hne : r.reverse[k] ≠ x := by
        intro q
        have hn : ¬ ((r.reverse[k] == x) = true) := by
          have := List.not_of_lt_findIdx (p := (· == x)) (xs := r.reverse) (i := k) hk
          exact Bool.not_eq_true _ |>.symm ▸ this
        exact hn (beq_iff_eq.2 q)
      have hne' : ¬ ((r.reverse[k] : Nat) : Int) = x := by omega
      unfold gm_isIn_L2
      simp (disch := omega) only [pj_lit, pj_add, pj_sub, pj_neg, pj_mul, pj_lt, pj_eq, pj_nat, pj_ald, pj_ast, pj_ix, pw_bind, pw_ite, pw_some, pw_none, pw_let, Option.bind_some, Int.toNat_natCast, Sum.elim_inl, Sum.elim_inr, Int.cast_ofNat_Int, Int.reduceLT, Int.reduceLE, Int.reduceEq, Int.reduceAdd, Int.reduceSub, Int.reduceMul, Int.reduceNeg, Int.reduceToNat, Nat.reduceAdd, Nat.reduceSub, Nat.reduceMul, Nat.reduceEqDiff, Nat.reduceLT, reduceIte, reduceCtorEq, true_and, and_true, forall_const, not_true_eq_false, not_false_eq_true, false_implies, implies_true, g1, hlt, e, hne']
      rfl
    · by_cases hm : x ∈ r
      · have hk2 := List.idxOf_lt_length_of_mem (List.mem_reverse.2 hm)
        have e := g4 _ _ (List.getElem?_eq_getElem hk2)
        rw [List.getElem_idxOf hk2] at e
        have hlt : ((r.reverse.idxOf x : Nat) : Int) < (r.length : Nat) := by omega
        unfold gm_isIn_L2
        simp (disch := omega) only [pj_lit, pj_add, pj_sub, pj_neg, pj_mul, pj_lt, pj_eq, pj_nat, pj_ald, pj_ast, pj_ix, pw_bind, pw_ite, pw_some, pw_none, pw_let, Option.bind_some, Int.toNat_natCast, Sum.elim_inl, Sum.elim_inr, Int.cast_ofNat_Int, Int.reduceLT, Int.reduceLE, Int.reduceEq, Int.reduceAdd, Int.reduceSub, Int.reduceMul, Int.reduceNeg, Int.reduceToNat, Nat.reduceAdd, Nat.reduceSub, Nat.reduceMul, Nat.reduceEqDiff, Nat.reduceLT, reduceIte, reduceCtorEq, true_and, and_true, forall_const, not_true_eq_false, not_false_eq_true, false_implies, implies_true, g1, hlt, e]
        rw [decide_eq_true hm]
      · have e : r.reverse.idxOf x = r.length := by rw [List.idxOf_eq_length (fun q => hm (List.mem_reverse.1 q)), hl]
        rw [e, decide_eq_false hm]
        unfold gm_isIn_L2
        simp (disch := omega) only [pj_lit, pj_add, pj_sub, pj_neg, pj_mul, pj_lt, pj_eq, pj_nat, pj_ald, pj_ast, pj_ix, pw_bind, pw_ite, pw_some, pw_none, pw_let, Option.bind_some, Int.toNat_natCast, Sum.elim_inl, Sum.elim_inr, Int.cast_ofNat_Int, Int.reduceLT, Int.reduceLE, Int.reduceEq, Int.reduceAdd, Int.reduceSub, Int.reduceMul, Int.reduceNeg, Int.reduceToNat, Nat.reduceAdd, Nat.reduceSub, Nat.reduceMul, Nat.reduceEqDiff, Nat.reduceLT, reduceIte, reduceCtorEq, true_and, and_true, forall_const, not_true_eq_false, not_false_eq_true, false_implies, implies_true, g1, Int.lt_irrefl]
  rw [pj_0, key]; rfl
/-- the houses that could be in a row, by the model -/
def pm_L (lg : Nat → Int) (Z : zm_S) : Prop := ∀ h, h < 6 → Z.2.1 55 h = pj (lg h) ∧ 0 ≤ lg h ∧ lg h ≤ 99
theorem pm_nextFrom {Z : zm_S} {r : List Nat} {P : po_P} (hO : pm_O Z r) (hL : pm_L P.1 Z) {h : Nat} (hh : h ≤ 6) : gm_nextFrom Z (pj h) = some (match po_nf (po_H P) r h with
    | some k => pj k
    | none => pj (-1)) ∧ ∀ k, po_nf (po_H P) r h = some k → k < 6 := by
  have hc : ∀ k, k < 6 → (po_H P).testBit k = decide (0 < P.1 k) := fun k hk => by
    unfold po_H; rw [pb_bit, decide_eq_true hk, Bool.true_and]
  have step : ∀ k, k < 6 → h ≤ k → gm_nextFrom_L2 Z (pj k) = some (if (decide (h ≤ k) && (po_H P).testBit k && !r.contains k) = true then Sum.inr (pj k) else Sum.inl (pj ((k + 1 : Nat) : Int))) := by
    intro k hk hhk
    have e := (hL k hk).1
    have hb := (hL k hk).2
    have hlt : (k : Int) < 6 := by omega
    rw [hc k hk, decide_eq_true hhk, Bool.true_and]
    unfold gm_nextFrom_L2
    simp (disch := omega) only [pj_lit, pj_add, pj_sub, pj_neg, pj_mul, pj_lt, pj_eq, pj_nat, pj_ald, pj_ast, pj_ix, pw_bind, pw_ite, pw_some, pw_none, pw_let, Option.bind_some, Int.toNat_natCast, Sum.elim_inl, Sum.elim_inr, Int.cast_ofNat_Int, Int.reduceLT, Int.reduceLE, Int.reduceEq, Int.reduceAdd, Int.reduceSub, Int.reduceMul, Int.reduceNeg, Int.reduceToNat, Nat.reduceAdd, Nat.reduceSub, Nat.reduceMul, Nat.reduceEqDiff, Nat.reduceLT, reduceIte, reduceCtorEq, true_and, and_true, forall_const, not_true_eq_false, not_false_eq_true, false_implies, implies_true, hlt, e, pm_isIn_r hO hk, decide_eq_true_eq]
    by_cases c1 : 0 < P.1 k
    · rw [if_pos c1, decide_eq_true c1, Bool.true_and]
      by_cases c2 : k ∈ r
      · rw [if_pos c2, if_neg (by simp [c2])]; rfl
      · rw [if_neg c2, if_pos (by simp [c2])]
    · rw [if_neg c1, decide_eq_false c1, Bool.false_and, if_neg (by decide)]; rfl
  have last : gm_nextFrom_L2 Z (pj ((6 : Nat) : Int)) = some (Sum.inr (pj (-1))) := by
    unfold gm_nextFrom_L2
    simp (disch := omega) only [pj_lit, pj_add, pj_sub, pj_neg, pj_mul, pj_lt, pj_eq, pj_nat, pj_ald, pj_ast, pj_ix, pw_bind, pw_ite, pw_some, pw_none, pw_let, Option.bind_some, Int.toNat_natCast, Sum.elim_inl, Sum.elim_inr, Int.cast_ofNat_Int, Int.reduceLT, Int.reduceLE, Int.reduceEq, Int.reduceAdd, Int.reduceSub, Int.reduceMul, Int.reduceNeg, Int.reduceToNat, Nat.reduceAdd, Nat.reduceSub, Nat.reduceMul, Nat.reduceEqDiff, Nat.reduceLT, reduceIte, reduceCtorEq, true_and, and_true, forall_const, not_true_eq_false, not_false_eq_true, false_implies, implies_true, Int.lt_irrefl]
  unfold gm_nextFrom
  cases hf : po_nf (po_H P) r h with
  | none =>
    refine ⟨?_, fun k q => (by cases q)⟩
    unfold po_nf at hf
    rw [List.find?_eq_none] at hf
    have key : zs_loop 5000 (gm_nextFrom_L2 Z) (pj ((h + 0 : Nat) : Int)) = some (pj (-1)) := by
      refine pw_forE (6 - h) (fun k => pj ((h + k : Nat) : Int)) 5000 (by omega) ?_ ?_
      · intro k hk
        have := hf (h + k) (List.mem_range.2 (by omega))
        show gm_nextFrom_L2 Z (pj ((h + k : Nat) : Int)) = _
        rw [step (h + k) (by omega) (by omega), if_neg this]; rfl
      · have e : h + (6 - h) = 6 := by omega
        show gm_nextFrom_L2 Z (pj ((h + (6 - h) : Nat) : Int)) = _
        rw [e]; exact last
    rw [Nat.add_zero] at key
    rw [key]; rfl
  | some m =>
    unfold po_nf at hf
    rw [List.find?_range_eq_some] at hf
    obtain ⟨f1, f2, f3⟩ := hf
    have hm6 := List.mem_range.1 f2
    have hhm : h ≤ m := by
      simp only [Bool.and_eq_true, decide_eq_true_eq] at f1
      exact f1.1.1
    refine ⟨?_, fun k q => by injection q with q; omega⟩
    have key : zs_loop 5000 (gm_nextFrom_L2 Z) (pj ((h + 0 : Nat) : Int)) = some (pj m) := by
      refine pw_forE (m - h) (fun k => pj ((h + k : Nat) : Int)) 5000 (by omega) ?_ ?_
      · intro k hk
        have := f3 (h + k) (by omega)
        show gm_nextFrom_L2 Z (pj ((h + k : Nat) : Int)) = _
        rw [step (h + k) (by omega) (by omega), if_neg (fun q => by rw [q] at this; cases this)]; rfl
      · have e : h + (m - h) = m := by omega
        show gm_nextFrom_L2 Z (pj ((h + (m - h) : Nat) : Int)) = _
        rw [e, step m hm6 hhm, if_pos f1]
    rw [Nat.add_zero] at key
    rw [key]; rfl
theorem pm_O_pop {Z : zm_S} {x : Nat} {r : List Nat} (hO : pm_O Z (x :: r)) : pm_O (zm_sF Z 61 (pj r.length)) r ∧ Z.2.1 60 r.length = pj x ∧ x < 6 := by
  obtain ⟨g1, g2, g3, g4⟩ := hO
  rw [List.length_cons] at g2
  refine ⟨⟨pm_sF1s _ _ _, by omega, fun y hy => g3 y (List.mem_cons_of_mem _ hy), fun i h e => g4 i h ?_⟩, g4 _ _ ?_, g3 x List.mem_cons_self⟩
  · rw [List.reverse_cons, List.getElem?_append, List.length_reverse]
    have : i < r.reverse.length := (List.getElem?_eq_some_iff.1 e).1
    rw [List.length_reverse] at this
    rw [if_pos this]; exact e
  · rw [List.reverse_cons, List.getElem?_append, List.length_reverse, if_neg (by omega), Nat.sub_self]; rfl
theorem pm_L_g {lg : Nat → Int} {Z Z' : zm_S} (h : pm_g Z Z') (g : pm_L lg Z) : pm_L lg Z' := fun x hx => by rw [h.2.1 55 (by decide)]; exact g x hx
/-- what the going back ends in -/
def pm_U (Z : zm_S) : Option (List Nat) → Int32 × zm_S → Prop
  | some (k :: r), p => p.1 = pj k ∧ pm_O p.2 r ∧ pm_g Z p.2 ∧ k < 6
  | _, p => p.1 = pj (-1) ∧ pm_g Z p.2
theorem pm_upL {P : po_P} : ∀ (r : List Nat) (Z : zm_S) (fuel : Nat), r.length + 1 < fuel → pm_O Z r → pm_L P.1 Z → pw (zs_loop fuel gm_goesToNext_L6 (pj (-1), Z)) (pm_U Z (po_up (po_H P) r))
  | [], Z, 0, hf, _, _ => absurd hf (by omega)
  | [], Z, fuel + 1, hf, hO, hL => by
    have g1 : Z.1 61 = pj 0 := hO.1
    have : gm_goesToNext_L6 (pj (-1), Z) = some (Sum.inr (pj (-1), Z)) := by
      unfold gm_goesToNext_L6
      simp (disch := omega) only [pj_lit, pj_add, pj_sub, pj_neg, pj_mul, pj_lt, pj_eq, pj_nat, pj_ald, pj_ast, pj_ix, pw_bind, pw_ite, pw_some, pw_none, pw_let, Option.bind_some, Int.toNat_natCast, Sum.elim_inl, Sum.elim_inr, Int.cast_ofNat_Int, Int.reduceLT, Int.reduceLE, Int.reduceEq, Int.reduceAdd, Int.reduceSub, Int.reduceMul, Int.reduceNeg, Int.reduceToNat, Nat.reduceAdd, Nat.reduceSub, Nat.reduceMul, Nat.reduceEqDiff, Nat.reduceLT, reduceIte, reduceCtorEq, true_and, and_true, forall_const, not_true_eq_false, not_false_eq_true, false_implies, implies_true, g1, Int.lt_irrefl]
    refine pw_seq (Q := fun s => s = Sum.inr (pj (-1), Z)) (pw_eq this rfl) (fun s hs => ?_)
    subst hs
    exact (pw_some _ _).2 ⟨rfl, pm_g_rfl Z⟩
  | x :: r, Z, 0, hf, _, _ => absurd hf (by omega)
  | x :: r, Z, fuel + 1, hf, hO, hL => by
    have g1 := hO.1
    have g2 := hO.2.1
    rw [List.length_cons] at g1 g2 hf
    obtain ⟨o1, o2, o3⟩ := pm_O_pop hO
    have hg : pm_g Z (zm_sF Z 61 (pj r.length)) := ⟨fun k q => pm_sF1n q, fun _ _ => rfl, rfl⟩
    have hnf := pm_nextFrom (P := P) o1 (pm_L_g hg hL) (h := x + 1) (by omega)
    have hpos : 0 < ((r.length + 1 : Nat) : Int) := by omega
    have e1 : ((r.length + 1 : Nat) : Int) - 1 = (r.length : Nat) := by omega
    have e2 : (x : Int) + 1 = ((x + 1 : Nat) : Int) := by omega
    have hs : (zm_sF Z 61 (pj (r.length : Nat))).1 61 = pj r.length := pm_sF1s _ _ _
    have o2' : (zm_sF Z 61 (pj (r.length : Nat))).2.1 60 r.length = pj x := o2
    unfold po_up
    cases hn : po_nf (po_H P) r (x + 1) with
    | some k =>
      rw [hn] at hnf
      have hk6 := hnf.2 k rfl
      have b1 : gm_goesToNext_L6 (pj (-1), Z) = some (Sum.inl (pj k, zm_sF Z 61 (pj r.length))) := by
        unfold gm_goesToNext_L6
        simp (disch := omega) only [pj_lit, pj_add, pj_sub, pj_neg, pj_mul, pj_lt, pj_eq, pj_nat, pj_ald, pj_ast, pj_ix, pw_bind, pw_ite, pw_some, pw_none, pw_let, Option.bind_some, Int.toNat_natCast, Sum.elim_inl, Sum.elim_inr, Int.cast_ofNat_Int, Int.reduceLT, Int.reduceLE, Int.reduceEq, Int.reduceAdd, Int.reduceSub, Int.reduceMul, Int.reduceNeg, Int.reduceToNat, Nat.reduceAdd, Nat.reduceSub, Nat.reduceMul, Nat.reduceEqDiff, Nat.reduceLT, reduceIte, reduceCtorEq, true_and, and_true, forall_const, not_true_eq_false, not_false_eq_true, false_implies, implies_true, g1, hpos, e1, hs, o2', e2, hnf.1]
      have b2 : gm_goesToNext_L6 (pj k, zm_sF Z 61 (pj r.length)) = some (Sum.inr (pj k, zm_sF Z 61 (pj r.length))) := by
        have hk0 : ¬ (k : Int) < 0 := by omega
        unfold gm_goesToNext_L6
        simp (disch := omega) only [pj_lit, pj_add, pj_sub, pj_neg, pj_mul, pj_lt, pj_eq, pj_nat, pj_ald, pj_ast, pj_ix, pw_bind, pw_ite, pw_some, pw_none, pw_let, Option.bind_some, Int.toNat_natCast, Sum.elim_inl, Sum.elim_inr, Int.cast_ofNat_Int, Int.reduceLT, Int.reduceLE, Int.reduceEq, Int.reduceAdd, Int.reduceSub, Int.reduceMul, Int.reduceNeg, Int.reduceToNat, Nat.reduceAdd, Nat.reduceSub, Nat.reduceMul, Nat.reduceEqDiff, Nat.reduceLT, reduceIte, reduceCtorEq, true_and, and_true, forall_const, not_true_eq_false, not_false_eq_true, false_implies, implies_true, hk0]
      refine pw_seq (Q := fun s => s = Sum.inl (pj k, zm_sF Z 61 (pj r.length))) (pw_eq b1 rfl) (fun s hs => ?_)
      subst hs
      show pw (zs_loop fuel gm_goesToNext_L6 (pj k, zm_sF Z 61 (pj r.length))) _
      cases fuel with
      | zero => omega
      | succ n =>
        refine pw_seq (Q := fun s => s = Sum.inr (pj k, zm_sF Z 61 (pj r.length))) (pw_eq b2 rfl) (fun s hs => ?_)
        subst hs
        exact (pw_some _ _).2 ⟨rfl, o1, hg, hk6⟩
    | none =>
      rw [hn] at hnf
      have b1 : gm_goesToNext_L6 (pj (-1), Z) = some (Sum.inl (pj (-1), zm_sF Z 61 (pj r.length))) := by
        unfold gm_goesToNext_L6
        simp (disch := omega) only [pj_lit, pj_add, pj_sub, pj_neg, pj_mul, pj_lt, pj_eq, pj_nat, pj_ald, pj_ast, pj_ix, pw_bind, pw_ite, pw_some, pw_none, pw_let, Option.bind_some, Int.toNat_natCast, Sum.elim_inl, Sum.elim_inr, Int.cast_ofNat_Int, Int.reduceLT, Int.reduceLE, Int.reduceEq, Int.reduceAdd, Int.reduceSub, Int.reduceMul, Int.reduceNeg, Int.reduceToNat, Nat.reduceAdd, Nat.reduceSub, Nat.reduceMul, Nat.reduceEqDiff, Nat.reduceLT, reduceIte, reduceCtorEq, true_and, and_true, forall_const, not_true_eq_false, not_false_eq_true, false_implies, implies_true, g1, hpos, e1, hs, o2', e2, hnf.1]
      refine pw_seq (Q := fun s => s = Sum.inl (pj (-1), zm_sF Z 61 (pj r.length))) (pw_eq b1 rfl) (fun s hs => ?_)
      subst hs
      refine pw_mono (pm_upL r (zm_sF Z 61 (pj r.length)) fuel (by omega) o1 (pm_L_g hg hL)) (fun p hp => ?_)
      show pm_U Z (po_up (po_H P) r) p
      cases hu : po_up (po_H P) r with
      | none => rw [hu] at hp; exact ⟨hp.1, pm_g_trans hg hp.2⟩
      | some l =>
        rw [hu] at hp
        cases l with
        | nil => exact ⟨hp.1, pm_g_trans hg hp.2⟩
        | cons k r' => exact ⟨hp.1, hp.2.1, pm_g_trans hg hp.2.2.1, hp.2.2.2⟩
theorem po_up_ne (H : Nat) : ∀ r, po_up H r ≠ some []
  | [] => by intro h; cases h
  | x :: r => by
    unfold po_up
    cases po_nf H r (x + 1) with
    | some k => intro h; cases h
    | none => exact po_up_ne H r
theorem pm_O_push {Z : zm_S} {k : Nat} {r : List Nat} (hO : pm_O Z r) (hk : k < 6) (hl : r.length < 6) : pm_O (zm_sF (zm_sA Z 60 (pj r.length) (pj k)) 61 (pj ((r.length : Int) + 1))) (k :: r) := by
  obtain ⟨g1, g2, g3, g4⟩ := hO
  refine ⟨?_, by rw [List.length_cons]; omega, fun y hy => ?_, fun i h e => ?_⟩
  · rw [pm_sF1s, List.length_cons]; rfl
  · rcases List.mem_cons.1 hy with rfl | hy
    · exact hk
    · exact g3 y hy
  · rw [pm_sF2, pm_sAs, pj_upd, pj_nat (by omega), Int.toNat_natCast]
    rw [List.reverse_cons] at e
    rcases pv_app_get e with ⟨q1, q2⟩ | ⟨q1, q2⟩
    · rw [List.length_reverse] at q1
      rw [if_neg (by omega)]; exact g4 i h q2
    · rw [List.length_reverse] at q1
      rw [if_pos q1, q2]
theorem pm_goesNext {Z : zm_S} {r : List Nat} {P : po_P} (hO : pm_O Z r) (hL : pm_L P.1 Z) (hl : ∀ r', po_next (po_H P) r = some r' → r'.length ≤ 6) :
    pw (gm_goesToNext Z) (fun p => match po_next (po_H P) r with
      | some r' => p.1 = true ∧ pm_O p.2 r' ∧ pm_g Z p.2
      | none => p.1 = false ∧ pm_g Z p.2) := by
  have hnf := pm_nextFrom (P := P) hO hL (h := 0) (by omega)
  have hx : gm_nextFrom Z 0 = gm_nextFrom Z (pj ((0 : Nat) : Int)) := rfl
  have fin : ∀ (Z1 : zm_S) (k : Nat) (r1 : List Nat), pm_O Z1 r1 → pm_g Z Z1 → k < 6 → r1.length < 6 → ∃ Z2, (if pj (k : Int) < 0 then some (false, Z1) else (zs_ast 6 (Z1.1 61) (zm_sA Z1 60 (Z1.1 61) (pj (k : Int)))).bind fun M6 => (some (zm_sF M6 61 ((M6.1 61) + 1))).bind fun M7 => some (true, M7)) = some (true, Z2) ∧ pm_O Z2 (k :: r1) ∧ pm_g Z Z2 := by
    intro Z1 k r1 a b c d
    have hk0 : ¬ (k : Int) < 0 := by omega
    have e1 := a.1
    refine ⟨_, ?_, pm_O_push a c d, pm_g_trans b ⟨fun j q => ?_, fun j q => ?_, rfl⟩⟩
    · simp (disch := omega) only [pj_lit, pj_add, pj_sub, pj_neg, pj_mul, pj_lt, pj_eq, pj_nat, pj_ald, pj_ast, pj_ix, pw_bind, pw_ite, pw_some, pw_none, pw_let, Option.bind_some, Int.toNat_natCast, Sum.elim_inl, Sum.elim_inr, Int.cast_ofNat_Int, Int.reduceLT, Int.reduceLE, Int.reduceEq, Int.reduceAdd, Int.reduceSub, Int.reduceMul, Int.reduceNeg, Int.reduceToNat, Nat.reduceAdd, Nat.reduceSub, Nat.reduceMul, Nat.reduceEqDiff, Nat.reduceLT, reduceIte, reduceCtorEq, true_and, and_true, forall_const, not_true_eq_false, not_false_eq_true, false_implies, implies_true, hk0, e1, pm_sA1]
    · rw [pm_sF1n q]; rfl
    · rw [pm_sF2, pm_sAn q]
  unfold gm_goesToNext po_next
  unfold po_next at hl
  rw [hx, hnf.1, Option.bind_some]
  cases hn : po_nf (po_H P) r 0 with
  | some k =>
    have hk6 := hnf.2 k hn
    have hlen := hl (k :: r) (by rw [hn])
    rw [List.length_cons] at hlen
    have b2 : gm_goesToNext_L6 (pj k, Z) = some (Sum.inr (pj k, Z)) := by
      have hk0 : ¬ (k : Int) < 0 := by omega
      unfold gm_goesToNext_L6
      simp (disch := omega) only [pj_lit, pj_add, pj_sub, pj_neg, pj_mul, pj_lt, pj_eq, pj_nat, pj_ald, pj_ast, pj_ix, pw_bind, pw_ite, pw_some, pw_none, pw_let, Option.bind_some, Int.toNat_natCast, Sum.elim_inl, Sum.elim_inr, Int.cast_ofNat_Int, Int.reduceLT, Int.reduceLE, Int.reduceEq, Int.reduceAdd, Int.reduceSub, Int.reduceMul, Int.reduceNeg, Int.reduceToNat, Nat.reduceAdd, Nat.reduceSub, Nat.reduceMul, Nat.reduceEqDiff, Nat.reduceLT, reduceIte, reduceCtorEq, true_and, and_true, forall_const, not_true_eq_false, not_false_eq_true, false_implies, implies_true, hk0]
    have b3 : zs_loop 5000 gm_goesToNext_L6 (pj k, Z) = some (pj k, Z) := by
      show (gm_goesToNext_L6 (pj k, Z)).bind _ = _
      rw [b2]; rfl
    obtain ⟨Z2, e, q1, q2⟩ := fin Z k r hO (pm_g_rfl Z) hk6 (by omega)
    show pw ((zs_loop 5000 gm_goesToNext_L6 (pj k, Z)).bind _) _
    rw [b3, Option.bind_some]
    exact pw_eq e ⟨rfl, q1, q2⟩
  | none =>
    rw [hn] at hl
    show pw ((zs_loop 5000 gm_goesToNext_L6 (pj (-1), Z)).bind _) (fun (p : Bool × zm_S) => match po_up (po_H P) r with
      | some r' => p.1 = true ∧ pm_O p.2 r' ∧ pm_g Z p.2
      | none => p.1 = false ∧ pm_g Z p.2)
    refine pw_seq (pm_upL r Z 5000 (by have := hO.2.1; omega) hO hL) (fun p hp => ?_)
    have hne := po_up_ne (po_H P) r
    cases hu : po_up (po_H P) r with
    | none =>
      rw [hu] at hp
      have hp1 : p.1 = pj (-1) := hp.1
      have hlt : p.1 < 0 := by rw [hp1]; decide
      rw [if_pos hlt, pw_some]
      exact ⟨rfl, hp.2⟩
    | some l =>
      rw [hu] at hp hne
      cases l with
      | nil => exact absurd rfl hne
      | cons k r' =>
        obtain ⟨p1, p2, p3, p4⟩ := hp
        have hlen := hl (k :: r') hu
        rw [List.length_cons] at hlen
        obtain ⟨Z2, e, q1, q2⟩ := fin p.2 k r' p2 p3 p4 (by omega)
        rw [p1]
        exact pw_eq e ⟨rfl, q1, q2⟩
/-! what a row bears, by the model -/
theorem po_fw_bd {P : po_P} (hj : ∀ a b, a < 6 → b < 6 → 0 ≤ P.2.2.1 a b ∧ P.2.2.1 a b ≤ 999) : ∀ (o : List Nat) (p : Option Nat), (∀ q, p = some q → q < 6) → (∀ x ∈ o, x < 6 ∧ 0 ≤ P.1 x ∧ P.1 x ≤ 99 ∧ 0 ≤ P.2.1 x ∧ P.2.1 x ≤ 99) →
    0 ≤ (po_fw P p o).2 ∧ (po_fw P p o).2 ≤ 99 * o.length ∧ -99 * (o.length : Int) ≤ (po_fw P p o).1 ∧ (po_fw P p o).1 ≤ 999
  | [], p, _, _ => ⟨Int.le_refl _, Int.le_refl _, by show -99 * ((0 : Nat) : Int) ≤ 999; omega, by show (999 : Int) ≤ 999; omega⟩
  | h :: o, p, hp, hx => by
    obtain ⟨x1, x2, x3, x4, x5⟩ := hx h List.mem_cons_self
    have ih := po_fw_bd hj o (some h) (fun q e => by injection e with e; omega) (fun x hx2 => hx x (List.mem_cons_of_mem _ hx2))
    rw [List.length_cons]
    generalize hr : po_fw P (some h) o = r at ih
    cases p with
    | none =>
      show 0 ≤ (po_fw P (some h) o).2 + P.1 h ∧ (po_fw P (some h) o).2 + P.1 h ≤ _ ∧ _ ≤ (if P.2.1 h - (po_fw P (some h) o).2 < (po_fw P (some h) o).1 then P.2.1 h - (po_fw P (some h) o).2 else (po_fw P (some h) o).1) ∧ (if P.2.1 h - (po_fw P (some h) o).2 < (po_fw P (some h) o).1 then P.2.1 h - (po_fw P (some h) o).2 else (po_fw P (some h) o).1) ≤ 999
      rw [hr]
      refine ⟨by omega, by omega, ?_, ?_⟩
      · split <;> omega
      · split <;> omega
    | some q =>
      have hq := hj q h (hp q rfl) x1
      show 0 ≤ (po_fw P (some h) o).2 + P.1 h ∧ (po_fw P (some h) o).2 + P.1 h ≤ _ ∧ _ ≤ (if P.2.2.1 q h - ((po_fw P (some h) o).2 + P.1 h) < (if P.2.1 h - (po_fw P (some h) o).2 < (po_fw P (some h) o).1 then P.2.1 h - (po_fw P (some h) o).2 else (po_fw P (some h) o).1) then P.2.2.1 q h - ((po_fw P (some h) o).2 + P.1 h) else (if P.2.1 h - (po_fw P (some h) o).2 < (po_fw P (some h) o).1 then P.2.1 h - (po_fw P (some h) o).2 else (po_fw P (some h) o).1)) ∧ (if P.2.2.1 q h - ((po_fw P (some h) o).2 + P.1 h) < (if P.2.1 h - (po_fw P (some h) o).2 < (po_fw P (some h) o).1 then P.2.1 h - (po_fw P (some h) o).2 else (po_fw P (some h) o).1) then P.2.2.1 q h - ((po_fw P (some h) o).2 + P.1 h) else (if P.2.1 h - (po_fw P (some h) o).2 < (po_fw P (some h) o).1 then P.2.1 h - (po_fw P (some h) o).2 else (po_fw P (some h) o).1)) ≤ 999
      rw [hr]
      refine ⟨by omega, by omega, ?_, ?_⟩
      · rw [po_le_if, po_le_if]; omega
      · split
        · split at * <;> omega
        · split <;> omega
/-- the model's state in which rows are told -/
def pm_B (T : zt_T) (s : Nat) (V : pv_V) (jn : Nat → Nat → Int) (Z : zm_S) : Prop := pm_T T s Z ∧ (∀ h, h < 6 → Z.2.1 55 h = pj (pv_lg V h)) ∧ (∀ h, h < zt_n T → Z.2.1 56 h = pj (pv_st T V h)) ∧ (∀ a b, a < zt_n T → b < zt_n T → a ≠ b → Z.2.1 59 (6 * a + b) = pj (jn a b)) ∧ ∀ a b, a < 6 → b < 6 → 0 ≤ jn a b ∧ jn a b ≤ 999
theorem pm_B_g {T : zt_T} {s : Nat} {V : pv_V} {jn : Nat → Nat → Int} {Z Z' : zm_S} (h : pm_g Z Z') (g : pm_B T s V jn Z) : pm_B T s V jn Z' := by
  obtain ⟨g1, g2, g3, g4, g5⟩ := g
  refine ⟨pm_T_tx ⟨h.1 18 (by decide), fun k q => h.2.1 k (by omega)⟩ g1, ?_, ?_, ?_, g5⟩
  · rw [h.2.1 55 (by decide)]; exact g2
  · rw [h.2.1 56 (by decide)]; exact g3
  · rw [h.2.1 59 (by decide)]; exact g4
theorem pm_B_L {T : zt_T} {s : Nat} {V : pv_V} {jn : Nat → Nat → Int} {Z : zm_S} (ho : pv_ok (zt_n T) V) (g : pm_B T s V jn Z) : pm_L (po_PT T V jn).1 Z := fun h hh => ⟨g.2.1 h hh, pv_lg_bd ho hh⟩
theorem po_lst_mem {P : po_P} {o : List Nat} (h : o ∈ po_lst (po_H P)) : o ∈ po_all ∧ ∀ x ∈ o, 0 < P.1 x := by
  unfold po_lst at h
  rw [List.mem_filter] at h
  exact ⟨h.1, (po_in_iff P h.1).1 h.2⟩
theorem pm_ordSpare {T : zt_T} {s : Nat} {V : pv_V} {jn : Nat → Nat → Int} {Z : zm_S} (ht : pt_ok T) (ho : pv_ok (zt_n T) V) (hB : pm_B T s V jn Z) {o : List Nat} (hm : o ∈ po_lst (po_H (po_PT T V jn))) (hO : pm_O Z o.reverse) :
    gm_orderSpare Z = some (pj (po_sp (po_PT T V jn) o)) ∧ -1 ≤ po_sp (po_PT T V jn) o ∧ po_sp (po_PT T V jn) o ≤ 999 := by
  have hn := ht.1
  obtain ⟨hm1, hm2⟩ := po_lst_mem hm
  obtain ⟨f1, f2, f3, f4⟩ := po_F0 hm1
  have hnd := po_F5 hm1
  obtain ⟨b1, b2, b3, b4, b5⟩ := hB
  obtain ⟨g1, g2, g3, g4⟩ := hO
  rw [List.reverse_reverse] at g4
  rw [List.length_reverse] at g1 g2
  have hlt_n : ∀ x ∈ o, x < zt_n T := fun x hx => by
    by_cases c : x < zt_n T
    · exact c
    · have h1 := hm2 x hx
      have h2 : (po_PT T V jn).1 x = 0 := pv_lg_no ho (by omega) (f4 x hx)
      omega
  have hxb : ∀ x ∈ o, x < 6 ∧ 0 ≤ (po_PT T V jn).1 x ∧ (po_PT T V jn).1 x ≤ 99 ∧ 0 ≤ (po_PT T V jn).2.1 x ∧ (po_PT T V jn).2.1 x ≤ 99 := fun x hx => by
    have h1 : 0 ≤ (po_PT T V jn).1 x ∧ (po_PT T V jn).1 x ≤ 99 := pv_lg_bd ho (f4 x hx)
    have h2 : 0 ≤ (po_PT T V jn).2.1 x ∧ (po_PT T V jn).2.1 x ≤ 99 := pv_st_bd ht ho (hlt_n x hx)
    exact ⟨f4 x hx, h1.1, h1.2, h2.1, h2.2⟩
  have hbd : ∀ m, m ≤ o.length → 0 ≤ (po_fw (po_PT T V jn) (if m = 0 then none else o[m - 1]?) (o.drop m)).2 ∧ (po_fw (po_PT T V jn) (if m = 0 then none else o[m - 1]?) (o.drop m)).2 ≤ 594 ∧ -594 ≤ (po_fw (po_PT T V jn) (if m = 0 then none else o[m - 1]?) (o.drop m)).1 ∧ (po_fw (po_PT T V jn) (if m = 0 then none else o[m - 1]?) (o.drop m)).1 ≤ 999 := by
    intro m hm'
    have := po_fw_bd (P := po_PT T V jn) b5 (o.drop m) (if m = 0 then none else o[m - 1]?) (fun q e => by
      by_cases c : m = 0
      · rw [if_pos c] at e; cases e
      · rw [if_neg c] at e; exact f4 q (List.mem_of_getElem? e)) (fun x hx => hxb x (List.mem_of_mem_drop hx))
    rw [List.length_drop] at this
    omega
  have key : zs_loop 5000 (gm_orderSpare_L13 Z) (pj 999, pj 0, pj (o.length : Int) - pj 1) = some (pj (po_fw (po_PT T V jn) none o).1, pj (po_fw (po_PT T V jn) none o).2) := by
    have := pw_forE (b := gm_orderSpare_L13 Z) (r := (pj (po_fw (po_PT T V jn) none o).1, pj (po_fw (po_PT T V jn) none o).2)) o.length
      (fun k => (pj (po_fw (po_PT T V jn) (if o.length - k = 0 then none else o[o.length - k - 1]?) (o.drop (o.length - k))).1, pj (po_fw (po_PT T V jn) (if o.length - k = 0 then none else o[o.length - k - 1]?) (o.drop (o.length - k))).2, pj ((o.length : Int) - 1 - (k : Nat)))) 5000 (by omega) ?_ ?_
    · have e0 : o.length - 0 = o.length := rfl
      rw [e0, List.drop_length] at this
      have e1 : (po_fw (po_PT T V jn) (if o.length = 0 then none else o[o.length - 1]?) []) = (999, 0) := by
        split <;> rfl
      rw [e1] at this
      have e2 : (o.length : Int) - 1 - ((0 : Nat) : Int) = (o.length : Int) - 1 := by omega
      rw [e2, ← pj_sub] at this
      exact this
    · intro k hk
      generalize hmm : o.length - k = m
      have hm1' : 0 < m := by omega
      have hml : m ≤ o.length := by omega
      have hk1 : o.length - (k + 1) = m - 1 := by omega
      rw [hk1]
      have hget : o[m - 1]? = some o[m - 1] := List.getElem?_eq_getElem (by omega)
      have hdrop : o.drop (m - 1) = o[m - 1] :: o.drop m := by
        rw [List.drop_eq_getElem_cons (by omega)]; congr 2; omega
      have hx := hxb o[m - 1] (List.getElem_mem (by omega))
      have hxn := hlt_n o[m - 1] (List.getElem_mem (by omega))
      have hb1 := hbd m hml
      have hb2 := hbd (m - 1) (by omega)
      rw [if_neg (show ¬ m = 0 by omega)] at hb1 ⊢
      rw [hdrop] at hb2 ⊢
      rw [hget] at hb1 ⊢
      have hcell := g4 (m - 1) _ hget
      generalize o[m - 1] = x at hx hxn hb1 hb2 hcell hget
      have e1 : (o.length : Int) - 1 - (k : Nat) = ((m - 1 : Nat) : Int) := by omega
      have e3 : (o.length : Int) - 1 - ((k + 1 : Nat) : Int) = ((m - 1 : Nat) : Int) + -1 := by omega
      have hge : ¬ (((m - 1 : Nat) : Int) < 0) := by omega
      have s56 := b3 x hxn
      have s55 := b2 x hx.1
      rw [e1, e3]
      by_cases c : m - 1 = 0
      · rw [if_pos c] at hb2 ⊢
        have c0 : ¬ (0 < ((m - 1 : Nat) : Int)) := by omega
        have s56' : Z.2.1 56 x = pj ((po_PT T V jn).2.1 x) := s56
        have s55' : Z.2.1 55 x = pj ((po_PT T V jn).1 x) := s55
        show _ = some (Sum.inl (pj (if (po_PT T V jn).2.1 x - (po_fw (po_PT T V jn) (some x) (o.drop m)).2 < (po_fw (po_PT T V jn) (some x) (o.drop m)).1 then (po_PT T V jn).2.1 x - (po_fw (po_PT T V jn) (some x) (o.drop m)).2 else (po_fw (po_PT T V jn) (some x) (o.drop m)).1), pj ((po_fw (po_PT T V jn) (some x) (o.drop m)).2 + (po_PT T V jn).1 x), _))
        generalize po_fw (po_PT T V jn) (some x) (o.drop m) = r at hb1
        unfold gm_orderSpare_L13
        simp (disch := omega) only [pj_lit, pj_add, pj_sub, pj_neg, pj_mul, pj_lt, pj_eq, pj_nat, pj_ald, pj_ast, pj_ix, pw_bind, pw_ite, pw_some, pw_none, pw_let, Option.bind_some, Int.toNat_natCast, Sum.elim_inl, Sum.elim_inr, Int.cast_ofNat_Int, Int.reduceLT, Int.reduceLE, Int.reduceEq, Int.reduceAdd, Int.reduceSub, Int.reduceMul, Int.reduceNeg, Int.reduceToNat, Nat.reduceAdd, Nat.reduceSub, Nat.reduceMul, Nat.reduceEqDiff, Nat.reduceLT, reduceIte, reduceCtorEq, true_and, and_true, forall_const, not_true_eq_false, not_false_eq_true, false_implies, implies_true, hge, hcell, s56', s55', c0]
        by_cases d : (po_PT T V jn).2.1 x - r.2 < r.1
        · rw [if_pos d, if_pos d]; rfl
        · rw [if_neg d, if_neg d]; rfl
      · rw [if_neg c] at hb2 ⊢
        have hget2 : o[m - 1 - 1]? = some o[m - 1 - 1] := List.getElem?_eq_getElem (by omega)
        rw [hget2] at hb2 ⊢
        have hcell2 := g4 (m - 1 - 1) _ hget2
        have hyn := hlt_n o[m - 1 - 1] (List.getElem_mem (by omega))
        have hne : o[m - 1 - 1] ≠ x := by
          intro q
          have hxe : o[m - 1]? = some x := hget
          have := pv_nodup hnd (show m - 1 - 1 < o.length by omega) (show m - 1 < o.length by omega) (by omega)
          rw [List.getD_eq_getElem?_getD, List.getD_eq_getElem?_getD, hget2, hxe] at this
          exact this q
        generalize o[m - 1 - 1] = y at hb2 hcell2 hyn hne
        have s59 := b4 y x hyn hxn hne
        have hjb := b5 y x (by omega) hx.1
        have c0 : 0 < ((m - 1 : Nat) : Int) := by omega
        have e4 : ((m - 1 : Nat) : Int) - 1 = ((m - 1 - 1 : Nat) : Int) := by omega
        have e5 : (6 : Int) * (y : Nat) + (x : Nat) = ((6 * y + x : Nat) : Int) := by omega
        have s56' : Z.2.1 56 x = pj ((po_PT T V jn).2.1 x) := s56
        have s55' : Z.2.1 55 x = pj ((po_PT T V jn).1 x) := s55
        have s59' : Z.2.1 59 (6 * y + x) = pj ((po_PT T V jn).2.2.1 y x) := s59
        have hjb' : 0 ≤ (po_PT T V jn).2.2.1 y x ∧ (po_PT T V jn).2.2.1 y x ≤ 999 := hjb
        show _ = some (Sum.inl (pj (if (po_PT T V jn).2.2.1 y x - ((po_fw (po_PT T V jn) (some x) (o.drop m)).2 + (po_PT T V jn).1 x) < (if (po_PT T V jn).2.1 x - (po_fw (po_PT T V jn) (some x) (o.drop m)).2 < (po_fw (po_PT T V jn) (some x) (o.drop m)).1 then (po_PT T V jn).2.1 x - (po_fw (po_PT T V jn) (some x) (o.drop m)).2 else (po_fw (po_PT T V jn) (some x) (o.drop m)).1) then (po_PT T V jn).2.2.1 y x - ((po_fw (po_PT T V jn) (some x) (o.drop m)).2 + (po_PT T V jn).1 x) else (if (po_PT T V jn).2.1 x - (po_fw (po_PT T V jn) (some x) (o.drop m)).2 < (po_fw (po_PT T V jn) (some x) (o.drop m)).1 then (po_PT T V jn).2.1 x - (po_fw (po_PT T V jn) (some x) (o.drop m)).2 else (po_fw (po_PT T V jn) (some x) (o.drop m)).1)), pj ((po_fw (po_PT T V jn) (some x) (o.drop m)).2 + (po_PT T V jn).1 x), _))
        generalize po_fw (po_PT T V jn) (some x) (o.drop m) = r at hb1
        unfold gm_orderSpare_L13
        by_cases d : (po_PT T V jn).2.1 x - r.2 < r.1
        · simp only [if_pos d]
          by_cases d2 : (po_PT T V jn).2.2.1 y x - (r.2 + (po_PT T V jn).1 x) < (po_PT T V jn).2.1 x - r.2
          · simp (disch := omega) only [pj_lit, pj_add, pj_sub, pj_neg, pj_mul, pj_lt, pj_eq, pj_nat, pj_ald, pj_ast, pj_ix, pw_bind, pw_ite, pw_some, pw_none, pw_let, Option.bind_some, Int.toNat_natCast, Sum.elim_inl, Sum.elim_inr, Int.cast_ofNat_Int, Int.reduceLT, Int.reduceLE, Int.reduceEq, Int.reduceAdd, Int.reduceSub, Int.reduceMul, Int.reduceNeg, Int.reduceToNat, Nat.reduceAdd, Nat.reduceSub, Nat.reduceMul, Nat.reduceEqDiff, Nat.reduceLT, reduceIte, reduceCtorEq, true_and, and_true, forall_const, not_true_eq_false, not_false_eq_true, false_implies, implies_true, hge, hcell, s56', s55', c0, d, e4, hcell2, e5, s59', d2]
          · simp (disch := omega) only [pj_lit, pj_add, pj_sub, pj_neg, pj_mul, pj_lt, pj_eq, pj_nat, pj_ald, pj_ast, pj_ix, pw_bind, pw_ite, pw_some, pw_none, pw_let, Option.bind_some, Int.toNat_natCast, Sum.elim_inl, Sum.elim_inr, Int.cast_ofNat_Int, Int.reduceLT, Int.reduceLE, Int.reduceEq, Int.reduceAdd, Int.reduceSub, Int.reduceMul, Int.reduceNeg, Int.reduceToNat, Nat.reduceAdd, Nat.reduceSub, Nat.reduceMul, Nat.reduceEqDiff, Nat.reduceLT, reduceIte, reduceCtorEq, true_and, and_true, forall_const, not_true_eq_false, not_false_eq_true, false_implies, implies_true, hge, hcell, s56', s55', c0, d, e4, hcell2, e5, s59', d2]
        · simp only [if_neg d]
          by_cases d2 : (po_PT T V jn).2.2.1 y x - (r.2 + (po_PT T V jn).1 x) < r.1
          · simp (disch := omega) only [pj_lit, pj_add, pj_sub, pj_neg, pj_mul, pj_lt, pj_eq, pj_nat, pj_ald, pj_ast, pj_ix, pw_bind, pw_ite, pw_some, pw_none, pw_let, Option.bind_some, Int.toNat_natCast, Sum.elim_inl, Sum.elim_inr, Int.cast_ofNat_Int, Int.reduceLT, Int.reduceLE, Int.reduceEq, Int.reduceAdd, Int.reduceSub, Int.reduceMul, Int.reduceNeg, Int.reduceToNat, Nat.reduceAdd, Nat.reduceSub, Nat.reduceMul, Nat.reduceEqDiff, Nat.reduceLT, reduceIte, reduceCtorEq, true_and, and_true, forall_const, not_true_eq_false, not_false_eq_true, false_implies, implies_true, hge, hcell, s56', s55', c0, d, e4, hcell2, e5, s59', d2]
          · simp (disch := omega) only [pj_lit, pj_add, pj_sub, pj_neg, pj_mul, pj_lt, pj_eq, pj_nat, pj_ald, pj_ast, pj_ix, pw_bind, pw_ite, pw_some, pw_none, pw_let, Option.bind_some, Int.toNat_natCast, Sum.elim_inl, Sum.elim_inr, Int.cast_ofNat_Int, Int.reduceLT, Int.reduceLE, Int.reduceEq, Int.reduceAdd, Int.reduceSub, Int.reduceMul, Int.reduceNeg, Int.reduceToNat, Nat.reduceAdd, Nat.reduceSub, Nat.reduceMul, Nat.reduceEqDiff, Nat.reduceLT, reduceIte, reduceCtorEq, true_and, and_true, forall_const, not_true_eq_false, not_false_eq_true, false_implies, implies_true, hge, hcell, s56', s55', c0, d, e4, hcell2, e5, s59', d2]
    · have e0 : o.length - o.length = 0 := Nat.sub_self _
      have e1 : (o.length : Int) - 1 - (o.length : Nat) = -1 := by omega
      show gm_orderSpare_L13 Z (pj (po_fw (po_PT T V jn) (if o.length - o.length = 0 then none else o[o.length - o.length - 1]?) (o.drop (o.length - o.length))).1, pj (po_fw (po_PT T V jn) (if o.length - o.length = 0 then none else o[o.length - o.length - 1]?) (o.drop (o.length - o.length))).2, pj ((o.length : Int) - 1 - (o.length : Nat))) = _
      rw [e0, if_pos rfl, List.drop_zero, e1]
      unfold gm_orderSpare_L13
      simp (disch := omega) only [pj_lit, pj_add, pj_sub, pj_neg, pj_mul, pj_lt, pj_eq, pj_nat, pj_ald, pj_ast, pj_ix, pw_bind, pw_ite, pw_some, pw_none, pw_let, Option.bind_some, Int.toNat_natCast, Sum.elim_inl, Sum.elim_inr, Int.cast_ofNat_Int, Int.reduceLT, Int.reduceLE, Int.reduceEq, Int.reduceAdd, Int.reduceSub, Int.reduceMul, Int.reduceNeg, Int.reduceToNat, Nat.reduceAdd, Nat.reduceSub, Nat.reduceMul, Nat.reduceEqDiff, Nat.reduceLT, reduceIte, reduceCtorEq, true_and, and_true, forall_const, not_true_eq_false, not_false_eq_true, false_implies, implies_true]
  have hb0 := hbd 0 (by omega)
  rw [if_pos rfl, List.drop_zero] at hb0
  have s27 : Z.2.1 27 s = pj (pt_f T 4) := b1.2.2.2.2.2.1
  have hs := b1.1
  have hf := ht.2.2.2.1
  have x27 : zs_ald 2 (Z.2.1 27) (Z.1 18) = some (pj (pt_f T 4)) := by rw [b1.2.1]; simp (disch := omega) only [pj_lit, pj_add, pj_sub, pj_neg, pj_mul, pj_lt, pj_eq, pj_nat, pj_ald, pj_ast, pj_ix, pw_bind, pw_ite, pw_some, pw_none, pw_let, Option.bind_some, Int.toNat_natCast, Sum.elim_inl, Sum.elim_inr, Int.cast_ofNat_Int, Int.reduceLT, Int.reduceLE, Int.reduceEq, Int.reduceAdd, Int.reduceSub, Int.reduceMul, Int.reduceNeg, Int.reduceToNat, Nat.reduceAdd, Nat.reduceSub, Nat.reduceMul, Nat.reduceEqDiff, Nat.reduceLT, reduceIte, reduceCtorEq, true_and, and_true, forall_const, not_true_eq_false, not_false_eq_true, false_implies, implies_true, s27]
  have hP4 : (po_PT T V jn).2.2.2 = pt_f T 4 := rfl
  refine ⟨?_, ?_⟩
  · unfold gm_orderSpare po_sp
    rw [g1, Option.bind_some]
    show (zs_loop 5000 (gm_orderSpare_L13 Z) (pj 999, pj 0, pj (o.length : Int) - pj 1)).bind _ = _
    rw [key, Option.bind_some, x27, Option.bind_some, pw_let, hP4]
    generalize po_fw (po_PT T V jn) none o = r at hb0
    dsimp only
    by_cases d : r.2 < pt_f T 4
    · have d' : pj r.2 < pj (pt_f T 4) := (pj_lt (by omega) (by omega)).2 d
      rw [if_pos d, if_pos d']; rfl
    · have d' : ¬ pj r.2 < pj (pt_f T 4) := fun q => d ((pj_lt (by omega) (by omega)).1 q)
      rw [if_neg d, if_neg d']
      by_cases d2 : r.1 < 0
      · have d2' : pj r.1 < 0 := (pj_lt (b := 0) (by omega) (by omega)).2 d2
        rw [if_pos d2, if_pos d2']; rfl
      · have d2' : ¬ pj r.1 < 0 := fun q => d2 ((pj_lt (b := 0) (by omega) (by omega)).1 q)
        rw [if_neg d2, if_neg d2']
  · unfold po_sp
    generalize po_fw (po_PT T V jn) none o = r at hb0
    split
    · omega
    · split <;> omega
/-! orders, peak -/
theorem pc_k_16 {M M' : cs_S} (h : pc_k M M') : M'.2 0 16 0 = M.2 0 16 0 := h.2.2
theorem pc_orders {T : zt_T} {M : cs_S} {V : pv_V} (hT : pt_ok T) (hV : pc_V M 0 V) (ho : pv_ok (zt_n T) V) (h0 : M.2 0 16 0 = pj 0) {w : Int} (hw : 0 ≤ w ∧ w ≤ 999) :
    pw (gh_orders T M (pj w)) (fun p => p.1 = pj (po_N (po_PT T V (po_jn T V)) w : Nat) ∧ pc_k M p.2) := by
  unfold gh_orders
  rw [pc_haulw, pj_toInt (by omega), decide_eq_true hw, Option.bind_some, if_pos rfl]
  refine pw_seq (pc_laysJoins hT hV ho (by omega)) (fun M1 h1 => ?_)
  obtain ⟨hJ, hj⟩ := h1
  have hk := pc_j_k hj
  refine pw_seq (pc_laysOrders hT (pc_V_j (by omega) hj hV) ho (by omega) hJ (hk.2.2.trans h0) hw) (fun p hp => ?_)
  rw [pw_some]
  exact ⟨hp.1, pc_k_trans hk (pc_d_k hp.2)⟩
theorem pm_g_w {Z Z' : zm_S} (h : pm_g Z Z') : (∀ k, k ≠ 61 → Z'.1 k = Z.1 k) := h.1
/-- the model's plans told -/
theorem pm_plan {T : zt_T} {s : Nat} {Z : zm_S} {V : pv_V} (ht : pt_ok T) (hm : pm_T T s Z) (hV : pv_row (Z.2.1 48) V) (ho : pv_ok (zt_n T) V) :
    pw (gm_fillsPlans Z) (fun Z' => pm_B T s V (po_jn T V) Z' ∧ pm_P T V Z' ∧ pm_q Z Z') := by
  have hn := ht.1
  refine pw_mono (pm_fills ht hm hV ho) (fun Z' h => ?_)
  obtain ⟨h1, h2, h3⟩ := h
  exact ⟨⟨pm_T_tx (pm_q_tx h3) hm, h1.1, h1.2.1, h2, fun a b ha hb => pv_joins_bd T V a b (ht.2.2.1 a b ha hb)⟩, h1, h3⟩
theorem pm_O_nil (Z : zm_S) : pm_O (zm_sF Z 61 (pj 0)) [] := ⟨rfl, by simp, fun x hx => (by cases hx), fun i h e => (by cases e)⟩
theorem pm_g_0 (Z : zm_S) : pm_g Z (zm_sF Z 61 (pj 0)) := ⟨fun k q => pm_sF1n q, fun _ _ => rfl, rfl⟩
/-- going on and what the row then bears -/
theorem pm_next {T : zt_T} {s : Nat} {V : pv_V} {jn : Nat → Nat → Int} {Z : zm_S} (ht : pt_ok T) (ho : pv_ok (zt_n T) V) (hB : pm_B T s V jn Z) {r o : List Nat} (hO : pm_O Z r) (hn : po_next (po_H (po_PT T V jn)) r = some o.reverse) (hm : o ∈ po_lst (po_H (po_PT T V jn))) :
    ∃ Z', gm_goesToNext Z = some (true, Z') ∧ pm_O Z' o.reverse ∧ pm_g Z Z' ∧ pm_B T s V jn Z' ∧ gm_orderSpare Z' = some (pj (po_sp (po_PT T V jn) o)) ∧ -1 ≤ po_sp (po_PT T V jn) o ∧ po_sp (po_PT T V jn) o ≤ 999 := by
  have hlen : o.reverse.length ≤ 6 := by rw [List.length_reverse]; exact (po_F0 (po_lst_mem hm).1).2.1
  have h1 := pm_goesNext (P := po_PT T V jn) hO (pm_B_L ho hB) (fun r' e => by rw [hn] at e; injection e with e; rw [← e]; exact hlen)
  rw [hn] at h1
  obtain ⟨⟨b, Z'⟩, e, q1, q2, q3⟩ := h1
  dsimp only at q1 q2 q3
  subst q1
  have hB' := pm_B_g q3 hB
  have hs := pm_ordSpare ht ho hB' hm q2
  exact ⟨Z', e, q2, q3, hB', hs.1, hs.2.1, hs.2.2⟩
theorem pm_nextNo {T : zt_T} {s : Nat} {V : pv_V} {jn : Nat → Nat → Int} {Z : zm_S} (ho : pv_ok (zt_n T) V) (hB : pm_B T s V jn Z) {r : List Nat} (hO : pm_O Z r) (hn : po_next (po_H (po_PT T V jn)) r = none) :
    ∃ Z', gm_goesToNext Z = some (false, Z') ∧ pm_g Z Z' := by
  have h1 := pm_goesNext (P := po_PT T V jn) hO (pm_B_L ho hB) (fun r' e => by rw [hn] at e; cases e)
  rw [hn] at h1
  obtain ⟨⟨b, Z'⟩, e, q1, q3⟩ := h1
  dsimp only at q1 q3
  subst q1
  exact ⟨Z', e, q3⟩
theorem po_foldl_count (p : List Nat → Bool) : ∀ (l : List (List Nat)) (a : Nat), l.foldl (fun c o => if p o = true then c + 1 else c) a = a + l.countP p
  | [], a => rfl
  | x :: l, a => by
    rw [List.foldl_cons, po_foldl_count p l, List.countP_cons]
    split <;> omega
theorem pm_orders {T : zt_T} {s : Nat} {Z : zm_S} {V : pv_V} (ht : pt_ok T) (hm : pm_T T s Z) (ho : pv_ok (zt_n T) V) (hrow : pv_row (Z.2.1 47) V) {w : Int} (hw : 0 ≤ w ∧ w ≤ 999) :
    pw (gm_orders Z (pj w)) (fun p => p.1 = pj (po_N (po_PT T V (po_jn T V)) w : Nat) ∧ pm_k Z p.2) := by
  obtain ⟨Z1, eZ, hc⟩ := pm_copies hm ho hrow
  have hk1 := pm_c_k hc
  obtain ⟨hm1, hr1, -⟩ := hc
  unfold gm_orders
  rw [pm_weight, pj_toInt (by omega), decide_eq_true hw, Option.bind_some, if_pos rfl, eZ, Option.bind_some]
  refine pw_seq (pm_plan ht hm1 hr1 ho) (fun Z2 h2 => ?_)
  obtain ⟨hB, hP, hq⟩ := h2
  have hk2 := pm_k_trans hk1 (pm_q_k hq)
  rw [Option.bind_some]
  refine pw_seq (Q := fun p => p.1 = pj (po_N (po_PT T V (po_jn T V)) w : Nat) ∧ pm_k Z p.2) ?_ (fun M' h => (pw_some _ _).2 h)
  have hN : po_N (po_PT T V (po_jn T V)) w = (po_lst (po_H (po_PT T V (po_jn T V)))).foldl (fun c o => if decide (w ≤ po_sp (po_PT T V (po_jn T V)) o) = true then c + 1 else c) 0 := by
    rw [po_foldl_count, Nat.zero_add]; rfl
  rw [hN]
  refine po_eachA (po_H_lt _) (fun c o => if decide (w ≤ po_sp (po_PT T V (po_jn T V)) o) = true then c + 1 else c) (fun c r t => ∃ Z', t = (pj (c : Nat), Z') ∧ pm_O Z' r ∧ pm_B T s V (po_jn T V) Z' ∧ pm_k Z Z') (fun c (p : Int32 × zm_S) => p.1 = pj (c : Nat) ∧ pm_k Z p.2) ?_ ?_ 0 _ ⟨_, rfl, pm_O_nil Z2, pm_B_g (pm_g_0 Z2) hB, pm_k_trans hk2 (pm_g_k (pm_g_0 Z2))⟩
  · rintro c r o t ⟨Z', rfl, g1, g2, g3⟩ hnx hmo
    obtain ⟨Z3, e1, e2, e3, e4, e5, e6, e7⟩ := pm_next ht ho g2 g1 hnx hmo
    unfold gm_orders_L24
    simp (disch := omega) only [pj_lit, pj_add, pj_sub, pj_neg, pj_mul, pj_lt, pj_eq, pj_nat, pj_ald, pj_ast, pj_ix, pw_bind, pw_ite, pw_some, pw_none, pw_let, Option.bind_some, Int.toNat_natCast, Sum.elim_inl, Sum.elim_inr, Int.cast_ofNat_Int, Int.reduceLT, Int.reduceLE, Int.reduceEq, Int.reduceAdd, Int.reduceSub, Int.reduceMul, Int.reduceNeg, Int.reduceToNat, Nat.reduceAdd, Nat.reduceSub, Nat.reduceMul, Nat.reduceEqDiff, Nat.reduceLT, reduceIte, reduceCtorEq, true_and, and_true, forall_const, not_true_eq_false, not_false_eq_true, false_implies, implies_true, e1, e5]
    refine ⟨fun q => ⟨Z3, ?_, e2, e4, pm_k_trans g3 (pm_g_k e3)⟩, fun q => ⟨Z3, ?_, e2, e4, pm_k_trans g3 (pm_g_k e3)⟩⟩
    · rw [if_neg (by simp; omega)]
    · rw [if_pos (by simp; omega)]; rfl
  · rintro c r t ⟨Z', rfl, g1, g2, g3⟩ hnx
    obtain ⟨Z3, e1, e2⟩ := pm_nextNo ho g2 g1 hnx
    unfold gm_orders_L24
    simp (disch := omega) only [pj_lit, pj_add, pj_sub, pj_neg, pj_mul, pj_lt, pj_eq, pj_nat, pj_ald, pj_ast, pj_ix, pw_bind, pw_ite, pw_some, pw_none, pw_let, Option.bind_some, Int.toNat_natCast, Sum.elim_inl, Sum.elim_inr, Int.cast_ofNat_Int, Int.reduceLT, Int.reduceLE, Int.reduceEq, Int.reduceAdd, Int.reduceSub, Int.reduceMul, Int.reduceNeg, Int.reduceToNat, Nat.reduceAdd, Nat.reduceSub, Nat.reduceMul, Nat.reduceEqDiff, Nat.reduceLT, reduceIte, reduceCtorEq, true_and, and_true, forall_const, not_true_eq_false, not_false_eq_true, false_implies, implies_true, e1, Bool.false_eq_true]
    exact pm_k_trans g3 (pm_g_k e2)
theorem pq_orders {T : zt_T} {M : cs_S} {Z : zm_S} {s : Nat} {V : pv_V} {H : List pv_V} {at_ : Nat} (h : pr_R0 T M Z s V H at_) (a : Int32) :
    pw (gh_orders T M a) (fun p => pw (gm_orders Z a) (fun q => p.1 = q.1 ∧ pr_R T p.2 q.2)) := by
  obtain ⟨hT, hm, ho, hV, hsd, hrow, -, -, -, -, -, -, h0⟩ := id h
  by_cases hh : 0 ≤ a.toInt ∧ a.toInt ≤ 999
  · generalize hw : a.toInt = w at hh
    obtain rfl : a = pj w := by rw [← hw, pj_of]
    exact pr_q h _ (pc_orders hT hV ho h0 hh) (pm_orders hT hm ho hrow hh)
  · unfold gh_orders gm_orders
    rw [pc_haulw, pm_weight, decide_eq_false hh, Option.bind_some, Option.bind_some, if_neg (by decide), if_neg (by decide), pw_some, pw_some]
    exact ⟨rfl, s, V, H, at_, h⟩
/-- the most a row bears -/
def po_pf (P : po_P) (m : Int) (o : List Nat) : Int := if po_sp P o < 0 then m else if m < po_sp P o then po_sp P o else m
def po_pk (P : po_P) : Int := (po_lst (po_H P)).foldl (po_pf P) (-2)
theorem po_pk_aux (P : po_P) {w : Int} (hw : 0 ≤ w) : ∀ (l : List (List Nat)) (m : Int), w ≤ l.foldl (po_pf P) m ↔ w ≤ m ∨ ∃ o ∈ l, w ≤ po_sp P o
  | [], m => by simp
  | x :: l, m => by
    rw [List.foldl_cons, po_pk_aux P hw l]
    have : w ≤ po_pf P m x ↔ w ≤ m ∨ w ≤ po_sp P x := by
      unfold po_pf
      split
      · omega
      · split <;> omega
    rw [this]
    constructor
    · rintro ((h | h) | ⟨o, h1, h2⟩)
      · exact Or.inl h
      · exact Or.inr ⟨x, List.mem_cons_self, h⟩
      · exact Or.inr ⟨o, List.mem_cons_of_mem _ h1, h2⟩
    · rintro (h | ⟨o, h1, h2⟩)
      · exact Or.inl (Or.inl h)
      · rcases List.mem_cons.1 h1 with rfl | h1
        · exact Or.inl (Or.inr h2)
        · exact Or.inr ⟨o, h1, h2⟩
theorem po_pk_N (P : po_P) {w : Int} (hw : 0 ≤ w) : w ≤ po_pk P ↔ 0 < po_N P w := by
  unfold po_pk po_N
  rw [po_pk_aux P hw, List.countP_pos_iff]
  constructor
  · rintro (h | ⟨o, h1, h2⟩)
    · omega
    · exact ⟨o, h1, decide_eq_true h2⟩
  · rintro ⟨o, h1, h2⟩
    exact Or.inr ⟨o, h1, of_decide_eq_true h2⟩
theorem po_pk_ge (P : po_P) : po_pk P = -2 ∨ 0 ≤ po_pk P := by
  have : ∀ (l : List (List Nat)) (m : Int), (m = -2 ∨ 0 ≤ m) → (l.foldl (po_pf P) m = -2 ∨ 0 ≤ l.foldl (po_pf P) m) := by
    intro l
    induction l with
    | nil => exact fun m h => h
    | cons x l ih =>
      intro m h
      rw [List.foldl_cons]
      refine ih _ ?_
      unfold po_pf
      split
      · exact h
      · split
        · right; omega
        · exact h
  exact this _ _ (Or.inl rfl)
theorem po_sp_999 (P : po_P) : ∀ (o : List Nat) (p : Option Nat), (po_fw P p o).1 ≤ 999
  | [], p => by show (999 : Int) ≤ 999; omega
  | h :: o, p => by
    have ih := po_sp_999 P o (some h)
    cases p with
    | none =>
      have := (po_le_if _ (P.2.1 h - (po_fw P (some h) o).2) (po_fw P (some h) o).1).1 (Int.le_refl _)
      exact Int.le_trans this.2 ih
    | some q =>
      have := (po_le_if _ (P.2.2.1 q h - ((po_fw P (some h) o).2 + P.1 h)) (if P.2.1 h - (po_fw P (some h) o).2 < (po_fw P (some h) o).1 then P.2.1 h - (po_fw P (some h) o).2 else (po_fw P (some h) o).1)).1 (Int.le_refl _)
      have h2 := (po_le_if _ (P.2.1 h - (po_fw P (some h) o).2) (po_fw P (some h) o).1).1 this.2
      exact Int.le_trans h2.2 ih
theorem po_pk_le (P : po_P) : po_pk P ≤ 999 := by
  by_cases h : po_pk P ≤ 999
  · exact h
  · have h1 := (po_pk_aux P (w := 1000) (by omega) (po_lst (po_H P)) (-2)).1 (by show (1000 : Int) ≤ po_pk P; omega)
    rcases h1 with h1 | ⟨o, -, h2⟩
    · omega
    · unfold po_sp at h2
      have := po_sp_999 P o none
      split at h2
      · omega
      · split at h2 <;> omega
theorem pm_peakOf {T : zt_T} {s : Nat} {V : pv_V} {jn : Nat → Nat → Int} {Z : zm_S} (ht : pt_ok T) (ho : pv_ok (zt_n T) V) (hB : pm_B T s V jn Z) :
    pw (gm_peakOf Z) (fun p => p.1 = pj (po_pk (po_PT T V jn)) ∧ pm_g Z p.2) := by
  unfold gm_peakOf
  rw [Option.bind_some]
  refine pw_seq (Q := fun p => p.1 = pj (po_pk (po_PT T V jn)) ∧ pm_g Z p.2) ?_ (fun M' h => (pw_some _ _).2 h)
  refine po_eachA (po_H_lt (po_PT T V jn)) (po_pf (po_PT T V jn)) (fun c r t => ∃ Z', t = (pj c, Z') ∧ pm_O Z' r ∧ pm_B T s V jn Z' ∧ pm_g Z Z' ∧ -2 ≤ c ∧ c ≤ 999) (fun c (p : Int32 × zm_S) => p.1 = pj c ∧ pm_g Z p.2) ?_ ?_ (-2) _ ⟨_, rfl, pm_O_nil Z, pm_B_g (pm_g_0 Z) hB, pm_g_0 Z, by omega, by omega⟩
  · rintro c r o t ⟨Z', rfl, g1, g2, g3, g4, g5⟩ hnx hmo
    obtain ⟨Z3, e1, e2, e3, e4, e5, e6, e7⟩ := pm_next ht ho g2 g1 hnx hmo
    have hg := pm_g_trans g3 e3
    unfold gm_peakOf_L8 po_pf
    by_cases d : po_sp (po_PT T V jn) o < 0
    · simp (disch := omega) only [pj_lit, pj_add, pj_sub, pj_neg, pj_mul, pj_lt, pj_eq, pj_nat, pj_ald, pj_ast, pj_ix, pw_bind, pw_ite, pw_some, pw_none, pw_let, Option.bind_some, Int.toNat_natCast, Sum.elim_inl, Sum.elim_inr, Int.cast_ofNat_Int, Int.reduceLT, Int.reduceLE, Int.reduceEq, Int.reduceAdd, Int.reduceSub, Int.reduceMul, Int.reduceNeg, Int.reduceToNat, Nat.reduceAdd, Nat.reduceSub, Nat.reduceMul, Nat.reduceEqDiff, Nat.reduceLT, reduceIte, reduceCtorEq, true_and, and_true, forall_const, not_true_eq_false, not_false_eq_true, false_implies, implies_true, e1, e5, d]
      exact ⟨Z3, rfl, e2, e4, hg, g4, g5⟩
    · by_cases d2 : c < po_sp (po_PT T V jn) o
      · simp (disch := omega) only [pj_lit, pj_add, pj_sub, pj_neg, pj_mul, pj_lt, pj_eq, pj_nat, pj_ald, pj_ast, pj_ix, pw_bind, pw_ite, pw_some, pw_none, pw_let, Option.bind_some, Int.toNat_natCast, Sum.elim_inl, Sum.elim_inr, Int.cast_ofNat_Int, Int.reduceLT, Int.reduceLE, Int.reduceEq, Int.reduceAdd, Int.reduceSub, Int.reduceMul, Int.reduceNeg, Int.reduceToNat, Nat.reduceAdd, Nat.reduceSub, Nat.reduceMul, Nat.reduceEqDiff, Nat.reduceLT, reduceIte, reduceCtorEq, true_and, and_true, forall_const, not_true_eq_false, not_false_eq_true, false_implies, implies_true, e1, e5, d, d2]
        exact ⟨Z3, rfl, e2, e4, hg, by omega, by omega⟩
      · simp (disch := omega) only [pj_lit, pj_add, pj_sub, pj_neg, pj_mul, pj_lt, pj_eq, pj_nat, pj_ald, pj_ast, pj_ix, pw_bind, pw_ite, pw_some, pw_none, pw_let, Option.bind_some, Int.toNat_natCast, Sum.elim_inl, Sum.elim_inr, Int.cast_ofNat_Int, Int.reduceLT, Int.reduceLE, Int.reduceEq, Int.reduceAdd, Int.reduceSub, Int.reduceMul, Int.reduceNeg, Int.reduceToNat, Nat.reduceAdd, Nat.reduceSub, Nat.reduceMul, Nat.reduceEqDiff, Nat.reduceLT, reduceIte, reduceCtorEq, true_and, and_true, forall_const, not_true_eq_false, not_false_eq_true, false_implies, implies_true, e1, e5, d, d2]
        exact ⟨Z3, rfl, e2, e4, hg, g4, g5⟩
  · rintro c r t ⟨Z', rfl, g1, g2, g3, g4, g5⟩ hnx
    obtain ⟨Z3, e1, e2⟩ := pm_nextNo ho g2 g1 hnx
    unfold gm_peakOf_L8
    simp (disch := omega) only [pj_lit, pj_add, pj_sub, pj_neg, pj_mul, pj_lt, pj_eq, pj_nat, pj_ald, pj_ast, pj_ix, pw_bind, pw_ite, pw_some, pw_none, pw_let, Option.bind_some, Int.toNat_natCast, Sum.elim_inl, Sum.elim_inr, Int.cast_ofNat_Int, Int.reduceLT, Int.reduceLE, Int.reduceEq, Int.reduceAdd, Int.reduceSub, Int.reduceMul, Int.reduceNeg, Int.reduceToNat, Nat.reduceAdd, Nat.reduceSub, Nat.reduceMul, Nat.reduceEqDiff, Nat.reduceLT, reduceIte, reduceCtorEq, true_and, and_true, forall_const, not_true_eq_false, not_false_eq_true, false_implies, implies_true, e1, Bool.false_eq_true]
    exact pm_g_trans g3 e2
theorem pq_peak {T : zt_T} {M : cs_S} {Z : zm_S} {s : Nat} {V : pv_V} {H : List pv_V} {at_ : Nat} (h : pr_R0 T M Z s V H at_) :
    pw (gh_peak T M) (fun p => pw (gm_peak Z) (fun q => p.1 = q.1 ∧ pr_R T p.2 q.2)) := by
  obtain ⟨hT, hm, ho, hV, hsd, hrow, -, -, -, -, -, -, h0⟩ := id h
  have hpg := po_pk_ge (po_PT T V (po_jn T V))
  have hpl := po_pk_le (po_PT T V (po_jn T V))
  refine pr_q h (pj (po_pk (po_PT T V (po_jn T V)))) ?_ ?_
  · unfold gh_peak
    refine pw_seq (pc_laysJoins hT hV ho (by omega)) (fun M1 h1 => ?_)
    obtain ⟨hJ, hj⟩ := h1
    have hk := pc_j_k hj
    have hV1 := pc_V_j (by omega) hj hV
    have h01 := hk.2.2.trans h0
    refine pw_seq (Q := fun p : Int32 × cs_S => ∃ w : Int, p.1 = pj w ∧ -1 ≤ w ∧ w ≤ 999 ∧ (w < 0 ∨ w ≤ po_pk (po_PT T V (po_jn T V))) ∧ (w < 999 → po_pk (po_PT T V (po_jn T V)) < w + 1) ∧ pc_k M p.2) ?_ ?_
    · refine pw_for 1000 (fun k t => ∃ M', t = (pj (999 - (k : Nat) : Int), M') ∧ pc_d M1 M' ∧ (0 < k → po_pk (po_PT T V (po_jn T V)) < 999 - (k : Nat) + 1)) 5000 (by omega) ?_ ?_ _ ⟨M1, rfl, pc_d_rfl M1, fun h => absurd h (Nat.lt_irrefl 0)⟩
      · rintro k t hk2 ⟨M', rfl, h1, h2⟩
        have hlt : ¬ (999 - (k : Int) < 0) := by omega
        have hJ' : po_Jn T M' (po_jn T V) := fun a b ha hb hab => by rw [h1.2.1 61 a (by omega) (by omega)]; exact hJ a b ha hb hab
        unfold gh_peak_L12
        simp (disch := omega) only [pj_lit, pj_add, pj_sub, pj_neg, pj_mul, pj_lt, pj_eq, pj_nat, pj_ald, pj_ast, pj_ix, pw_bind, pw_ite, pw_some, pw_none, pw_let, Option.bind_some, Int.toNat_natCast, Sum.elim_inl, Sum.elim_inr, Int.cast_ofNat_Int, Int.reduceLT, Int.reduceLE, Int.reduceEq, Int.reduceAdd, Int.reduceSub, Int.reduceMul, Int.reduceNeg, Int.reduceToNat, Nat.reduceAdd, Nat.reduceSub, Nat.reduceMul, Nat.reduceEqDiff, Nat.reduceLT, reduceIte, reduceCtorEq, true_and, and_true, forall_const, not_true_eq_false, not_false_eq_true, false_implies, implies_true, hlt]
        refine pw_mono (pc_laysOrders hT (pc_V_d (by omega) h1 hV1) ho (by omega) hJ' (h1.2.2.trans h01) (w := 999 - k) (by omega)) (fun p hp => ?_)
        obtain ⟨p1, p2⟩ := hp
        have hN := po_pk_N (po_PT T V (po_jn T V)) (w := 999 - (k : Int)) (by omega)
        have hd := pc_d_trans h1 p2
        have hNb : po_N (po_PT T V (po_jn T V)) (999 - (k : Int)) ≤ 1956 := Nat.le_trans List.countP_le_length (po_lst_len _)
        simp (disch := omega) only [pj_lit, pj_add, pj_sub, pj_neg, pj_mul, pj_lt, pj_eq, pj_nat, pj_ald, pj_ast, pj_ix, pw_bind, pw_ite, pw_some, pw_none, pw_let, Option.bind_some, Int.toNat_natCast, Sum.elim_inl, Sum.elim_inr, Int.cast_ofNat_Int, Int.reduceLT, Int.reduceLE, Int.reduceEq, Int.reduceAdd, Int.reduceSub, Int.reduceMul, Int.reduceNeg, Int.reduceToNat, Nat.reduceAdd, Nat.reduceSub, Nat.reduceMul, Nat.reduceEqDiff, Nat.reduceLT, reduceIte, reduceCtorEq, true_and, and_true, forall_const, not_true_eq_false, not_false_eq_true, false_implies, implies_true, p1]
        refine ⟨fun q => ⟨p.2, by congr 2; omega, hd, fun _ => ?_⟩, fun q => ⟨_, rfl, by omega, by omega, Or.inr (hN.2 (by omega)), fun h => h2 (by omega), pc_k_trans hk (pc_d_k hd)⟩⟩
        have : ¬ (0 < po_N (po_PT T V (po_jn T V)) (999 - (k : Int))) := by omega
        rw [← hN] at this
        omega
      · rintro t ⟨M', rfl, h1, h2⟩
        have hlt : (999 - ((1000 : Nat) : Int) < 0) := by omega
        unfold gh_peak_L12
        simp (disch := omega) only [pj_lit, pj_add, pj_sub, pj_neg, pj_mul, pj_lt, pj_eq, pj_nat, pj_ald, pj_ast, pj_ix, pw_bind, pw_ite, pw_some, pw_none, pw_let, Option.bind_some, Int.toNat_natCast, Sum.elim_inl, Sum.elim_inr, Int.cast_ofNat_Int, Int.reduceLT, Int.reduceLE, Int.reduceEq, Int.reduceAdd, Int.reduceSub, Int.reduceMul, Int.reduceNeg, Int.reduceToNat, Nat.reduceAdd, Nat.reduceSub, Nat.reduceMul, Nat.reduceEqDiff, Nat.reduceLT, reduceIte, reduceCtorEq, true_and, and_true, forall_const, not_true_eq_false, not_false_eq_true, false_implies, implies_true, hlt]
        exact ⟨_, rfl, by omega, by omega, Or.inl (by omega), fun _ => h2 (by omega), pc_k_trans hk (pc_d_k h1)⟩
    · rintro ⟨x, M'⟩ ⟨w, rfl, h1, h2, h3, h4, h5⟩
      simp (disch := omega) only [pj_lit, pj_add, pj_sub, pj_neg, pj_mul, pj_lt, pj_eq, pj_nat, pj_ald, pj_ast, pj_ix, pw_bind, pw_ite, pw_some, pw_none, pw_let, Option.bind_some, Int.toNat_natCast, Sum.elim_inl, Sum.elim_inr, Int.cast_ofNat_Int, Int.reduceLT, Int.reduceLE, Int.reduceEq, Int.reduceAdd, Int.reduceSub, Int.reduceMul, Int.reduceNeg, Int.reduceToNat, Nat.reduceAdd, Nat.reduceSub, Nat.reduceMul, Nat.reduceEqDiff, Nat.reduceLT, reduceIte, reduceCtorEq, true_and, and_true, forall_const, not_true_eq_false, not_false_eq_true, false_implies, implies_true]
      refine ⟨fun q => ⟨?_, h5⟩, fun q => ⟨?_, h5⟩⟩
      · congr 1; omega
      · congr 1; omega
  · obtain ⟨Z1, eZ, hc⟩ := pm_copies hm ho hrow
    have hk1 := pm_c_k hc
    obtain ⟨hm1, hr1, -⟩ := hc
    unfold gm_peak
    rw [eZ, Option.bind_some]
    refine pw_seq (pm_plan hT hm1 hr1 ho) (fun Z2 h2 => ?_)
    obtain ⟨hB, hP, hq⟩ := h2
    refine pw_seq (pm_peakOf hT ho hB) (fun p hp => ?_)
    rw [pw_some]
    exact ⟨hp.1, pm_k_trans hk1 (pm_k_trans (pm_q_k hq) (pm_g_k hp.2))⟩
/-! soon -/
def pv_sn (T : zt_T) (V : pv_V) (w : Int) (k : Nat) : Nat := po_N (po_PT T (pv_run T (zt_f T 7) true V k) (po_jn T (pv_run T (zt_f T 7) true V k))) w
def pv_soon (T : zt_T) (V : pv_V) (w : Int) : Int := match (List.range 61).find? (fun k => decide (0 < pv_sn T V w k)) with
  | some k => (k : Nat)
  | none => -2
theorem pv_soon_at {T : zt_T} {V : pv_V} {w : Int} {k : Nat} (h : ∀ j, j < k → ¬ 0 < pv_sn T V w j) (hk : k < 61) (h2 : 0 < pv_sn T V w k) : pv_soon T V w = k := by
  have : (List.range 61).find? (fun k => decide (0 < pv_sn T V w k)) = some k := by
    rw [List.find?_range_eq_some]
    exact ⟨decide_eq_true h2, List.mem_range.2 hk, fun j hj => by simpa using h j hj⟩
  unfold pv_soon
  rw [this]
theorem pv_soon_no {T : zt_T} {V : pv_V} {w : Int} (h : ∀ j, j < 61 → ¬ 0 < pv_sn T V w j) : pv_soon T V w = -2 := by
  have : (List.range 61).find? (fun k => decide (0 < pv_sn T V w k)) = none := by
    rw [List.find?_eq_none]
    intro j hj
    simpa using h j (List.mem_range.1 hj)
  unfold pv_soon
  rw [this]
/-- a village, the rest being scratch -/
def pc_z (M M' : cs_S) : Prop := pc_k M M' ∧ M'.1 (10 + 1) 8 = M.1 (10 + 1) 8
theorem pc_V_k1 {M M' : cs_S} {V : pv_V} (hF : ∀ f, M'.1 (10 + 1) f = M.1 (10 + 1) f) (hA : ∀ f, f < 5 → M'.2 (10 + 1) f = M.2 (10 + 1) f) (g : pc_V M 1 V) : pc_V M' 1 V := by
  obtain ⟨g1, g2, g3, g4, g5⟩ := g
  refine ⟨fun k hk => ?_, ?_, fun k x e => ?_, ?_, ?_⟩
  · rw [hA 0 (by omega), hA 1 (by omega), hA 2 (by omega), hA 3 (by omega)]; exact g1 k hk
  · rw [hF]; exact g2
  · rw [hA 4 (by omega)]; exact g3 k x e
  · rw [hF]; exact g4
  · rw [hF]; exact g5
theorem pq_soon {T : zt_T} {M : cs_S} {Z : zm_S} {s : Nat} {V : pv_V} {H : List pv_V} {at_ : Nat} (h : pr_R0 T M Z s V H at_) (a : Int32) :
    pw (gh_soon T M a) (fun p => pw (gm_soon Z a) (fun q => p.1 = q.1 ∧ pr_R T p.2 q.2)) := by
  obtain ⟨hT, hm, ho, hV, hsd, hrow, -, -, -, -, -, -, h0⟩ := id h
  have hn := hT.1
  by_cases hh : 0 ≤ a.toInt ∧ a.toInt ≤ 999
  · generalize hw : a.toInt = w at hh
    obtain rfl : a = pj w := by rw [← hw, pj_of]
    refine pr_q h (pj (pv_soon T V w)) ?_ ?_
    · obtain ⟨M1, e1, v1, s1, w1⟩ := pc_trial hV ho hsd
      unfold gh_soon
      rw [pc_haulw, hw, decide_eq_true hh, Option.bind_some, if_pos rfl, e1, Option.bind_some]
      refine pw_seq (Q := fun p => p.1 = pj (pv_soon T V w) ∧ pc_k M p.2) ?_ (fun M' h => (pw_some _ _).2 h)
      refine pw_for 61 (fun k t => ∃ M', t = (pj (k : Nat), M') ∧ pc_V M' 1 (pv_run T (zt_f T 7) true V k) ∧ M'.1 (10 + 1) 8 = zt_f T 7 ∧ pc_k M M' ∧ ∀ j, j < k → ¬ 0 < pv_sn T V w j) 5000 (by omega) ?_ ?_ _ ⟨M1, rfl, v1, s1, pc_w_k w1, fun j hj => absurd hj (Nat.not_lt_zero j)⟩
      · rintro k t hk ⟨M2, rfl, v2, s2, w2, hj⟩
        have hlt : ¬ (60 < (k : Int)) := by omega
        have hok := pv_run_ok ho (zt_f T 7) true k
        unfold gh_soon_L22
        simp (disch := omega) only [pj_lit, pj_add, pj_sub, pj_neg, pj_mul, pj_lt, pj_eq, pj_nat, pj_ald, pj_ast, pj_ix, pw_bind, pw_ite, pw_some, pw_none, pw_let, Option.bind_some, Int.toNat_natCast, Sum.elim_inl, Sum.elim_inr, Int.cast_ofNat_Int, Int.reduceLT, Int.reduceLE, Int.reduceEq, Int.reduceAdd, Int.reduceSub, Int.reduceMul, Int.reduceNeg, Int.reduceToNat, Nat.reduceAdd, Nat.reduceSub, Nat.reduceMul, Nat.reduceEqDiff, Nat.reduceLT, reduceIte, reduceCtorEq, true_and, and_true, forall_const, not_true_eq_false, not_false_eq_true, false_implies, implies_true, hlt]
        refine pw_mono (pc_laysJoins hT v2 hok (by omega)) (fun M3 h3 => ?_)
        obtain ⟨hJ, hj3⟩ := h3
        have v3 := pc_V_j (by omega) hj3 v2
        have k3 := pc_k_trans w2 (pc_j_k hj3)
        refine pw_mono (pc_laysOrders hT v3 hok (by omega) hJ (k3.2.2.trans h0) hh) (fun p hp => ?_)
        obtain ⟨p1, p2⟩ := hp
        have k4 := pc_k_trans k3 (pc_d_k p2)
        have v4 := pc_V_d (by omega) p2 v3
        have s4 : p.2.1 (10 + 1) 8 = zt_f T 7 := by rw [p2.1, hj3.1 _ _ (by omega)]; exact s2
        have hNb : po_N (po_PT T (pv_run T (zt_f T 7) true V k) (po_jn T (pv_run T (zt_f T 7) true V k))) w ≤ 1956 := Nat.le_trans List.countP_le_length (po_lst_len _)
        simp (disch := omega) only [pj_lit, pj_add, pj_sub, pj_neg, pj_mul, pj_lt, pj_eq, pj_nat, pj_ald, pj_ast, pj_ix, pw_bind, pw_ite, pw_some, pw_none, pw_let, Option.bind_some, Int.toNat_natCast, Sum.elim_inl, Sum.elim_inr, Int.cast_ofNat_Int, Int.reduceLT, Int.reduceLE, Int.reduceEq, Int.reduceAdd, Int.reduceSub, Int.reduceMul, Int.reduceNeg, Int.reduceToNat, Nat.reduceAdd, Nat.reduceSub, Nat.reduceMul, Nat.reduceEqDiff, Nat.reduceLT, reduceIte, reduceCtorEq, true_and, and_true, forall_const, not_true_eq_false, not_false_eq_true, false_implies, implies_true, p1]
        refine ⟨fun q => ⟨?_, k4⟩, fun q => ?_⟩
        · rw [pv_soon_at hj (by omega) (by unfold pv_sn; omega)]
        · refine pw_mono (pc_year hT v4 hok (by omega) true) (fun M5 h5 => ⟨M5, rfl, ?_, h5.2.2.trans s4, pc_k_trans k4 (pc_w_k h5.2.1), fun j hj2 => ?_⟩)
          · rw [s4] at h5; exact h5.1
          · by_cases e : j = k
            · rw [e]; unfold pv_sn; omega
            · exact hj j (by omega)
      · rintro t ⟨M2, rfl, v2, s2, w2, hj⟩
        have hlt : (60 < ((61 : Nat) : Int)) := by omega
        unfold gh_soon_L22
        simp (disch := omega) only [pj_lit, pj_add, pj_sub, pj_neg, pj_mul, pj_lt, pj_eq, pj_nat, pj_ald, pj_ast, pj_ix, pw_bind, pw_ite, pw_some, pw_none, pw_let, Option.bind_some, Int.toNat_natCast, Sum.elim_inl, Sum.elim_inr, Int.cast_ofNat_Int, Int.reduceLT, Int.reduceLE, Int.reduceEq, Int.reduceAdd, Int.reduceSub, Int.reduceMul, Int.reduceNeg, Int.reduceToNat, Nat.reduceAdd, Nat.reduceSub, Nat.reduceMul, Nat.reduceEqDiff, Nat.reduceLT, reduceIte, reduceCtorEq, true_and, and_true, forall_const, not_true_eq_false, not_false_eq_true, false_implies, implies_true, hlt]
        rw [pv_soon_no hj]
        exact ⟨rfl, w2⟩
    · obtain ⟨Z1, eZ, hc⟩ := pm_copies hm ho hrow
      have hk1 := pm_c_k hc
      obtain ⟨hm1, hr1, h49, h50, -⟩ := hc
      have htx : pm_tx Z1 (zm_sF Z1 50 (pj 1)) := ⟨rfl, fun _ _ => rfl⟩
      have hm2 := pm_T_tx htx hm1
      have hk2 : pm_k Z (zm_sF Z1 50 (pj 1)) := pm_k_trans hk1 ⟨fun j _ _ b _ => if_neg b, fun _ _ => rfl, rfl⟩
      have h50' : (zm_sF Z1 50 (pj 1)).1 50 = zs_b true := rfl
      have h49' : (zm_sF Z1 50 (pj 1)).1 49 = zt_f T 7 := h49
      have hr2 : pv_row ((zm_sF Z1 50 (pj 1)).2.1 48) V := hr1
      unfold gm_soon gm_copiesStill
      rw [pm_weight, hw, decide_eq_true hh, Option.bind_some, if_pos rfl, eZ, Option.bind_some, Option.bind_some, Option.bind_some]
      refine pw_seq (Q := fun p => p.1 = pj (pv_soon T V w) ∧ pm_k Z p.2) ?_ (fun M' h => (pw_some _ _).2 h)
      show pw (zs_loop 5000 (gm_soon_L15 (pj w)) (0, zm_sF Z1 50 (pj 1))) _
      generalize zm_sF Z1 50 (pj 1) = Z2 at hm2 hk2 h50' h49' hr2
      refine pw_for 61 (fun k t => ∃ Z', t = (pj (k : Nat), Z') ∧ pv_row (Z'.2.1 48) (pv_run T (zt_f T 7) true V k) ∧ pm_T T s Z' ∧ Z'.1 49 = zt_f T 7 ∧ Z'.1 50 = zs_b true ∧ pm_k Z Z' ∧ ∀ j, j < k → ¬ 0 < pv_sn T V w j) 5000 (by omega) ?_ ?_ _ ⟨Z2, rfl, hr2, hm2, h49', h50', hk2, fun j hj => absurd hj (Nat.not_lt_zero j)⟩
      · rintro k t hk ⟨Z3, rfl, r3, m3, a3, b3, w3, hj⟩
        have hlt : ¬ (60 < (k : Int)) := by omega
        have hok := pv_run_ok ho (zt_f T 7) true k
        have hpg := po_pk_ge (po_PT T (pv_run T (zt_f T 7) true V k) (po_jn T (pv_run T (zt_f T 7) true V k)))
        have hpl := po_pk_le (po_PT T (pv_run T (zt_f T 7) true V k) (po_jn T (pv_run T (zt_f T 7) true V k)))
        have hpN := po_pk_N (po_PT T (pv_run T (zt_f T 7) true V k) (po_jn T (pv_run T (zt_f T 7) true V k))) (w := w) hh.1
        unfold gm_soon_L15
        simp (disch := omega) only [pj_lit, pj_add, pj_sub, pj_neg, pj_mul, pj_lt, pj_eq, pj_nat, pj_ald, pj_ast, pj_ix, pw_bind, pw_ite, pw_some, pw_none, pw_let, Option.bind_some, Int.toNat_natCast, Sum.elim_inl, Sum.elim_inr, Int.cast_ofNat_Int, Int.reduceLT, Int.reduceLE, Int.reduceEq, Int.reduceAdd, Int.reduceSub, Int.reduceMul, Int.reduceNeg, Int.reduceToNat, Nat.reduceAdd, Nat.reduceSub, Nat.reduceMul, Nat.reduceEqDiff, Nat.reduceLT, reduceIte, reduceCtorEq, true_and, and_true, forall_const, not_true_eq_false, not_false_eq_true, false_implies, implies_true, hlt]
        refine pw_mono (pm_plan hT m3 r3 hok) (fun Z4 h4 => ?_)
        obtain ⟨hB, hP, hq⟩ := h4
        refine pw_mono (pm_peakOf hT hok hB) (fun p hp => ?_)
        obtain ⟨p1, p2⟩ := hp
        have k5 := pm_k_trans w3 (pm_k_trans (pm_q_k hq) (pm_g_k p2))
        simp (disch := omega) only [pj_lit, pj_add, pj_sub, pj_neg, pj_mul, pj_lt, pj_eq, pj_nat, pj_ald, pj_ast, pj_ix, pw_bind, pw_ite, pw_some, pw_none, pw_let, Option.bind_some, Int.toNat_natCast, Sum.elim_inl, Sum.elim_inr, Int.cast_ofNat_Int, Int.reduceLT, Int.reduceLE, Int.reduceEq, Int.reduceAdd, Int.reduceSub, Int.reduceMul, Int.reduceNeg, Int.reduceToNat, Nat.reduceAdd, Nat.reduceSub, Nat.reduceMul, Nat.reduceEqDiff, Nat.reduceLT, reduceIte, reduceCtorEq, true_and, and_true, forall_const, not_true_eq_false, not_false_eq_true, false_implies, implies_true, p1]
        refine ⟨fun q => ?_, fun q => ⟨?_, k5⟩⟩
        · have r5 : pv_row (p.2.2.1 48) (pv_run T (zt_f T 7) true V k) := by rw [p2.2.1 48 (by decide)]; exact pm_row_q hq r3
          have a5 : p.2.1 49 = zt_f T 7 := by rw [p2.1 49 (by decide), hq.1 49 (by decide)]; exact a3
          have b5 : p.2.1 50 = zs_b true := by rw [p2.1 50 (by decide), hq.1 50 (by decide)]; exact b3
          have m5 : pm_T T s p.2 := (pm_B_g p2 hB).1
          refine pw_mono (pm_year m5 r5 hok b5) (fun Z6 h6 => ⟨Z6, rfl, ?_, pm_T_w h6.2 m5, (h6.2.1 49 (by decide)).trans a5, (h6.2.1 50 (by decide)).trans b5, pm_k_trans k5 (pm_w_k h6.2), fun j hj2 => ?_⟩)
          · rw [a5] at h6; exact h6.1
          · by_cases e : j = k
            · rw [e]; unfold pv_sn; rw [← hpN]; omega
            · exact hj j (by omega)
        · rw [pv_soon_at hj (by omega) (by unfold pv_sn; rw [← hpN]; omega)]
      · rintro t ⟨Z3, rfl, r3, m3, a3, b3, w3, hj⟩
        have hlt : (60 < ((61 : Nat) : Int)) := by omega
        unfold gm_soon_L15
        simp (disch := omega) only [pj_lit, pj_add, pj_sub, pj_neg, pj_mul, pj_lt, pj_eq, pj_nat, pj_ald, pj_ast, pj_ix, pw_bind, pw_ite, pw_some, pw_none, pw_let, Option.bind_some, Int.toNat_natCast, Sum.elim_inl, Sum.elim_inr, Int.cast_ofNat_Int, Int.reduceLT, Int.reduceLE, Int.reduceEq, Int.reduceAdd, Int.reduceSub, Int.reduceMul, Int.reduceNeg, Int.reduceToNat, Nat.reduceAdd, Nat.reduceSub, Nat.reduceMul, Nat.reduceEqDiff, Nat.reduceLT, reduceIte, reduceCtorEq, true_and, and_true, forall_const, not_true_eq_false, not_false_eq_true, false_implies, implies_true, hlt]
        rw [pv_soon_no hj]
        exact ⟨rfl, w3⟩
  · unfold gh_soon gm_soon
    rw [pc_haulw, pm_weight, decide_eq_false hh, Option.bind_some, Option.bind_some, if_neg (by decide), if_neg (by decide), pw_some, pw_some]
    exact ⟨rfl, s, V, H, at_, h⟩
/-! peace -/
def pp_pair (n x : Nat) : Prop := x < 60 ∧ x / 10 < x % 10 ∧ x % 10 < n
def pp_L (n : Nat) : List Nat := (List.range 60).filter fun x => decide (x / 10 < x % 10) && decide (x % 10 < n)
theorem pp_L_mem {n x : Nat} : x ∈ pp_L n ↔ pp_pair n x := by
  unfold pp_L pp_pair
  rw [List.mem_filter, List.mem_range, Bool.and_eq_true, decide_eq_true_eq, decide_eq_true_eq]
def pp_T (n : Nat) : zt_T := (fun _ => 0, n, 0, fun _ => 0, fun _ _ => 0, fun _ _ => 0, fun _ => 0, fun _ => none)
def pp_M : cs_S := (fun _ _ => 0, fun _ _ _ => 0)
theorem pp_two0 : ∀ n, n < 7 → ∀ i, i < (pp_L n).length → gh_twoOf (pp_T n) pp_M (pj (i : Nat)) = some (pj ((pp_L n).getD i 0 : Nat)) := by decide +kernel
theorem pp_len : ∀ n, n < 7 → ((pp_L n).length : Int) = ((n : Int) * ((n : Int) - 1)).tdiv 2 ∧ (pp_L n).length ≤ 15 := by decide +kernel
theorem pp_two (T : zt_T) (M : cs_S) (hn : zt_n T ≤ 6) {i : Nat} (hi : i < (pp_L (zt_n T)).length) : gh_twoOf T M (pj (i : Nat)) = some (pj ((pp_L (zt_n T)).getD i 0 : Nat)) := by
  rw [← pp_two0 (zt_n T) (by omega) i hi]
  rfl
theorem pp_sorted (n : Nat) : (pp_L n).Pairwise (· < ·) := List.Pairwise.filter _ List.pairwise_lt_range
theorem pp_lt {n i j : Nat} (hi : i < (pp_L n).length) (hj : j < (pp_L n).length) : (pp_L n).getD i 0 < (pp_L n).getD j 0 ↔ i < j := by
  have h := (List.pairwise_iff_getElem.1 (pp_sorted n))
  rw [List.getD_eq_getElem?_getD, List.getD_eq_getElem?_getD, List.getElem?_eq_getElem hi, List.getElem?_eq_getElem hj]
  show (pp_L n)[i] < (pp_L n)[j] ↔ i < j
  constructor
  · intro q
    by_cases c : i < j
    · exact c
    · by_cases e : i = j
      · subst e; omega
      · have := h j i hj hi (by omega); omega
  · exact fun q => h i j hi hj q
theorem pp_idx {n x : Nat} (h : pp_pair n x) : ∃ i, i < (pp_L n).length ∧ (pp_L n).getD i 0 = x := by
  obtain ⟨i, hi, e⟩ := List.mem_iff_getElem.1 (pp_L_mem.2 h)
  exact ⟨i, hi, by rw [List.getD_eq_getElem?_getD, List.getElem?_eq_getElem hi]; exact e⟩
theorem pp_get {n i : Nat} (hi : i < (pp_L n).length) : pp_pair n ((pp_L n).getD i 0) := pp_L_mem.1 (pv_mem hi)
def pp_by (what : Int32) (a b c : Int32) : Int32 := if what = 0 then a else if what = 1 then b else c
theorem pp_byC (what a b c : Int32) : gh_peaceBy what a b c = some (pp_by what a b c) := by
  unfold gh_peaceBy pp_by
  split
  · rfl
  · split <;> rfl
/-- what is to be answered -/
def pp_R (n : Nat) (what : Int32) (P0 : Prop) (P1 : Nat → Prop) (P2 : Nat → Nat → Prop) (r : Int32) : Prop :=
  (P0 ∧ r = pp_by what 0 (-1) (-1)) ∨ (¬ P0 ∧ ∃ x, pp_pair n x ∧ P1 x ∧ (∀ y, pp_pair n y → y < x → ¬ P1 y) ∧ r = pp_by what 1 (pj x) (-1)) ∨
  (¬ P0 ∧ (∀ x, pp_pair n x → ¬ P1 x) ∧ ∃ x y, pp_pair n x ∧ pp_pair n y ∧ x < y ∧ P2 x y ∧ (∀ x' y', pp_pair n x' → pp_pair n y' → x' < y' → x' < x ∨ (x' = x ∧ y' < y) → ¬ P2 x' y') ∧ r = pp_by what 2 (pj x) (pj y)) ∨
  (¬ P0 ∧ (∀ x, pp_pair n x → ¬ P1 x) ∧ (∀ x y, pp_pair n x → pp_pair n y → x < y → ¬ P2 x y) ∧ r = -2)
theorem pp_R_uniq {n : Nat} {what : Int32} {P0 : Prop} {P1 : Nat → Prop} {P2 : Nat → Nat → Prop} {r q : Int32} (h : pp_R n what P0 P1 P2 r) (g : pp_R n what P0 P1 P2 q) : r = q := by
  rcases h with ⟨a1, a2⟩ | ⟨a1, x, a2, a3, a4, a5⟩ | ⟨a1, a0, x, y, a2, a3, a4, a5, a6, a7⟩ | ⟨a1, a2, a3, a4⟩
  · rcases g with ⟨b1, b2⟩ | ⟨b1, _⟩ | ⟨b1, _⟩ | ⟨b1, _⟩
    · rw [a2, b2]
    · exact absurd a1 b1
    · exact absurd a1 b1
    · exact absurd a1 b1
  · rcases g with ⟨b1, b2⟩ | ⟨b1, x', b2, b3, b4, b5⟩ | ⟨b1, b0, _⟩ | ⟨b1, b0, _⟩
    · exact absurd b1 a1
    · have : x = x' := by
        by_cases c1 : x < x'
        · exact absurd a3 (b4 x a2 c1)
        · by_cases c2 : x' < x
          · exact absurd b3 (a4 x' b2 c2)
          · omega
      rw [a5, b5, this]
    · exact absurd a3 (b0 x a2)
    · exact absurd a3 (b0 x a2)
  · rcases g with ⟨b1, b2⟩ | ⟨b1, x', b2, b3, b4, b5⟩ | ⟨b1, b0, x', y', b2, b3, b4, b5, b6, b7⟩ | ⟨b1, b2, b3, b4⟩
    · exact absurd b1 a1
    · exact absurd b3 (a0 x' b2)
    · have n1 : ¬ (x < x' ∨ (x = x' ∧ y < y')) := fun c => b6 x y a2 a3 a4 c a5
      have n2 : ¬ (x' < x ∨ (x' = x ∧ y' < y)) := fun c => a6 x' y' b2 b3 b4 c b5
      have e1 : x = x' := by omega
      have e2 : y = y' := by omega
      rw [a7, b7, e1, e2]
    · exact absurd a5 (b3 x y a2 a3 a4)
  · rcases g with ⟨b1, b2⟩ | ⟨b1, x', b2, b3, b4, b5⟩ | ⟨b1, b0, x', y', b2, b3, b4, b5, b6, b7⟩ | ⟨b1, b2, b3, b4⟩
    · exact absurd b1 a1
    · exact absurd b3 (a2 x' b2)
    · exact absurd b5 (a3 x' y' b2 b3 b4)
    · rw [a4, b4]
/-- joins with two that get on -/
def po_fr (T : zt_T) (V : pv_V) (jn : Nat → Nat → Int) (x : Nat) : Nat → Nat → Int := fun a b => if (a = x / 10 ∧ b = x % 10) ∨ (a = x % 10 ∧ b = x / 10) then pv_joins T V a b 9 else jn a b
theorem po_fr_bd {T : zt_T} {V : pv_V} {jn : Nat → Nat → Int} (h : ∀ a b, a < 6 → b < 6 → 0 ≤ jn a b ∧ jn a b ≤ 999) (x : Nat) : ∀ a b, a < 6 → b < 6 → 0 ≤ po_fr T V jn x a b ∧ po_fr T V jn x a b ≤ 999 := fun a b ha hb => by
  unfold po_fr
  split
  · exact pv_joins_bd T V a b (by omega)
  · exact h a b ha hb
theorem pc_befriends {T : zt_T} {M : cs_S} {V : pv_V} {jn : Nat → Nat → Int} (hT : pt_ok T) (hV : pc_V M 0 V) (ho : pv_ok (zt_n T) V) (hJ : po_Jn T M jn) {x : Nat} (hx : pp_pair (zt_n T) x) :
    pw (gh_befriends T M (pj x)) (fun M' => po_Jn T M' (po_fr T V jn x) ∧ pc_j M M') := by
  have hn := hT.1
  obtain ⟨x1, x2, x3⟩ := hx
  have hd : pj (x : Int) / pj 10 = pj ((x / 10 : Nat) : Int) := pj_divN (b := 10) (by omega) (by omega)
  have hr : zs_rem (pj (x : Int)) (pj 10) = pj ((x % 10 : Nat) : Int) := pj_remN (b := 10) (by omega) (by omega)
  have ha : x / 10 < zt_n T := by omega
  unfold gh_befriends
  simp (disch := omega) only [pj_lit, pj_add, pj_sub, pj_neg, pj_mul, pj_lt, pj_eq, pj_nat, pj_ald, pj_ast, pj_ix, pw_bind, pw_ite, pw_some, pw_none, pw_let, Option.bind_some, Int.toNat_natCast, Sum.elim_inl, Sum.elim_inr, Int.cast_ofNat_Int, Int.reduceLT, Int.reduceLE, Int.reduceEq, Int.reduceAdd, Int.reduceSub, Int.reduceMul, Int.reduceNeg, Int.reduceToNat, Nat.reduceAdd, Nat.reduceSub, Nat.reduceMul, Nat.reduceEqDiff, Nat.reduceLT, reduceIte, reduceCtorEq, true_and, and_true, forall_const, not_true_eq_false, not_false_eq_true, false_implies, implies_true, hd, hr]
  refine pw_mono (pc_joins hT hV ho (by omega) ha x3 9) (fun p hp => ?_)
  obtain ⟨p1, p2⟩ := hp
  have j1 : pc_j M (cs_sA p.2 61 (x / 10) (pj ((x % 10 : Nat) : Int)) p.1) := pc_j_trans (pc_e_j p2) (pc_j_A _ _ _ _)
  have c1 : ∀ a b, (cs_sA p.2 61 (x / 10) (pj ((x % 10 : Nat) : Int)) p.1).2 61 a b = if a = x / 10 ∧ b = x % 10 then pj (pv_joins T V (x / 10) (x % 10) 9) else M.2 61 a b := fun a b => by
    rw [pc_sA2]
    by_cases e : a = x / 10
    · subst e
      rw [if_pos ⟨rfl, rfl⟩, pj_nat (by omega), Int.toNat_natCast, pj_upd, p1, p2.2 _ _ (by omega)]
      by_cases e2 : b = x % 10
      · rw [if_pos e2, if_pos ⟨rfl, e2⟩]
      · rw [if_neg e2, if_neg (fun q => e2 q.2)]
    · rw [if_neg (fun q => e q.2), if_neg (fun q => e q.1), p2.2 _ _ (by omega)]
  generalize cs_sA p.2 61 (x / 10) (pj ((x % 10 : Nat) : Int)) p.1 = M1 at j1 c1
  refine pw_mono (pc_joins hT (pc_V_j (by omega) j1 hV) ho (by omega) x3 ha 9) (fun p3 hp3 => ?_)
  obtain ⟨p4, p5⟩ := hp3
  refine ⟨fun a b ha2 hb2 hab => ?_, pc_j_trans j1 (pc_j_trans (pc_e_j p5) (pc_j_A _ _ _ _))⟩
  have hcell : (cs_sA p3.2 61 (x % 10) (pj ((x / 10 : Nat) : Int)) p3.1).2 61 a b = if a = x % 10 ∧ b = x / 10 then pj (pv_joins T V (x % 10) (x / 10) 9) else M1.2 61 a b := by
    rw [pc_sA2]
    by_cases e : a = x % 10
    · subst e
      rw [if_pos ⟨rfl, rfl⟩, pj_nat (by omega), Int.toNat_natCast, pj_upd, p4, p5.2 _ _ (by omega)]
      by_cases e2 : b = x / 10
      · rw [if_pos e2, if_pos ⟨rfl, e2⟩]
      · rw [if_neg e2, if_neg (fun q => e2 q.2)]
    · rw [if_neg (fun q => e q.2), if_neg (fun q => e q.1), p5.2 _ _ (by omega)]
  rw [hcell, c1]
  have hj := hJ a b ha2 hb2 hab
  unfold po_fr
  by_cases e1 : a = x % 10 ∧ b = x / 10
  · rw [if_pos e1, if_pos (Or.inr e1), e1.1, e1.2]
    exact ⟨rfl, pv_joins_bd T V _ _ (by omega)⟩
  · rw [if_neg e1]
    by_cases e2 : a = x / 10 ∧ b = x % 10
    · rw [if_pos e2, if_pos (Or.inl e2), e2.1, e2.2]
      exact ⟨rfl, pv_joins_bd T V _ _ (by omega)⟩
    · rw [if_neg e2, if_neg (fun q => q.elim e2 e1)]
      exact hj
/-- a state in which only scratch has changed since -/
def pp_j0 (T : zt_T) (V : pv_V) : Nat → Nat → Int := po_jn T V
def pp_P (T : zt_T) (V : pv_V) (w : Int) (jn : Nat → Nat → Int) : Prop := 0 < po_N (po_PT T V jn) w
/-- none, or two that get on -/
def pp_o (T : zt_T) (V : pv_V) (jn : Nat → Nat → Int) : Option Nat → Nat → Nat → Int
  | none => jn
  | some x => po_fr T V jn x
def pp_I : Option Nat → Int32
  | none => pj (-1)
  | some x => pj x
theorem pc_peaceOf {T : zt_T} {M : cs_S} {V : pv_V} (hT : pt_ok T) (hV : pc_V M 0 V) (ho : pv_ok (zt_n T) V) (h0 : M.2 0 16 0 = pj 0) {w : Int} (hw : 0 ≤ w ∧ w ≤ 999) (x y : Option Nat) (hx : ∀ z, x = some z → pp_pair (zt_n T) z) (hy : ∀ z, y = some z → pp_pair (zt_n T) z) :
    pw (gh_isPeace T M (pj w) (pp_I x) (pp_I y)) (fun p => (p.1 = true ↔ pp_P T V w (pp_o T V (pp_o T V (po_jn T V) x) y)) ∧ pc_k M p.2) := by
  have fr : ∀ (z : Option Nat) (M1 : cs_S) (jn : Nat → Nat → Int), (∀ u, z = some u → pp_pair (zt_n T) u) → pc_V M1 0 V → po_Jn T M1 jn → pw (if pp_I z < 0 then some M1 else (gh_befriends T M1 (pp_I z)).bind fun M6 => some M6) (fun M' => po_Jn T M' (pp_o T V jn z) ∧ pc_j M1 M') := by
    intro z M1 jn hz hv hJ
    cases z with
    | none =>
      rw [if_pos (by decide), pw_some]
      exact ⟨hJ, pc_j_rfl M1⟩
    | some u =>
      have hu := hz u rfl
      have hlt : ¬ pp_I (some u) < 0 := by
        intro q
        have := (pj_lt (b := 0) (by have := hu.1; omega) (by omega)).1 q
        omega
      rw [if_neg hlt]
      exact pw_seq (pc_befriends hT hv ho hJ hu) (fun M' h => (pw_some _ _).2 h)
  unfold gh_isPeace
  refine pw_seq (pc_laysJoins hT hV ho (by omega)) (fun M1 h1 => ?_)
  obtain ⟨hJ, hj⟩ := h1
  have v1 := pc_V_j (by omega) hj hV
  refine pw_seq (fr x M1 _ hx v1 hJ) (fun M2 h2 => ?_)
  obtain ⟨hJ2, hj2⟩ := h2
  have v2 := pc_V_j (by omega) hj2 v1
  refine pw_seq (fr y M2 _ hy v2 hJ2) (fun M3 h3 => ?_)
  obtain ⟨hJ3, hj3⟩ := h3
  have v3 := pc_V_j (by omega) hj3 v2
  have k3 := pc_k_trans (pc_j_k hj) (pc_k_trans (pc_j_k hj2) (pc_j_k hj3))
  refine pw_seq (pc_laysOrders hT v3 ho (by omega) hJ3 (k3.2.2.trans h0) hw) (fun p hp => ?_)
  obtain ⟨p1, p2⟩ := hp
  have k4 := pc_k_trans k3 (pc_d_k p2)
  unfold pp_P
  have hNb : po_N (po_PT T V (pp_o T V (pp_o T V (po_jn T V) x) y)) w ≤ 1956 := Nat.le_trans List.countP_le_length (po_lst_len _)
  generalize po_N (po_PT T V (pp_o T V (pp_o T V (po_jn T V) x) y)) w = N at p1 hNb
  rw [p1]
  by_cases c : 0 < N
  · have c' : 0 < pj (N : Int) := (pj_lt (a := 0) (by omega) (by omega)).2 (by omega)
    rw [if_pos c', pw_some]
    exact ⟨⟨fun _ => c, fun _ => rfl⟩, k4⟩
  · have c' : ¬ 0 < pj (N : Int) := fun q => c (by have := (pj_lt (a := 0) (by omega) (by omega)).1 q; omega)
    rw [if_neg c', pw_some]
    exact ⟨⟨fun q => (by cases q), fun q => absurd q c⟩, k4⟩
theorem pj_succ (k : Nat) : pj (k : Int) + 1 = pj ((k + 1 : Nat) : Int) := by rw [pj_1, pj_add]; rfl
def pp_PP (T : zt_T) (V : pv_V) (w : Int) (x y : Option Nat) : Prop := pp_P T V w (pp_o T V (pp_o T V (po_jn T V) x) y)
def pp_RR (T : zt_T) (V : pv_V) (w : Int) (what : Int32) (r : Int32) : Prop := pp_R (zt_n T) what (pp_PP T V w none none) (fun x => pp_PP T V w (some x) none) (fun x y => pp_PP T V w (some x) (some y)) r
theorem pc_V_0k {M M' : cs_S} {V : pv_V} (h : pc_k M M') (g : pc_V M 0 V) : pc_V M' 0 V := pc_V_k (by omega) (by omega) h g
theorem pc_peace {T : zt_T} {M : cs_S} {V : pv_V} (hT : pt_ok T) (hV : pc_V M 0 V) (ho : pv_ok (zt_n T) V) (h0 : M.2 0 16 0 = pj 0) {w : Int} (hw : 0 ≤ w ∧ w ≤ 999) (what : Int32) (hwh : 0 ≤ what.toInt ∧ what.toInt ≤ 2) :
    pw (gh_peace T M (pj w) what) (fun p => pp_RR T V w what p.1 ∧ pc_k M p.2) := by
  have hn := hT.1
  obtain ⟨hlen, hl15⟩ := pp_len (zt_n T) (by omega)
  have pz : ∀ (M' : cs_S) (x y : Option Nat), pc_k M M' → (∀ z, x = some z → pp_pair (zt_n T) z) → (∀ z, y = some z → pp_pair (zt_n T) z) → pw (gh_isPeace T M' (pj w) (pp_I x) (pp_I y)) (fun p => (p.1 = true ↔ pp_PP T V w x y) ∧ pc_k M p.2) := fun M' x y hk hx hy =>
    pw_mono (pc_peaceOf hT (pc_V_0k hk hV) ho (hk.2.2.trans h0) hw x y hx hy) (fun p hp => ⟨hp.1, pc_k_trans hk hp.2⟩)
  have hx5 : (pj (zt_n T : Int) * (pj (zt_n T : Int) - 1)) / 2 = pj (((pp_L (zt_n T)).length : Nat) : Int) := by
    rw [hlen, pj_1, pj_sub, pj_mul]
    refine pj_tdiv (b := 2) ?_ (by omega)
    have hnn : zt_n T = 0 ∨ zt_n T = 1 ∨ zt_n T = 2 ∨ zt_n T = 3 ∨ zt_n T = 4 ∨ zt_n T = 5 ∨ zt_n T = 6 := by omega
    rcases hnn with e | e | e | e | e | e | e <;> rw [e] <;> decide
  unfold gh_peace gh_houses
  rw [pc_haulw, pj_toInt (by omega), decide_eq_true hw, Option.bind_some, if_pos rfl]
  rw [show gh_isIn what 0 2 = some (decide (0 ≤ what.toInt ∧ what.toInt ≤ 2)) from pc_isIn (lo := 0) (hi := 2) what (by omega) (by omega), decide_eq_true hwh, Option.bind_some, if_pos rfl, Option.bind_some, Option.bind_some, pj_nI, hx5, Option.bind_some]
  generalize hLe : pp_L (zt_n T) = L at hl15
  refine pw_seq (pz M none none (pc_k_rfl M) (fun z e => (by cases e)) (fun z e => (by cases e))) (fun p hp => ?_)
  obtain ⟨p1, p2⟩ := hp
  by_cases c0 : p.1 = true
  · rw [if_pos c0, pp_byC, Option.bind_some, pw_some]
    exact ⟨Or.inl ⟨p1.1 c0, rfl⟩, p2⟩
  · rw [if_neg c0]
    have hn0 : ¬ pp_PP T V w none none := fun q => c0 (p1.2 q)
    refine pw_seq (Q := fun s => match s with
      | Sum.inl M1 => pc_k M M1 ∧ ∀ x, pp_pair (zt_n T) x → ¬ pp_PP T V w (some x) none
      | Sum.inr r => pp_RR T V w what r.1 ∧ pc_k M r.2) ?_ ?_
    · refine pw_for L.length (fun k t => ∃ M', t = (pj (k : Nat), M') ∧ pc_k M M' ∧ ∀ i, i < k → ¬ pp_PP T V w (some (L.getD i 0)) none) 5000 (by omega) ?_ ?_ _ ⟨p.2, rfl, p2, fun i hi => absurd hi (Nat.not_lt_zero i)⟩
      · rintro k t hk ⟨M1, rfl, h1, h2⟩
        have hlt : (k : Int) < (L.length : Nat) := by omega
        have htw : ∀ M', gh_twoOf T M' (pj (k : Nat)) = some (pj (L.getD k 0 : Nat)) := fun M' => by rw [← hLe]; exact pp_two T M' hn (by rw [hLe]; exact hk)
        have hpk : pp_pair (zt_n T) (L.getD k 0) := by rw [← hLe]; exact pp_get (by rw [hLe]; exact hk)
        unfold gh_peace_L53
        dsimp only
        rw [if_pos ((pj_lt (by omega) (by omega)).2 hlt), htw, Option.bind_some]
        refine pw_seq (pz M1 (some (L.getD k 0)) none h1 (fun z e => by injection e with e; rw [← e]; exact hpk) (fun z e => (by cases e))) (fun q hq => ?_)
        obtain ⟨q1, q2⟩ := hq
        by_cases c : q.1 = true
        · rw [if_pos c, htw, Option.bind_some, pp_byC, Option.bind_some, pw_some]
          refine ⟨Or.inr (Or.inl ⟨hn0, L.getD k 0, hpk, q1.1 c, fun y hy hlty => ?_, rfl⟩), q2⟩
          obtain ⟨i, hi, rfl⟩ := pp_idx hy
          rw [hLe] at hi hlty ⊢
          have : i < k := by rw [← hLe] at hlty hi hk; exact (pp_lt hi hk).1 hlty
          exact h2 i this
        · rw [if_neg c, Option.bind_some, pw_some]
          refine ⟨q.2, by rw [pj_succ], q2, fun i hi => ?_⟩
          by_cases e : i = k
          · rw [e]; exact fun z => c (q1.2 z)
          · exact h2 i (by omega)
      · rintro t ⟨M1, rfl, h1, h2⟩
        unfold gh_peace_L53
        simp (disch := omega) only [pj_lit, pj_add, pj_sub, pj_neg, pj_mul, pj_lt, pj_eq, pj_nat, pj_ald, pj_ast, pj_ix, pw_bind, pw_ite, pw_some, pw_none, pw_let, Option.bind_some, Int.toNat_natCast, Sum.elim_inl, Sum.elim_inr, Int.cast_ofNat_Int, Int.reduceLT, Int.reduceLE, Int.reduceEq, Int.reduceAdd, Int.reduceSub, Int.reduceMul, Int.reduceNeg, Int.reduceToNat, Nat.reduceAdd, Nat.reduceSub, Nat.reduceMul, Nat.reduceEqDiff, Nat.reduceLT, reduceIte, reduceCtorEq, true_and, and_true, forall_const, not_true_eq_false, not_false_eq_true, false_implies, implies_true, Int.lt_irrefl]
        refine ⟨h1, fun x hx => ?_⟩
        obtain ⟨i, hi, rfl⟩ := pp_idx hx
        rw [hLe] at hi ⊢
        exact h2 i hi
    · intro r hr
      cases r with
      | inr z => exact (pw_some _ _).2 hr
      | inl M1 =>
        obtain ⟨h1, h2⟩ := hr
        refine pw_seq (Q := fun s => match s with
          | Sum.inl (u : Int32 × Int32 × cs_S) => False
          | Sum.inr r => pp_RR T V w what r.1 ∧ pc_k M r.2) ?_ ?_
        · refine pw_for L.length (fun k t => ∃ M', t = (pj (k : Nat), M') ∧ pc_k M M' ∧ ∀ i j, i < k → i < j → j < L.length → ¬ pp_PP T V w (some (L.getD i 0)) (some (L.getD j 0))) 5000 (by omega) ?_ ?_ _ ⟨M1, rfl, h1, fun i j hi => absurd hi (Nat.not_lt_zero i)⟩
          · rintro k t hk ⟨M2, rfl, g1, g2⟩
            have hlt : (k : Int) < (L.length : Nat) := by omega
            have htw : ∀ k, k < L.length → ∀ M', gh_twoOf T M' (pj (k : Nat)) = some (pj (L.getD k 0 : Nat)) := fun k hk M' => by rw [← hLe]; exact pp_two T M' hn (by rw [hLe]; exact hk)
            have hpk : ∀ k, k < L.length → pp_pair (zt_n T) (L.getD k 0) := fun k hk => by rw [← hLe]; exact pp_get (by rw [hLe]; exact hk)
            have hidx : ∀ i j, i < L.length → j < L.length → (L.getD i 0 < L.getD j 0 ↔ i < j) := fun i j hi hj => by rw [← hLe] at hi hj ⊢; exact pp_lt hi hj
            unfold gh_peace_L96
            dsimp only
            have e1 : pj (k : Int) + 1 = pj ((k + 1 : Nat) : Int) := by rw [pj_1, pj_add]; rfl
            rw [if_pos ((pj_lt (by omega) (by omega)).2 hlt), Option.bind_some, e1]
            refine pw_seq (Q := fun s => match s with
              | Sum.inl M3 => pc_k M M3 ∧ ∀ j, k < j → j < L.length → ¬ pp_PP T V w (some (L.getD k 0)) (some (L.getD j 0))
              | Sum.inr r => pp_RR T V w what r.1 ∧ pc_k M r.2) ?_ ?_
            · refine pw_for (L.length - (k + 1)) (fun m t => ∃ M', t = (pj ((k + 1 + m : Nat) : Int), M') ∧ pc_k M M' ∧ ∀ j, k < j → j < k + 1 + m → ¬ pp_PP T V w (some (L.getD k 0)) (some (L.getD j 0))) 5000 (by omega) ?_ ?_ _ ⟨M2, rfl, g1, fun j h1 h2 => by omega⟩
              · rintro m t hm ⟨M3, rfl, i1, i2⟩
                have hml : k + 1 + m < L.length := by omega
                have hlt2 : ((k + 1 + m : Nat) : Int) < (L.length : Nat) := by omega
                unfold gh_peace_L108
                dsimp only
                rw [if_pos ((pj_lt (by omega) (by omega)).2 hlt2), htw k hk, Option.bind_some, htw _ hml, Option.bind_some]
                refine pw_seq (pz M3 (some (L.getD k 0)) (some (L.getD (k + 1 + m) 0)) i1 (fun z e => by injection e with e; rw [← e]; exact hpk k hk) (fun z e => by injection e with e; rw [← e]; exact hpk _ hml)) (fun q hq => ?_)
                obtain ⟨q1, q2⟩ := hq
                by_cases c : q.1 = true
                · rw [if_pos c, htw k hk, Option.bind_some, htw _ hml, Option.bind_some, pp_byC, Option.bind_some, pw_some]
                  refine ⟨Or.inr (Or.inr (Or.inl ⟨hn0, h2, L.getD k 0, L.getD (k + 1 + m) 0, hpk k hk, hpk _ hml, (hidx _ _ hk hml).2 (by omega), q1.1 c, fun x' y' hx' hy' hxy hlex => ?_, rfl⟩)), q2⟩
                  obtain ⟨i, hi, rfl⟩ := pp_idx hx'
                  obtain ⟨j, hj, rfl⟩ := pp_idx hy'
                  rw [hLe] at hi hj hxy hlex ⊢
                  have hij := (hidx i j hi hj).1 hxy
                  rcases hlex with c1 | ⟨c1, c2⟩
                  · exact g2 i j ((hidx i k hi hk).1 c1) hij hj
                  · have hik : i = k := by
                      by_cases d1 : i < k
                      · have := (hidx i k hi hk).2 d1; omega
                      · by_cases d2 : k < i
                        · have := (hidx k i hk hi).2 d2; omega
                        · omega
                    have hjm := (hidx j (k + 1 + m) hj hml).1 c2
                    rw [hik]
                    exact i2 j (by omega) hjm
                · rw [if_neg c, Option.bind_some, pw_some]
                  refine ⟨q.2, by rw [pj_succ]; rfl, q2, fun j hj1 hj2 => ?_⟩
                  by_cases e : j = k + 1 + m
                  · rw [e]; exact fun z => c (q1.2 z)
                  · exact i2 j hj1 (by omega)
              · rintro t ⟨M3, rfl, i1, i2⟩
                have hlt2 : ¬ ((k + 1 + (L.length - (k + 1)) : Nat) : Int) < (L.length : Nat) := by omega
                unfold gh_peace_L108
                simp (disch := omega) only [pj_lit, pj_add, pj_sub, pj_neg, pj_mul, pj_lt, pj_eq, pj_nat, pj_ald, pj_ast, pj_ix, pw_bind, pw_ite, pw_some, pw_none, pw_let, Option.bind_some, Int.toNat_natCast, Sum.elim_inl, Sum.elim_inr, Int.cast_ofNat_Int, Int.reduceLT, Int.reduceLE, Int.reduceEq, Int.reduceAdd, Int.reduceSub, Int.reduceMul, Int.reduceNeg, Int.reduceToNat, Nat.reduceAdd, Nat.reduceSub, Nat.reduceMul, Nat.reduceEqDiff, Nat.reduceLT, reduceIte, reduceCtorEq, true_and, and_true, forall_const, not_true_eq_false, not_false_eq_true, false_implies, implies_true, hlt2]
                exact ⟨i1, fun j hj1 hj2 => i2 j hj1 (by omega)⟩
            · intro r hr
              cases r with
              | inr z => exact (pw_some _ _).2 hr
              | inl M3 =>
                obtain ⟨i1, i2⟩ := hr
                refine (pw_some _ _).2 ⟨M3, rfl, i1, fun i j hi hij hj => ?_⟩
                by_cases e : i = k
                · rw [e] at hij ⊢; exact i2 j hij hj
                · exact g2 i j (by omega) hij hj
          · rintro t ⟨M2, rfl, g1, g2⟩
            unfold gh_peace_L96
            simp (disch := omega) only [pj_lit, pj_add, pj_sub, pj_neg, pj_mul, pj_lt, pj_eq, pj_nat, pj_ald, pj_ast, pj_ix, pw_bind, pw_ite, pw_some, pw_none, pw_let, Option.bind_some, Int.toNat_natCast, Sum.elim_inl, Sum.elim_inr, Int.cast_ofNat_Int, Int.reduceLT, Int.reduceLE, Int.reduceEq, Int.reduceAdd, Int.reduceSub, Int.reduceMul, Int.reduceNeg, Int.reduceToNat, Nat.reduceAdd, Nat.reduceSub, Nat.reduceMul, Nat.reduceEqDiff, Nat.reduceLT, reduceIte, reduceCtorEq, true_and, and_true, forall_const, not_true_eq_false, not_false_eq_true, false_implies, implies_true, Int.lt_irrefl]
            refine ⟨Or.inr (Or.inr (Or.inr ⟨hn0, h2, fun x y hx hy hxy => ?_, rfl⟩)), g1⟩
            obtain ⟨i, hi, rfl⟩ := pp_idx hx
            obtain ⟨j, hj, rfl⟩ := pp_idx hy
            have hij := (pp_lt hi hj).1 hxy
            rw [hLe] at hi hj ⊢
            exact g2 i j hi hij hj
        · intro r hr
          cases r with
          | inl u => exact hr.elim
          | inr z => exact (pw_some _ _).2 hr
