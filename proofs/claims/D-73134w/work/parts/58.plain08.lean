set_option maxRecDepth 100000
/-! what the rope bears -/
theorem pj_divN {a b : Nat} (ha : a < 2147483648) (hb : b < 2147483648) : pj (a : Int) / pj (b : Int) = pj ((a / b : Nat) : Int) := by
  rw [pj_tdiv (by omega) (by omega), Int.ofNat_tdiv]
theorem pj_remN {a b : Nat} (ha : a < 2147483648) (hb : b < 2147483648) : zs_rem (pj (a : Int)) (pj (b : Int)) = pj ((a % b : Nat) : Int) := by
  unfold zs_rem
  rw [pj_divN ha hb, pj_mul, pj_sub]
  congr 1
  have := Nat.div_add_mod a b
  have e : ((a : Nat) : Int) = ((b * (a / b) + a % b : Nat) : Int) := by rw [this]
  rw [Int.natCast_add, Int.natCast_mul, Int.mul_comm] at e
  omega
def pv_spare (T : zt_T) (V : pv_V) (k : Nat) : Int := if k % 2 = 1 then pv_s V ((pv_r V).getD (k / 2) 0) - pv_below V (k / 2) else if k / 2 = 0 then 9999 else
  pv_joins T V ((pv_r V).getD (k / 2 - 1) 0) ((pv_r V).getD (k / 2) 0) (pt_k T ((pv_r V).getD (k / 2 - 1) 0) ((pv_r V).getD (k / 2) 0)) - pv_below V (k / 2) - pv_p V ((pv_r V).getD (k / 2) 0)
theorem pv_mem {l : List Nat} {k : Nat} (hk : k < l.length) : l.getD k 0 ∈ l := List.mem_of_getElem? (pv_get hk)
theorem pv_below_bd {n : Nat} {V : pv_V} (ho : pv_ok n V) (k : Nat) : 0 ≤ pv_below V k ∧ pv_below V k ≤ 594 := by
  have h := pv_sum_bd (f := pv_p V) (c := 99) ((pv_r V).drop (k + 1)) (fun x hx => by
    have h1 := ho.2.2.2.1 x (List.mem_of_mem_drop hx)
    have h2 := ho.2.1 x (by have := ho.1; omega)
    omega)
  have hl := pv_len ho
  have hn := ho.1
  rw [List.length_drop] at h
  unfold pv_below
  omega
theorem pv_joins_bd (T : zt_T) (V : pv_V) (a b : Nat) {like : Int} (h : 0 ≤ like ∧ like ≤ 9) : 0 ≤ pv_joins T V a b like ∧ pv_joins T V a b like ≤ 999 := pv_lw_bd T V 2 a _ _ (by omega) (by omega)
theorem pv_spare_bd {T : zt_T} {V : pv_V} (ht : pt_ok T) (ho : pv_ok (zt_n T) V) {k : Nat} (hk : k < 2 * (pv_r V).length) : -700 ≤ pv_spare T V k ∧ pv_spare T V k ≤ 9999 := by
  have hn := ho.1
  have hb := pv_below_bd ho (k / 2)
  have h0 := ho.2.2.2.1 _ (pv_mem (l := pv_r V) (k := k / 2) (by omega))
  have h1 := ho.2.2.2.1 _ (pv_mem (l := pv_r V) (k := k / 2 - 1) (by omega))
  have h2 := ho.2.1 ((pv_r V).getD (k / 2) 0) (by omega)
  have hj := pv_joins_bd T V ((pv_r V).getD (k / 2 - 1) 0) ((pv_r V).getD (k / 2) 0) (ht.2.2.1 ((pv_r V).getD (k / 2 - 1) 0) ((pv_r V).getD (k / 2) 0) (by omega) (by omega))
  unfold pv_spare
  split
  · omega
  · split <;> omega
theorem pm_spare {T : zt_T} {s : Nat} {Z : zm_S} {V : pv_V} (ht : pt_ok T) (hT : pm_T T s Z) (hV : pv_row (Z.2.1 48) V) (ho : pv_ok (zt_n T) V) {k : Nat} (hk : k < 2 * (pv_r V).length) :
    pw (gm_spareAt Z (pj k)) (fun p => p.1 = pj (pv_spare T V k) ∧ pm_e Z p.2) := by
  have hn := ho.1
  have hl := pv_len ho
  have hk2 : k / 2 < (pv_r V).length := by omega
  have hd : pj (k : Int) / pj 2 = pj ((k / 2 : Nat) : Int) := pj_divN (b := 2) (by omega) (by omega)
  have hm : zs_rem (pj (k : Int)) (pj 2) = pj ((k % 2 : Nat) : Int) := pj_remN (b := 2) (by omega) (by omega)
  have e25 : (25 : Int) + ((k / 2 : Nat) : Int) = ((25 + k / 2 : Nat) : Int) := by omega
  have er := hV.2.2.1 (k / 2) _ (pv_get hk2)
  have hx := ho.2.2.2.1 _ (pv_mem hk2)
  generalize hxe : (pv_r V).getD (k / 2) 0 = x at er hx
  obtain ⟨c0, c1, c2, c3⟩ := hV.1 x (by omega)
  have e12 : (12 : Int) + (x : Int) = ((12 + x : Nat) : Int) := by omega
  have e6 : (6 : Int) + (x : Int) = ((6 + x : Nat) : Int) := by omega
  unfold gm_spareAt pv_spare
  rw [hxe]
  simp (disch := omega) only [pj_lit, pj_add, pj_sub, pj_neg, pj_mul, pj_lt, pj_eq, pj_nat, pj_ald, pj_ast, pj_ix, pw_bind, pw_ite, pw_some, pw_none, pw_let, Option.bind_some, Int.toNat_natCast, Sum.elim_inl, Sum.elim_inr, Int.cast_ofNat_Int, Int.reduceLT, Int.reduceLE, Int.reduceEq, Int.reduceAdd, Int.reduceSub, Int.reduceMul, Int.reduceNeg, Int.reduceToNat, Nat.reduceAdd, Nat.reduceSub, Nat.reduceMul, Nat.reduceEqDiff, Nat.reduceLT, reduceIte, reduceCtorEq, true_and, and_true, forall_const, not_true_eq_false, not_false_eq_true, false_implies, implies_true, hd, hm, e25, er, e12, c2, pm_below hV ho hk2]
  by_cases h1 : k % 2 = 1
  · have h1' : ((k % 2 : Nat) : Int) = 1 := by omega
    simp (disch := omega) only [pj_lit, pj_add, pj_sub, pj_neg, pj_mul, pj_lt, pj_eq, pj_nat, pj_ald, pj_ast, pj_ix, pw_bind, pw_ite, pw_some, pw_none, pw_let, Option.bind_some, Int.toNat_natCast, Sum.elim_inl, Sum.elim_inr, Int.cast_ofNat_Int, Int.reduceLT, Int.reduceLE, Int.reduceEq, Int.reduceAdd, Int.reduceSub, Int.reduceMul, Int.reduceNeg, Int.reduceToNat, Nat.reduceAdd, Nat.reduceSub, Nat.reduceMul, Nat.reduceEqDiff, Nat.reduceLT, reduceIte, reduceCtorEq, true_and, and_true, forall_const, not_true_eq_false, not_false_eq_true, false_implies, implies_true, h1, h1']
    exact pm_e_rfl Z
  · have h1' : ¬ ((k % 2 : Nat) : Int) = 1 := by omega
    by_cases h0 : k / 2 = 0
    · have h0' : ((k / 2 : Nat) : Int) = 0 := by omega
      simp (disch := omega) only [pj_lit, pj_add, pj_sub, pj_neg, pj_mul, pj_lt, pj_eq, pj_nat, pj_ald, pj_ast, pj_ix, pw_bind, pw_ite, pw_some, pw_none, pw_let, Option.bind_some, Int.toNat_natCast, Sum.elim_inl, Sum.elim_inr, Int.cast_ofNat_Int, Int.reduceLT, Int.reduceLE, Int.reduceEq, Int.reduceAdd, Int.reduceSub, Int.reduceMul, Int.reduceNeg, Int.reduceToNat, Nat.reduceAdd, Nat.reduceSub, Nat.reduceMul, Nat.reduceEqDiff, Nat.reduceLT, reduceIte, reduceCtorEq, true_and, and_true, forall_const, not_true_eq_false, not_false_eq_true, false_implies, implies_true, h1, h1', h0, h0']
      exact pm_e_rfl Z
    · have h0' : ¬ ((k / 2 : Nat) : Int) = 0 := by omega
      have e24 : (24 : Int) + ((k / 2 : Nat) : Int) = ((25 + (k / 2 - 1) : Nat) : Int) := by omega
      have ey := hV.2.2.1 (k / 2 - 1) _ (pv_get (by omega))
      have hy := ho.2.2.2.1 _ (pv_mem (l := pv_r V) (k := k / 2 - 1) (by omega))
      generalize (pv_r V).getD (k / 2 - 1) 0 = y at ey hy
      simp (disch := omega) only [pj_lit, pj_add, pj_sub, pj_neg, pj_mul, pj_lt, pj_eq, pj_nat, pj_ald, pj_ast, pj_ix, pw_bind, pw_ite, pw_some, pw_none, pw_let, Option.bind_some, Int.toNat_natCast, Sum.elim_inl, Sum.elim_inr, Int.cast_ofNat_Int, Int.reduceLT, Int.reduceLE, Int.reduceEq, Int.reduceAdd, Int.reduceSub, Int.reduceMul, Int.reduceNeg, Int.reduceToNat, Nat.reduceAdd, Nat.reduceSub, Nat.reduceMul, Nat.reduceEqDiff, Nat.reduceLT, reduceIte, reduceCtorEq, true_and, and_true, forall_const, not_true_eq_false, not_false_eq_true, false_implies, implies_true, h1, h1', h0, h0', e24, ey]
      refine pw_mono (pm_joins ht hT hV ho hy hx) (fun p hp => ?_)
      have hV' := pm_row_e hp.2 hV
      have c1' := (hV'.1 x (by omega)).2.1
      simp (disch := omega) only [pj_lit, pj_add, pj_sub, pj_neg, pj_mul, pj_lt, pj_eq, pj_nat, pj_ald, pj_ast, pj_ix, pw_bind, pw_ite, pw_some, pw_none, pw_let, Option.bind_some, Int.toNat_natCast, Sum.elim_inl, Sum.elim_inr, Int.cast_ofNat_Int, Int.reduceLT, Int.reduceLE, Int.reduceEq, Int.reduceAdd, Int.reduceSub, Int.reduceMul, Int.reduceNeg, Int.reduceToNat, Nat.reduceAdd, Nat.reduceSub, Nat.reduceMul, Nat.reduceEqDiff, Nat.reduceLT, reduceIte, reduceCtorEq, true_and, and_true, forall_const, not_true_eq_false, not_false_eq_true, false_implies, implies_true, hp.1, pm_below hV' ho hk2, e6, c1']
      exact hp.2
/-- where it breaks at a haul; -1 nowhere -/
def pv_brk (T : zt_T) (V : pv_V) (w : Int) : Int := match (List.range (2 * (pv_r V).length)).find? (fun k => decide (pv_spare T V k < w)) with
  | some k => (k : Nat)
  | none => -1
theorem pv_brk_at {T : zt_T} {V : pv_V} {w : Int} {k : Nat} (h : ∀ j, j < k → ¬ pv_spare T V j < w) (hk : k < 2 * (pv_r V).length) (h2 : pv_spare T V k < w) : pv_brk T V w = k := by
  have : (List.range (2 * (pv_r V).length)).find? (fun k => decide (pv_spare T V k < w)) = some k := by
    rw [List.find?_range_eq_some]
    exact ⟨decide_eq_true h2, List.mem_range.2 hk, fun j hj => by simpa using h j hj⟩
  unfold pv_brk
  rw [this]
theorem pv_brk_no {T : zt_T} {V : pv_V} {w : Int} (h : ∀ j, j < 2 * (pv_r V).length → ¬ pv_spare T V j < w) : pv_brk T V w = -1 := by
  have : (List.range (2 * (pv_r V).length)).find? (fun k => decide (pv_spare T V k < w)) = none := by
    rw [List.find?_eq_none]
    intro j hj
    simpa using h j (List.mem_range.1 hj)
  unfold pv_brk
  rw [this]
theorem pm_brk {T : zt_T} {s : Nat} {Z : zm_S} {V : pv_V} (ht : pt_ok T) (hT : pm_T T s Z) (hV : pv_row (Z.2.1 48) V) (ho : pv_ok (zt_n T) V) {w : Int} (hw : -1 ≤ w ∧ w ≤ 1000) :
    pw (gm_breaksAt Z (pj w)) (fun p => p.1 = pj (pv_brk T V w) ∧ pm_e Z p.2) := by
  have hn := ho.1
  have hl := pv_len ho
  unfold gm_breaksAt
  refine pw_seq (Q := fun p => p.1 = pj (pv_brk T V w) ∧ pm_e Z p.2) ?_ (fun p hp => (pw_some _ _).2 hp)
  rw [pj_0]
  refine pw_for (2 * (pv_r V).length) (fun k t => ∃ Z', t = (pj (k : Nat), Z') ∧ pm_e Z Z' ∧ ∀ j, j < k → ¬ pv_spare T V j < w) 5000 (by omega) ?_ ?_ _ ⟨Z, rfl, pm_e_rfl Z, fun j hj => absurd hj (Nat.not_lt_zero j)⟩
  · rintro k t hk ⟨Z', rfl, h1, h2⟩
    have hV' := pm_row_e h1 hV
    have e24 := hV'.2.1
    have hlt : (k : Int) < 2 * ((pv_r V).length : Nat) := by omega
    have hb := pv_spare_bd ht ho hk
    unfold gm_breaksAt_L2
    simp (disch := omega) only [pj_lit, pj_add, pj_sub, pj_neg, pj_mul, pj_lt, pj_eq, pj_nat, pj_ald, pj_ast, pj_ix, pw_bind, pw_ite, pw_some, pw_none, pw_let, Option.bind_some, Int.toNat_natCast, Sum.elim_inl, Sum.elim_inr, Int.cast_ofNat_Int, Int.reduceLT, Int.reduceLE, Int.reduceEq, Int.reduceAdd, Int.reduceSub, Int.reduceMul, Int.reduceNeg, Int.reduceToNat, Nat.reduceAdd, Nat.reduceSub, Nat.reduceMul, Nat.reduceEqDiff, Nat.reduceLT, reduceIte, reduceCtorEq, true_and, and_true, forall_const, not_true_eq_false, not_false_eq_true, false_implies, implies_true, e24, hlt]
    refine pw_mono (pm_spare ht (pm_T_e h1 hT) hV' ho hk) (fun p hp => ?_)
    simp (disch := omega) only [pj_lit, pj_add, pj_sub, pj_neg, pj_mul, pj_lt, pj_eq, pj_nat, pj_ald, pj_ast, pj_ix, pw_bind, pw_ite, pw_some, pw_none, pw_let, Option.bind_some, Int.toNat_natCast, Sum.elim_inl, Sum.elim_inr, Int.cast_ofNat_Int, Int.reduceLT, Int.reduceLE, Int.reduceEq, Int.reduceAdd, Int.reduceSub, Int.reduceMul, Int.reduceNeg, Int.reduceToNat, Nat.reduceAdd, Nat.reduceSub, Nat.reduceMul, Nat.reduceEqDiff, Nat.reduceLT, reduceIte, reduceCtorEq, true_and, and_true, forall_const, not_true_eq_false, not_false_eq_true, false_implies, implies_true, hp.1]
    refine ⟨fun q => ⟨by rw [pv_brk_at h2 hk q], pm_e_trans h1 hp.2⟩, fun q => ⟨p.2, rfl, pm_e_trans h1 hp.2, fun j hj => ?_⟩⟩
    by_cases hjk : j = k
    · rw [hjk]; exact q
    · exact h2 j (by omega)
  · rintro t ⟨Z', rfl, h1, h2⟩
    have hV' := pm_row_e h1 hV
    have e24 := hV'.2.1
    have hlt : ¬ ((2 * (pv_r V).length : Nat) : Int) < 2 * ((pv_r V).length : Nat) := by omega
    unfold gm_breaksAt_L2
    simp (disch := omega) only [pj_lit, pj_add, pj_sub, pj_neg, pj_mul, pj_lt, pj_eq, pj_nat, pj_ald, pj_ast, pj_ix, pw_bind, pw_ite, pw_some, pw_none, pw_let, Option.bind_some, Int.toNat_natCast, Sum.elim_inl, Sum.elim_inr, Int.cast_ofNat_Int, Int.reduceLT, Int.reduceLE, Int.reduceEq, Int.reduceAdd, Int.reduceSub, Int.reduceMul, Int.reduceNeg, Int.reduceToNat, Nat.reduceAdd, Nat.reduceSub, Nat.reduceMul, Nat.reduceEqDiff, Nat.reduceLT, reduceIte, reduceCtorEq, true_and, and_true, forall_const, not_true_eq_false, not_false_eq_true, false_implies, implies_true, e24, hlt]
    rw [pv_brk_no h2]
    exact ⟨rfl, h1⟩
theorem pv_spare_odd {T : zt_T} {V : pv_V} (k : Nat) : pv_spare T V (2 * k + 1) = pv_s V ((pv_r V).getD k 0) - pv_below V k := by
  unfold pv_spare
  rw [if_pos (by omega), show (2 * k + 1) / 2 = k by omega]
theorem pv_spare_zero {T : zt_T} {V : pv_V} : pv_spare T V 0 = 9999 := rfl
theorem pv_spare_even {T : zt_T} {V : pv_V} (k : Nat) (hk : k ≠ 0) : pv_spare T V (2 * k) = pv_joins T V ((pv_r V).getD (k - 1) 0) ((pv_r V).getD k 0) (pt_k T ((pv_r V).getD (k - 1) 0) ((pv_r V).getD k 0)) - pv_below V k - pv_p V ((pv_r V).getD k 0) := by
  unfold pv_spare
  rw [if_neg (by omega), show (2 * k) / 2 = k by omega, if_neg hk]
def pc_bQ (T : zt_T) (V : pv_V) (w : Int) (M : cs_S) : (Int32 × cs_S) ⊕ (Int32 × cs_S) → Prop
  | Sum.inl p => ∃ k : Nat, p.1 = pj k ∧ k < 6 ∧ pv_brk T V w = 2 * k + 1 ∧ pc_e M p.2
  | Sum.inr p => p.1 = pj (pv_brk T V w) ∧ pc_e M p.2
theorem pc_brk {T : zt_T} {M : cs_S} {i : Nat} {V : pv_V} (hT : pt_ok T) (hV : pc_V M i V) (ho : pv_ok (zt_n T) V) (hi : i < 45) {w : Int} (hw : -1 ≤ w ∧ w ≤ 1000) :
    pw (gv_breaksAt T M i (pj w)) (fun p => p.1 = pj (pv_brk T V w) ∧ pc_e M p.2) := by
  have hn := ho.1
  have hl := pv_len ho
  unfold gv_breaksAt
  refine pw_seq (Q := pc_bQ T V w M) ?_ ?_
  · rw [pj_0]
    refine pw_for (pv_r V).length (fun k t => ∃ M', t = (pj (k : Nat), M') ∧ pc_e M M' ∧ ∀ j, j < 2 * k → ¬ pv_spare T V j < w) 5000 (by omega) ?_ ?_ _ ⟨M, rfl, pc_e_rfl M, fun j hj => absurd hj (Nat.not_lt_zero j)⟩
    · rintro k t hk ⟨M', rfl, h1, h2⟩
      have hV' := pc_V_e hi h1 hV
      have e5 := hV'.2.1
      have er := hV'.2.2.1 k _ (pv_get hk)
      have hx := ho.2.2.2.1 _ (pv_mem hk)
      have hb := pv_below_bd ho k
      have hodd := pv_spare_odd (T := T) (V := V) k
      have heven := pv_spare_even (T := T) (V := V) k
      generalize (pv_r V).getD k 0 = x at er hx hodd heven
      have hx6 : x < 6 := by omega
      have hxb := ho.2.1 x hx6
      obtain ⟨c0, c1, c2, c3⟩ := hV'.1 x hx6
      have hlt : (k : Int) < ((pv_r V).length : Nat) := by omega
      have cont : ∀ M'', pc_e M M'' → (∀ j, j < 2 * k + 1 → ¬ pv_spare T V j < w) → (M''.2 (10 + i) 2 x < pj (w + pv_below V k) → pc_bQ T V w M (Sum.inl (pj (k : Int), M''))) ∧ (¬ M''.2 (10 + i) 2 x < pj (w + pv_below V k) →
          ∃ M', (pj ((k : Int) + 1), M'') = (pj ((k + 1 : Nat) : Int), M') ∧ pc_e M M' ∧ ∀ j, j < 2 * (k + 1) → ¬ pv_spare T V j < w) := by
        intro M'' g1 g2
        have c2' := ((pc_V_e hi g1 hV).1 x hx6).2.2.1
        simp (disch := omega) only [pj_lit, pj_add, pj_sub, pj_neg, pj_mul, pj_lt, pj_eq, pj_nat, pj_ald, pj_ast, pj_ix, pw_bind, pw_ite, pw_some, pw_none, pw_let, Option.bind_some, Int.toNat_natCast, Sum.elim_inl, Sum.elim_inr, Int.cast_ofNat_Int, Int.reduceLT, Int.reduceLE, Int.reduceEq, Int.reduceAdd, Int.reduceSub, Int.reduceMul, Int.reduceNeg, Int.reduceToNat, Nat.reduceAdd, Nat.reduceSub, Nat.reduceMul, Nat.reduceEqDiff, Nat.reduceLT, reduceIte, reduceCtorEq, true_and, and_true, forall_const, not_true_eq_false, not_false_eq_true, false_implies, implies_true, c2']
        refine ⟨fun q => ⟨k, rfl, by omega, ?_, g1⟩, fun q => ⟨M'', rfl, g1, fun j hj => ?_⟩⟩
        · rw [pv_brk_at g2 (by omega) (by rw [hodd]; omega)]; omega
        · by_cases hjk : j = 2 * k + 1
          · rw [hjk, hodd]; omega
          · exact g2 j (by omega)
      unfold gv_breaksAt_L2
      simp (disch := omega) only [pj_lit, pj_add, pj_sub, pj_neg, pj_mul, pj_lt, pj_eq, pj_nat, pj_ald, pj_ast, pj_ix, pw_bind, pw_ite, pw_some, pw_none, pw_let, Option.bind_some, Int.toNat_natCast, Sum.elim_inl, Sum.elim_inr, Int.cast_ofNat_Int, Int.reduceLT, Int.reduceLE, Int.reduceEq, Int.reduceAdd, Int.reduceSub, Int.reduceMul, Int.reduceNeg, Int.reduceToNat, Nat.reduceAdd, Nat.reduceSub, Nat.reduceMul, Nat.reduceEqDiff, Nat.reduceLT, reduceIte, reduceCtorEq, true_and, and_true, forall_const, not_true_eq_false, not_false_eq_true, false_implies, implies_true, e5, hlt, er, pc_below hV' ho hk]
      by_cases h0 : k = 0
      · subst h0
        simp (disch := omega) only [pj_lit, pj_add, pj_sub, pj_neg, pj_mul, pj_lt, pj_eq, pj_nat, pj_ald, pj_ast, pj_ix, pw_bind, pw_ite, pw_some, pw_none, pw_let, Option.bind_some, Int.toNat_natCast, Sum.elim_inl, Sum.elim_inr, Int.cast_ofNat_Int, Int.reduceLT, Int.reduceLE, Int.reduceEq, Int.reduceAdd, Int.reduceSub, Int.reduceMul, Int.reduceNeg, Int.reduceToNat, Nat.reduceAdd, Nat.reduceSub, Nat.reduceMul, Nat.reduceEqDiff, Nat.reduceLT, reduceIte, reduceCtorEq, true_and, and_true, forall_const, not_true_eq_false, not_false_eq_true, false_implies, implies_true, Int.lt_irrefl]
        have := cont M' h1 (fun j hj => by have : j = 0 := by omega
                                           subst this; rw [pv_spare_zero]; omega)
        exact this
      · have hpos : (0 : Int) < (k : Nat) := by omega
        have ey := hV'.2.2.1 (k - 1) _ (pv_get (l := pv_r V) (by omega))
        have hy := ho.2.2.2.1 _ (pv_mem (l := pv_r V) (k := k - 1) (by omega))
        have hev := heven h0
        generalize (pv_r V).getD (k - 1) 0 = y at ey hy hev
        have e1 : (k : Int) - 1 = ((k - 1 : Nat) : Int) := by omega
        have hkb := hT.2.2.1 y x (by omega) hx6
        have hjb := pv_joins_bd T V y x hkb
        simp (disch := omega) only [pj_lit, pj_add, pj_sub, pj_neg, pj_mul, pj_lt, pj_eq, pj_nat, pj_ald, pj_ast, pj_ix, pw_bind, pw_ite, pw_some, pw_none, pw_let, Option.bind_some, Int.toNat_natCast, Sum.elim_inl, Sum.elim_inr, Int.cast_ofNat_Int, Int.reduceLT, Int.reduceLE, Int.reduceEq, Int.reduceAdd, Int.reduceSub, Int.reduceMul, Int.reduceNeg, Int.reduceToNat, Nat.reduceAdd, Nat.reduceSub, Nat.reduceMul, Nat.reduceEqDiff, Nat.reduceLT, reduceIte, reduceCtorEq, true_and, and_true, forall_const, not_true_eq_false, not_false_eq_true, false_implies, implies_true, hpos, c1, e1, ey, pt_k_eq]
        refine pw_mono (pc_joins hT hV' ho hi hy hx (pt_k T y x)) (fun p hp => ?_)
        simp (disch := omega) only [pj_lit, pj_add, pj_sub, pj_neg, pj_mul, pj_lt, pj_eq, pj_nat, pj_ald, pj_ast, pj_ix, pw_bind, pw_ite, pw_some, pw_none, pw_let, Option.bind_some, Int.toNat_natCast, Sum.elim_inl, Sum.elim_inr, Int.cast_ofNat_Int, Int.reduceLT, Int.reduceLE, Int.reduceEq, Int.reduceAdd, Int.reduceSub, Int.reduceMul, Int.reduceNeg, Int.reduceToNat, Nat.reduceAdd, Nat.reduceSub, Nat.reduceMul, Nat.reduceEqDiff, Nat.reduceLT, reduceIte, reduceCtorEq, true_and, and_true, forall_const, not_true_eq_false, not_false_eq_true, false_implies, implies_true, hp.1]
        refine ⟨fun q => ⟨?_, pc_e_trans h1 hp.2⟩, fun q => ?_⟩
        · rw [pv_brk_at (k := 2 * k) h2 (by omega) (by rw [hev]; omega)]
          congr 1
        · exact cont p.2 (pc_e_trans h1 hp.2) (fun j hj => by
            by_cases hjk : j = 2 * k
            · rw [hjk, hev]; omega
            · exact h2 j (by omega))
    · rintro t ⟨M', rfl, h1, h2⟩
      have e5 := (pc_V_e hi h1 hV).2.1
      unfold gv_breaksAt_L2
      simp (disch := omega) only [pj_lit, pj_add, pj_sub, pj_neg, pj_mul, pj_lt, pj_eq, pj_nat, pj_ald, pj_ast, pj_ix, pw_bind, pw_ite, pw_some, pw_none, pw_let, Option.bind_some, Int.toNat_natCast, Sum.elim_inl, Sum.elim_inr, Int.cast_ofNat_Int, Int.reduceLT, Int.reduceLE, Int.reduceEq, Int.reduceAdd, Int.reduceSub, Int.reduceMul, Int.reduceNeg, Int.reduceToNat, Nat.reduceAdd, Nat.reduceSub, Nat.reduceMul, Nat.reduceEqDiff, Nat.reduceLT, reduceIte, reduceCtorEq, true_and, and_true, forall_const, not_true_eq_false, not_false_eq_true, false_implies, implies_true, e5, Int.lt_irrefl]
      exact ⟨by rw [pv_brk_no h2], h1⟩
  · intro r hr
    cases r with
    | inr p => exact (pw_some _ _).2 hr
    | inl p =>
      obtain ⟨k, r1, r2, r3, r4⟩ := hr
      simp (disch := omega) only [pj_lit, pj_add, pj_sub, pj_neg, pj_mul, pj_lt, pj_eq, pj_nat, pj_ald, pj_ast, pj_ix, pw_bind, pw_ite, pw_some, pw_none, pw_let, Option.bind_some, Int.toNat_natCast, Sum.elim_inl, Sum.elim_inr, Int.cast_ofNat_Int, Int.reduceLT, Int.reduceLE, Int.reduceEq, Int.reduceAdd, Int.reduceSub, Int.reduceMul, Int.reduceNeg, Int.reduceToNat, Nat.reduceAdd, Nat.reduceSub, Nat.reduceMul, Nat.reduceEqDiff, Nat.reduceLT, reduceIte, reduceCtorEq, true_and, and_true, forall_const, not_true_eq_false, not_false_eq_true, false_implies, implies_true, r1]
      rw [r3]
      exact ⟨rfl, r4⟩
def pv_least (T : zt_T) (V : pv_V) : Int := (List.range (2 * (pv_r V).length)).foldl (fun a k => if pv_spare T V k < a then pv_spare T V k else a) 9999
def pv_most (T : zt_T) (V : pv_V) : Int := if pv_least T V < 0 then -2 else if 999 < pv_least T V then 999 else pv_least T V
theorem pv_least_aux (f : Nat → Int) (w : Int) : ∀ (l : List Nat) (a : Int), (w ≤ l.foldl (fun a k => if f k < a then f k else a) a ↔ w ≤ a ∧ ∀ k ∈ l, w ≤ f k)
  | [], a => by simp
  | x :: l, a => by
    rw [List.foldl_cons, pv_least_aux f w l]
    constructor
    · rintro ⟨h1, h2⟩
      split at h1
      · refine ⟨by omega, fun k hk => ?_⟩
        rcases List.mem_cons.1 hk with rfl | hk
        · exact h1
        · exact h2 k hk
      · refine ⟨by omega, fun k hk => ?_⟩
        rcases List.mem_cons.1 hk with rfl | hk
        · omega
        · exact h2 k hk
    · rintro ⟨h1, h2⟩
      refine ⟨?_, fun k hk => h2 k (List.mem_cons_of_mem _ hk)⟩
      split
      · exact h2 x List.mem_cons_self
      · exact h1
theorem pv_least_iff (T : zt_T) (V : pv_V) {w : Int} (hw : w ≤ 9999) : w ≤ pv_least T V ↔ ∀ k, k < 2 * (pv_r V).length → w ≤ pv_spare T V k := by
  unfold pv_least
  rw [pv_least_aux]
  exact ⟨fun h k hk => h.2 k (List.mem_range.2 hk), fun h => ⟨hw, fun k hk => h k (List.mem_range.1 hk)⟩⟩
theorem pv_brk_least (T : zt_T) (V : pv_V) {w : Int} (hw : w ≤ 9999) : pv_brk T V w < 0 ↔ w ≤ pv_least T V := by
  rw [pv_least_iff T V hw]
  unfold pv_brk
  cases h : (List.range (2 * (pv_r V).length)).find? (fun k => decide (pv_spare T V k < w)) with
  | none =>
    rw [List.find?_eq_none] at h
    refine ⟨fun _ k hk => ?_, fun _ => by show (-1 : Int) < 0; omega⟩
    have := h k (List.mem_range.2 hk)
    simp at this
    exact this
  | some k =>
    rw [List.find?_range_eq_some] at h
    obtain ⟨h1, h2, h3⟩ := h
    refine ⟨fun q => absurd q (by show ¬ ((k : Nat) : Int) < 0; omega), fun q => ?_⟩
    have := q k (List.mem_range.1 h2)
    have h1 := of_decide_eq_true h1
    omega
theorem pv_least_bd {T : zt_T} {V : pv_V} (ht : pt_ok T) (ho : pv_ok (zt_n T) V) : -700 ≤ pv_least T V ∧ pv_least T V ≤ 9999 := by
  refine ⟨(pv_least_iff T V (by omega)).2 (fun k hk => (pv_spare_bd ht ho hk).1), ?_⟩
  have := (pv_least_aux (pv_spare T V) (pv_least T V) (List.range (2 * (pv_r V).length)) 9999).1 (Int.le_refl _)
  exact this.1
theorem pv_brk_bd (T : zt_T) {V : pv_V} {n : Nat} (ho : pv_ok n V) (w : Int) : -1 ≤ pv_brk T V w ∧ pv_brk T V w < 2 * (pv_r V).length := by
  unfold pv_brk
  cases h : (List.range (2 * (pv_r V).length)).find? (fun k => decide (pv_spare T V k < w)) with
  | none => show (-1 : Int) ≤ -1 ∧ (-1 : Int) < _; omega
  | some k =>
    rw [List.find?_range_eq_some] at h
    have := List.mem_range.1 h.2.1
    show (-1 : Int) ≤ ((k : Nat) : Int) ∧ ((k : Nat) : Int) < _
    omega
theorem pc_most {T : zt_T} {M : cs_S} {i : Nat} {V : pv_V} (hT : pt_ok T) (hV : pc_V M i V) (ho : pv_ok (zt_n T) V) (hi : i < 45) :
    pw (gh_mostOf T M i) (fun p => p.1 = pj (pv_most T V) ∧ pc_e M p.2) := by
  have hn := ho.1
  have hl := pv_len ho
  unfold gh_mostOf
  refine pw_seq (Q := fun p : Int32 × cs_S => ∃ w : Int, p.1 = pj w ∧ -1 ≤ w ∧ w ≤ 999 ∧ (w < 0 ∨ w ≤ pv_least T V) ∧ (w < 999 → pv_least T V < w + 1) ∧ pc_e M p.2) ?_ ?_
  · refine pw_for 1000 (fun k t => ∃ M', t = (pj (999 - (k : Nat) : Int), M') ∧ pc_e M M' ∧ (0 < k → pv_least T V < 999 - (k : Nat) + 1)) 5000 (by omega) ?_ ?_ _ ⟨M, rfl, pc_e_rfl M, fun h => absurd h (Nat.lt_irrefl 0)⟩
    · rintro k t hk ⟨M', rfl, h1, h2⟩
      have hV' := pc_V_e hi h1 hV
      have hlt : ¬ (999 - (k : Int) < 0) := by omega
      unfold gh_mostOf_L4
      simp (disch := omega) only [pj_lit, pj_add, pj_sub, pj_neg, pj_mul, pj_lt, pj_eq, pj_nat, pj_ald, pj_ast, pj_ix, pw_bind, pw_ite, pw_some, pw_none, pw_let, Option.bind_some, Int.toNat_natCast, Sum.elim_inl, Sum.elim_inr, Int.cast_ofNat_Int, Int.reduceLT, Int.reduceLE, Int.reduceEq, Int.reduceAdd, Int.reduceSub, Int.reduceMul, Int.reduceNeg, Int.reduceToNat, Nat.reduceAdd, Nat.reduceSub, Nat.reduceMul, Nat.reduceEqDiff, Nat.reduceLT, reduceIte, reduceCtorEq, true_and, and_true, forall_const, not_true_eq_false, not_false_eq_true, false_implies, implies_true, hlt]
      refine pw_mono (pc_brk hT hV' ho hi (w := 999 - k) (by omega)) (fun p hp => ?_)
      have hb := pv_brk_bd T ho (999 - (k : Int))
      have hi2 := pv_brk_least T V (w := 999 - (k : Int)) (by omega)
      simp (disch := omega) only [pj_lit, pj_add, pj_sub, pj_neg, pj_mul, pj_lt, pj_eq, pj_nat, pj_ald, pj_ast, pj_ix, pw_bind, pw_ite, pw_some, pw_none, pw_let, Option.bind_some, Int.toNat_natCast, Sum.elim_inl, Sum.elim_inr, Int.cast_ofNat_Int, Int.reduceLT, Int.reduceLE, Int.reduceEq, Int.reduceAdd, Int.reduceSub, Int.reduceMul, Int.reduceNeg, Int.reduceToNat, Nat.reduceAdd, Nat.reduceSub, Nat.reduceMul, Nat.reduceEqDiff, Nat.reduceLT, reduceIte, reduceCtorEq, true_and, and_true, forall_const, not_true_eq_false, not_false_eq_true, false_implies, implies_true, hp.1]
      refine ⟨fun q => ⟨_, rfl, by omega, by omega, Or.inr (hi2.1 q), fun h => h2 (by omega), pc_e_trans h1 hp.2⟩, fun q => ⟨p.2, by congr 2; omega, pc_e_trans h1 hp.2, fun _ => ?_⟩⟩
      have := fun z => q (hi2.2 z)
      omega
    · rintro t ⟨M', rfl, h1, h2⟩
      have hlt : (999 - ((1000 : Nat) : Int) < 0) := by omega
      unfold gh_mostOf_L4
      simp (disch := omega) only [pj_lit, pj_add, pj_sub, pj_neg, pj_mul, pj_lt, pj_eq, pj_nat, pj_ald, pj_ast, pj_ix, pw_bind, pw_ite, pw_some, pw_none, pw_let, Option.bind_some, Int.toNat_natCast, Sum.elim_inl, Sum.elim_inr, Int.cast_ofNat_Int, Int.reduceLT, Int.reduceLE, Int.reduceEq, Int.reduceAdd, Int.reduceSub, Int.reduceMul, Int.reduceNeg, Int.reduceToNat, Nat.reduceAdd, Nat.reduceSub, Nat.reduceMul, Nat.reduceEqDiff, Nat.reduceLT, reduceIte, reduceCtorEq, true_and, and_true, forall_const, not_true_eq_false, not_false_eq_true, false_implies, implies_true, hlt]
      exact ⟨_, rfl, by omega, by omega, Or.inl (by omega), fun _ => h2 (by omega), h1⟩
  · rintro ⟨x, M'⟩ ⟨w, rfl, h1, h2, h3, h4, h5⟩
    have hlb := pv_least_bd hT ho
    simp (disch := omega) only [pj_lit, pj_add, pj_sub, pj_neg, pj_mul, pj_lt, pj_eq, pj_nat, pj_ald, pj_ast, pj_ix, pw_bind, pw_ite, pw_some, pw_none, pw_let, Option.bind_some, Int.toNat_natCast, Sum.elim_inl, Sum.elim_inr, Int.cast_ofNat_Int, Int.reduceLT, Int.reduceLE, Int.reduceEq, Int.reduceAdd, Int.reduceSub, Int.reduceMul, Int.reduceNeg, Int.reduceToNat, Nat.reduceAdd, Nat.reduceSub, Nat.reduceMul, Nat.reduceEqDiff, Nat.reduceLT, reduceIte, reduceCtorEq, true_and, and_true, forall_const, not_true_eq_false, not_false_eq_true, false_implies, implies_true]
    unfold pv_most
    refine ⟨fun q => ⟨?_, h5⟩, fun q => ⟨?_, h5⟩⟩
    · rw [if_pos (by omega)]
    · rw [if_neg (by omega)]
      by_cases h6 : 999 < pv_least T V
      · rw [if_pos h6]; congr 1; omega
      · rw [if_neg h6]; congr 1; omega
theorem pm_most {T : zt_T} {s : Nat} {Z : zm_S} {V : pv_V} (ht : pt_ok T) (hT : pm_T T s Z) (hV : pv_row (Z.2.1 48) V) (ho : pv_ok (zt_n T) V) :
    pw (gm_mostOf Z) (fun p => p.1 = pj (pv_most T V) ∧ pm_e Z p.2) := by
  have hn := ho.1
  have hl := pv_len ho
  have hlb := pv_least_bd ht ho
  unfold gm_mostOf gm_spareLeast
  simp only [pw_bind, pw_some]
  refine pw_mono (Q := fun p : Int32 × zm_S => p.1 = pj (pv_least T V) ∧ pm_e Z p.2) ?_ ?_
  · refine pw_for (2 * (pv_r V).length) (fun k t => ∃ Z', t = (pj ((List.range k).foldl (fun a k => if pv_spare T V k < a then pv_spare T V k else a) 9999), pj (k : Nat), Z') ∧ pm_e Z Z') 5000 (by omega) ?_ ?_ _ ⟨Z, rfl, pm_e_rfl Z⟩
    · rintro k t hk ⟨Z', rfl, h1⟩
      have hV' := pm_row_e h1 hV
      have e24 := hV'.2.1
      have hlt : (k : Int) < 2 * ((pv_r V).length : Nat) := by omega
      have hb := pv_spare_bd ht ho hk
      rw [List.range_succ, List.foldl_append, List.foldl_cons, List.foldl_nil]
      have hacc : ∀ w : Int, w ≤ 9999 → (∀ j, j < k → w ≤ pv_spare T V j) → w ≤ (List.range k).foldl (fun a k => if pv_spare T V k < a then pv_spare T V k else a) 9999 := fun w hw h => (pv_least_aux (pv_spare T V) w (List.range k) 9999).2 ⟨hw, fun j hj => h j (List.mem_range.1 hj)⟩
      have hacc1 := hacc (-700) (by omega) (fun j hj => (pv_spare_bd ht ho (by omega)).1)
      have hacc2 := ((pv_least_aux (pv_spare T V) _ (List.range k) 9999).1 (Int.le_refl _)).1
      generalize (List.range k).foldl (fun a k => if pv_spare T V k < a then pv_spare T V k else a) 9999 = acc at hacc1 hacc2
      unfold gm_spareLeast_L6
      simp (disch := omega) only [pj_lit, pj_add, pj_sub, pj_neg, pj_mul, pj_lt, pj_eq, pj_nat, pj_ald, pj_ast, pj_ix, pw_bind, pw_ite, pw_some, pw_none, pw_let, Option.bind_some, Int.toNat_natCast, Sum.elim_inl, Sum.elim_inr, Int.cast_ofNat_Int, Int.reduceLT, Int.reduceLE, Int.reduceEq, Int.reduceAdd, Int.reduceSub, Int.reduceMul, Int.reduceNeg, Int.reduceToNat, Nat.reduceAdd, Nat.reduceSub, Nat.reduceMul, Nat.reduceEqDiff, Nat.reduceLT, reduceIte, reduceCtorEq, true_and, and_true, forall_const, not_true_eq_false, not_false_eq_true, false_implies, implies_true, e24, hlt]
      refine pw_mono (pm_spare ht (pm_T_e h1 hT) hV' ho hk) (fun p hp => ?_)
      have h1' := pm_e_trans h1 hp.2
      simp (disch := omega) only [pj_lit, pj_add, pj_sub, pj_neg, pj_mul, pj_lt, pj_eq, pj_nat, pj_ald, pj_ast, pj_ix, pw_bind, pw_ite, pw_some, pw_none, pw_let, Option.bind_some, Int.toNat_natCast, Sum.elim_inl, Sum.elim_inr, Int.cast_ofNat_Int, Int.reduceLT, Int.reduceLE, Int.reduceEq, Int.reduceAdd, Int.reduceSub, Int.reduceMul, Int.reduceNeg, Int.reduceToNat, Nat.reduceAdd, Nat.reduceSub, Nat.reduceMul, Nat.reduceEqDiff, Nat.reduceLT, reduceIte, reduceCtorEq, true_and, and_true, forall_const, not_true_eq_false, not_false_eq_true, false_implies, implies_true, hp.1]
      refine ⟨fun q => ?_, fun q => ⟨p.2, by rw [if_neg q]; rfl, h1'⟩⟩
      refine pw_mono (pm_spare ht (pm_T_e h1' hT) (pm_row_e h1' hV) ho hk) (fun p2 hp2 => ?_)
      exact ⟨p2.2, by rw [if_pos q, hp2.1]; rfl, pm_e_trans h1' hp2.2⟩
    · rintro t ⟨Z', rfl, h1⟩
      have e24 := (pm_row_e h1 hV).2.1
      have hlt : ¬ ((2 * (pv_r V).length : Nat) : Int) < 2 * ((pv_r V).length : Nat) := by omega
      unfold gm_spareLeast_L6
      simp (disch := omega) only [pj_lit, pj_add, pj_sub, pj_neg, pj_mul, pj_lt, pj_eq, pj_nat, pj_ald, pj_ast, pj_ix, pw_bind, pw_ite, pw_some, pw_none, pw_let, Option.bind_some, Int.toNat_natCast, Sum.elim_inl, Sum.elim_inr, Int.cast_ofNat_Int, Int.reduceLT, Int.reduceLE, Int.reduceEq, Int.reduceAdd, Int.reduceSub, Int.reduceMul, Int.reduceNeg, Int.reduceToNat, Nat.reduceAdd, Nat.reduceSub, Nat.reduceMul, Nat.reduceEqDiff, Nat.reduceLT, reduceIte, reduceCtorEq, true_and, and_true, forall_const, not_true_eq_false, not_false_eq_true, false_implies, implies_true, e24, hlt]
      exact ⟨rfl, h1⟩
  · rintro ⟨x, Z'⟩ ⟨h1, h2⟩
    subst h1
    unfold pv_most
    simp (disch := omega) only [pj_lit, pj_add, pj_sub, pj_neg, pj_mul, pj_lt, pj_eq, pj_nat, pj_ald, pj_ast, pj_ix, pw_bind, pw_ite, pw_some, pw_none, pw_let, Option.bind_some, Int.toNat_natCast, Sum.elim_inl, Sum.elim_inr, Int.cast_ofNat_Int, Int.reduceLT, Int.reduceLE, Int.reduceEq, Int.reduceAdd, Int.reduceSub, Int.reduceMul, Int.reduceNeg, Int.reduceToNat, Nat.reduceAdd, Nat.reduceSub, Nat.reduceMul, Nat.reduceEqDiff, Nat.reduceLT, reduceIte, reduceCtorEq, true_and, and_true, forall_const, not_true_eq_false, not_false_eq_true, false_implies, implies_true]
    refine ⟨fun q => ⟨by rw [if_pos q], h2⟩, fun q => ⟨fun q2 => ⟨by rw [if_neg q, if_pos q2], h2⟩, fun q2 => ⟨by rw [if_neg q, if_neg q2], h2⟩⟩⟩
/-! sets of houses as bits; a year -/
theorem pj_shl1 : ∀ h, h < 7 → zs_shl (pj 1) (pj (h : Nat)) = pj ((1 <<< h : Nat) : Int) := by decide +kernel
theorem pj_or : ∀ a, a < 64 → ∀ b, b < 64 → pj (a : Nat) ||| pj (b : Nat) = pj ((a ||| b : Nat) : Int) := by decide +kernel
theorem pj_and : ∀ a, a < 64 → ∀ b, b < 64 → pj (a : Nat) &&& pj (b : Nat) = pj ((a &&& b : Nat) : Int) := by decide +kernel
theorem pj_xor : ∀ a, a < 64 → ∀ b, b < 64 → pj (a : Nat) ^^^ pj (b : Nat) = pj ((a ^^^ b : Nat) : Int) := by decide +kernel
theorem pj_bit : ∀ a, a < 64 → ∀ h, h < 6 → zs_shr (pj (a : Nat)) (pj (h : Nat)) &&& pj 1 = pj (if a.testBit h then 1 else 0) := by decide +kernel
theorem pj_bitx {a h : Nat} (ha : a < 64) (hh : h < 6) : (zs_shr (pj (a : Nat)) (pj (h : Nat)) &&& pj 1 = pj 1) = (a.testBit h = true) := by
  rw [pj_bit a ha h hh]
  cases a.testBit h with
  | true => simp
  | false => exact propext ⟨fun q => absurd q (by decide), fun q => absurd q (by decide)⟩
/-- a set by what is in -/
def pb_set (b : Nat → Bool) : Nat → Nat
  | 0 => 0
  | k + 1 => pb_set b k ||| (if b k then 1 <<< k else 0)
theorem pb_lt (b : Nat → Bool) : ∀ k, pb_set b k < 2 ^ k
  | 0 => Nat.zero_lt_one
  | k + 1 => by
    unfold pb_set
    have h := pb_lt b k
    have h1 : 2 ^ k < 2 ^ (k + 1) := Nat.pow_lt_pow_right (by omega) (by omega)
    refine Nat.or_lt_two_pow (by omega) ?_
    split
    · rw [Nat.one_shiftLeft]; exact h1
    · omega
theorem pb_lt64 (b : Nat → Bool) {k : Nat} (hk : k ≤ 6) : pb_set b k < 64 := Nat.lt_of_lt_of_le (pb_lt b k) (show 2 ^ k ≤ 2 ^ 6 from Nat.pow_le_pow_right (by omega) hk)
theorem pb_bit (b : Nat → Bool) : ∀ k h, (pb_set b k).testBit h = (decide (h < k) && b h)
  | 0, h => by simp [pb_set]
  | k + 1, h => by
    unfold pb_set
    rw [Nat.testBit_or, pb_bit b k h]
    by_cases e : h = k
    · subst e
      cases b h <;> simp
    · have h1 : decide (h < k + 1) = decide (h < k) := by by_cases q : h < k <;> simp <;> omega
      have h2 : (if b k = true then 1 <<< k else 0).testBit h = false := by
        split
        · rw [Nat.one_shiftLeft, Nat.testBit_two_pow]; simp; omega
        · simp
      rw [h1, h2, Bool.or_false]
def pv_mix (a b : Int32) : Int32 := ((a ^^^ b) * 1103515245 + 12345) ^^^ zs_ushr ((a ^^^ b) * 1103515245 + 12345) 15
def pv_lot (sd w : Int32) : Int32 := zs_rem (zs_ushr (pv_mix (pv_mix sd 219) w) 1) 100
def pv_bl (T : zt_T) (V : pv_V) (sd : Int32) (st : Bool) (h : Nat) : Bool := !st && decide (pv_lot sd (8 * pv_y V + pj h) < zt_f T 6)
def pv_nh (T : zt_T) (V : pv_V) (sd : Int32) (st : Bool) (h : Nat) : Int := if pv_bl T V sd st h then (pv_h V h).tdiv 2 else min 99 (pv_h V h + pv_grows T V h)
def pv_ns (T : zt_T) (V : pv_V) (h : Nat) : Int := max 0 (pv_s V h - if 0 < pv_p V h then pv_weak T V h else 0)
/-- a year -/
def pv_year (T : zt_T) (sd : Int32) (st : Bool) (V : pv_V) : pv_V := (fun h => if h < zt_n T then pv_nh T V sd st h else pv_h V h, pv_p V, fun h => if h < zt_n T then pv_ns T V h else pv_s V h, pv_g V, pv_r V, pv_y V + 1, pv_d V)
theorem pv_grows_bd (T : zt_T) (V : pv_V) (h : Nat) : 0 ≤ pv_grows T V h ∧ pv_grows T V h ≤ 99 := pv_lw_bd T V 0 h _ _ (by omega) (by omega)
theorem pv_weak_bd (T : zt_T) (V : pv_V) (h : Nat) : 0 ≤ pv_weak T V h ∧ pv_weak T V h ≤ 99 := pv_lw_bd T V 1 h _ _ (by omega) (by omega)
theorem pv_nh_bd {T : zt_T} {V : pv_V} {n : Nat} (ho : pv_ok n V) (sd : Int32) (st : Bool) {h : Nat} (hh : h < 6) : 0 ≤ pv_nh T V sd st h ∧ pv_nh T V sd st h ≤ 99 := by
  have h1 := pv_grows_bd T V h
  have h2 := ho.2.1 h hh
  unfold pv_nh
  split
  · rw [Int.tdiv_eq_ediv_of_nonneg (by omega)]; omega
  · omega
theorem pv_ns_bd {T : zt_T} {V : pv_V} {n : Nat} (ho : pv_ok n V) {h : Nat} (hh : h < 6) : 0 ≤ pv_ns T V h ∧ pv_ns T V h ≤ 99 := by
  have h1 := pv_weak_bd T V h
  have h2 := ho.2.1 h hh
  unfold pv_ns
  split <;> omega
theorem pv_year_ok {T : zt_T} {V : pv_V} (ho : pv_ok (zt_n T) V) (sd : Int32) (st : Bool) : pv_ok (zt_n T) (pv_year T sd st V) := by
  refine ⟨ho.1, fun h hh => ?_, ho.2.2.1, ho.2.2.2.1, fun h h1 h2 => ?_⟩
  · have h2 := ho.2.1 h hh
    have h3 := pv_nh_bd (T := T) ho sd st hh
    have h4 := pv_ns_bd (T := T) ho hh
    refine ⟨?_, ?_, h2.2.2.1, h2.2.2.2.1, ?_, ?_, h2.2.2.2.2.2.2⟩
    · show 0 ≤ if h < zt_n T then pv_nh T V sd st h else pv_h V h
      split <;> omega
    · show (if h < zt_n T then pv_nh T V sd st h else pv_h V h) ≤ _
      split <;> omega
    · show 0 ≤ if h < zt_n T then pv_ns T V h else pv_s V h
      split <;> omega
    · show (if h < zt_n T then pv_ns T V h else pv_s V h) ≤ _
      split <;> omega
  · refine ⟨?_, ?_, (ho.2.2.2.2 h h1 h2).2.2⟩
    · show (if h < zt_n T then pv_nh T V sd st h else pv_h V h) = _
      rw [if_neg (by omega)]
      exact (ho.2.2.2.2 h h1 h2).1
    · show (if h < zt_n T then pv_ns T V h else pv_s V h) = _
      rw [if_neg (by omega)]
      exact (ho.2.2.2.2 h h1 h2).2.1
theorem pc_mix (a b : Int32) : gh_mixed a b = some (pv_mix a b) := rfl
theorem pm_mix (a b : Int32) : gm_mixed a b = some (pv_mix a b) := rfl
theorem pc_lot (a b : Int32) : gh_lot a b 100 = some (pv_lot a b) := rfl
theorem pm_lot (Z : zm_S) (b : Int32) : gm_lotOf Z b = some (pv_lot (Z.1 49) b) := rfl
theorem pc_bl {T : zt_T} {M : cs_S} {i : Nat} {V : pv_V} (hV : pc_V M i V) (st : Bool) (h : Nat) : gv_blights T M i (pj h) st = some (pv_bl T V (M.1 (10 + i) 8) st h) := by
  unfold gv_blights pv_bl
  rw [hV.2.2.2.1, pc_lot]
  cases st <;> rfl
theorem pm_bl {T : zt_T} {s : Nat} {Z : zm_S} {V : pv_V} (hT : pm_T T s Z) (hV : pv_row (Z.2.1 48) V) {st : Bool} (h5 : Z.1 50 = zs_b st) (h : Nat) : gm_isBlighted Z (pj h) = some (pv_bl T V (Z.1 49) st h) := by
  have e31 := hV.2.2.2.1
  have e29 := hT.2.2.2.2.2.2.2.1
  have hs := hT.1
  unfold gm_isBlighted pv_bl
  cases st with
  | true =>
    have : ¬ Z.1 50 = 0 := by rw [h5]; decide
    rw [pw_let, if_neg this]; rfl
  | false =>
    rw [pw_let, if_pos (show Z.1 50 = 0 from h5)]
    have x31 : zs_ald 33 (Z.2.1 48) 31 = some (pv_y V) := by rw [pj_lit]; simp (disch := omega) only [pj_lit, pj_add, pj_sub, pj_neg, pj_mul, pj_lt, pj_eq, pj_nat, pj_ald, pj_ast, pj_ix, pw_bind, pw_ite, pw_some, pw_none, pw_let, Option.bind_some, Int.toNat_natCast, Sum.elim_inl, Sum.elim_inr, Int.cast_ofNat_Int, Int.reduceLT, Int.reduceLE, Int.reduceEq, Int.reduceAdd, Int.reduceSub, Int.reduceMul, Int.reduceNeg, Int.reduceToNat, Nat.reduceAdd, Nat.reduceSub, Nat.reduceMul, Nat.reduceEqDiff, Nat.reduceLT, reduceIte, reduceCtorEq, true_and, and_true, forall_const, not_true_eq_false, not_false_eq_true, false_implies, implies_true, e31]
    have x29 : zs_ald 2 (Z.2.1 29) (Z.1 18) = some (zt_f T 6) := by rw [hT.2.1]; simp (disch := omega) only [pj_lit, pj_add, pj_sub, pj_neg, pj_mul, pj_lt, pj_eq, pj_nat, pj_ald, pj_ast, pj_ix, pw_bind, pw_ite, pw_some, pw_none, pw_let, Option.bind_some, Int.toNat_natCast, Sum.elim_inl, Sum.elim_inr, Int.cast_ofNat_Int, Int.reduceLT, Int.reduceLE, Int.reduceEq, Int.reduceAdd, Int.reduceSub, Int.reduceMul, Int.reduceNeg, Int.reduceToNat, Nat.reduceAdd, Nat.reduceSub, Nat.reduceMul, Nat.reduceEqDiff, Nat.reduceLT, reduceIte, reduceCtorEq, true_and, and_true, forall_const, not_true_eq_false, not_false_eq_true, false_implies, implies_true, e29]; rw [← pt_f_eq]
    rw [x31, Option.bind_some, pm_lot, Option.bind_some, x29, Option.bind_some]
    by_cases q : pv_lot (Z.1 49) (8 * pv_y V + pj h) < zt_f T 6
    · rw [if_pos q, decide_eq_true q]; rfl
    · rw [if_neg q, decide_eq_false q]; rfl
/-! a year in the component -/
/-- all but the asked and what is more, less -/
def pc_x (M M' : cs_S) : Prop := (∀ o f, o < 110 ∨ 155 ≤ o → M'.1 o f = M.1 o f) ∧ (∀ o f, ¬ (10 ≤ o ∧ o < 55 ∧ 9 ≤ f ∧ f ≤ 11) → M'.2 o f = M.2 o f)
/-- all but the asked and one village -/
def pc_w (i : Nat) (M M' : cs_S) : Prop := (∀ o f, o < 110 ∨ 155 ≤ o → o ≠ 10 + i → M'.1 o f = M.1 o f) ∧ (∀ o f, ¬ (10 ≤ o ∧ o < 55 ∧ 9 ≤ f ∧ f ≤ 11) → o ≠ 10 + i → M'.2 o f = M.2 o f)
theorem pc_x_rfl (M : cs_S) : pc_x M M := ⟨fun _ _ _ => rfl, fun _ _ _ => rfl⟩
theorem pc_x_trans {A B C : cs_S} (h : pc_x A B) (g : pc_x B C) : pc_x A C := ⟨fun o f q => (g.1 o f q).trans (h.1 o f q), fun o f q => (g.2 o f q).trans (h.2 o f q)⟩
theorem pc_w_rfl (i : Nat) (M : cs_S) : pc_w i M M := ⟨fun _ _ _ _ => rfl, fun _ _ _ _ => rfl⟩
theorem pc_w_trans {i : Nat} {A B C : cs_S} (h : pc_w i A B) (g : pc_w i B C) : pc_w i A C := ⟨fun o f q r => (g.1 o f q r).trans (h.1 o f q r), fun o f q r => (g.2 o f q r).trans (h.2 o f q r)⟩
theorem pc_e_x {M M' : cs_S} (h : pc_e M M') : pc_x M M' := ⟨h.1, fun o f q => h.2 o f (by omega)⟩
theorem pc_x_w {M M' : cs_S} (i : Nat) (h : pc_x M M') : pc_w i M M' := ⟨fun o f q _ => h.1 o f q, fun o f q _ => h.2 o f q⟩
theorem pc_sA2n {M : cs_S} {o k p q : Nat} {i x : Int32} (h : ¬ (p = o ∧ q = k)) : (cs_sA M o k i x).2 p q = M.2 p q := if_neg h
theorem pc_w_A {M : cs_S} {i : Nat} (k : Nat) (j x : Int32) : pc_w i M (cs_sA M (10 + i) k j x) := by
  refine ⟨fun _ _ _ _ => rfl, fun o f q r => ?_⟩
  rw [pc_sA2, if_neg (by omega)]
theorem pc_w_F {M : cs_S} {i : Nat} (k : Nat) (x : Int32) : pc_w i M (cs_sF M (10 + i) k x) := by
  refine ⟨fun o f q r => ?_, fun _ _ _ _ => rfl⟩
  rw [pc_sF1, if_neg (by omega)]
theorem pc_x_A {M : cs_S} {i : Nat} (hi : i < 45) {k : Nat} (hk : 9 ≤ k ∧ k ≤ 11) (j x : Int32) : pc_x M (cs_sA M (10 + i) k j x) := by
  refine ⟨fun _ _ _ => rfl, fun o f q => ?_⟩
  rw [pc_sA2, if_neg (by omega)]
theorem pc_V_x {M M' : cs_S} {i : Nat} {V : pv_V} (hi : i < 45) (h : pc_x M M') (g : pc_V M i V) : pc_V M' i V := by
  obtain ⟨g1, g2, g3, g4, g5⟩ := g
  refine ⟨fun k hk => ?_, ?_, fun k x e => ?_, ?_, ?_⟩
  · rw [h.2 _ 0 (by omega), h.2 _ 1 (by omega), h.2 _ 2 (by omega), h.2 _ 3 (by omega)]; exact g1 k hk
  · rw [h.1 _ _ (by omega)]; exact g2
  · rw [h.2 _ _ (by omega)]; exact g3 k x e
  · rw [h.1 _ _ (by omega)]; exact g4
  · rw [h.1 _ _ (by omega)]; exact g5
/-- the village of another object stays -/
theorem pc_V_w {M M' : cs_S} {i j : Nat} {V : pv_V} (hi : i < 45) (hij : i ≠ j) (h : pc_w j M M') (g : pc_V M i V) : pc_V M' i V := by
  obtain ⟨g1, g2, g3, g4, g5⟩ := g
  refine ⟨fun k hk => ?_, ?_, fun k x e => ?_, ?_, ?_⟩
  · rw [h.2 _ 0 (by omega) (by omega), h.2 _ 1 (by omega) (by omega), h.2 _ 2 (by omega) (by omega), h.2 _ 3 (by omega) (by omega)]; exact g1 k hk
  · rw [h.1 _ _ (by omega) (by omega)]; exact g2
  · rw [h.2 _ _ (by omega) (by omega)]; exact g3 k x e
  · rw [h.1 _ _ (by omega) (by omega)]; exact g4
  · rw [h.1 _ _ (by omega) (by omega)]; exact g5
/-- behind the first k houses of a year's look -/
def pc_Y (T : zt_T) (V : pv_V) (M : cs_S) (i : Nat) (st : Bool) (k : Nat) (t : Int32 × Int32 × cs_S) : Prop :=
  ∃ M', t = (pj ((pb_set (pv_bl T V (M.1 (10 + i) 8) st) k : Nat) : Int), pj (k : Nat), M') ∧ pc_x M M' ∧ ∀ x, x < k → M'.2 (10 + i) 9 x = pj (pv_grows T V x) ∧ M'.2 (10 + i) 10 x = pj (if 0 < pv_p V x then pv_weak T V x else 0)
theorem pc_year1 {T : zt_T} {M : cs_S} {i : Nat} {V : pv_V} (hT : pt_ok T) (hV : pc_V M i V) (ho : pv_ok (zt_n T) V) (hi : i < 45) (st : Bool) (k : Nat) (t : Int32 × Int32 × cs_S) (hk : k < zt_n T) (hI : pc_Y T V M i st k t) :
    pw (gv_goesBy_L5 T i st t) (Sum.elim (pc_Y T V M i st (k + 1)) (fun _ => False)) := by
  obtain ⟨M', rfl, h1, h2⟩ := hI
  have hn := ho.1
  have hlt : (k : Int) < (zt_n T : Nat) := by omega
  have hgb := pv_grows_bd T V k
  have hwb := pv_weak_bd T V k
  have hset := pb_lt64 (pv_bl T V (M.1 (10 + i) 8) st) (k := k) (by omega)
  unfold gv_goesBy_L5
  simp (disch := omega) only [pj_lit, pj_add, pj_sub, pj_neg, pj_mul, pj_lt, pj_eq, pj_nat, pj_ald, pj_ast, pj_ix, pw_bind, pw_ite, pw_some, pw_none, pw_let, Option.bind_some, Int.toNat_natCast, Sum.elim_inl, Sum.elim_inr, Int.cast_ofNat_Int, Int.reduceLT, Int.reduceLE, Int.reduceEq, Int.reduceAdd, Int.reduceSub, Int.reduceMul, Int.reduceNeg, Int.reduceToNat, Nat.reduceAdd, Nat.reduceSub, Nat.reduceMul, Nat.reduceEqDiff, Nat.reduceLT, reduceIte, reduceCtorEq, true_and, and_true, forall_const, not_true_eq_false, not_false_eq_true, false_implies, implies_true, pj_nI, hlt]
  refine pw_mono (pc_grows hT (pc_V_x hi h1 hV) ho hi hk) (fun p hp => ?_)
  have g1 : pc_x M (cs_sA p.2 (10 + i) 9 (pj (k : Nat)) (pj (pv_grows T V k))) := pc_x_trans (pc_x_trans h1 (pc_e_x hp.2)) (pc_x_A hi (by omega) _ _)
  have g2 : ∀ x, x < k + 1 → (cs_sA p.2 (10 + i) 9 (pj (k : Nat)) (pj (pv_grows T V k))).2 (10 + i) 9 x = pj (pv_grows T V x) := by
    intro x hx
    rw [pc_sA2s, pj_nat (by omega), pj_upd, Int.toNat_natCast]
    by_cases e : x = k
    · rw [if_pos e, e]
    · rw [if_neg e, hp.2.2 _ _ (by omega)]; exact (h2 x (by omega)).1
  have g3 : ∀ x, x < k → (cs_sA p.2 (10 + i) 9 (pj (k : Nat)) (pj (pv_grows T V k))).2 (10 + i) 10 x = pj (if 0 < pv_p V x then pv_weak T V x else 0) := by
    intro x hx
    rw [pc_sA2, if_neg (by omega), hp.2.2 _ _ (by omega)]; exact (h2 x (by omega)).2
  simp (disch := omega) only [pj_lit, pj_add, pj_sub, pj_neg, pj_mul, pj_lt, pj_eq, pj_nat, pj_ald, pj_ast, pj_ix, pw_bind, pw_ite, pw_some, pw_none, pw_let, Option.bind_some, Int.toNat_natCast, Sum.elim_inl, Sum.elim_inr, Int.cast_ofNat_Int, Int.reduceLT, Int.reduceLE, Int.reduceEq, Int.reduceAdd, Int.reduceSub, Int.reduceMul, Int.reduceNeg, Int.reduceToNat, Nat.reduceAdd, Nat.reduceSub, Nat.reduceMul, Nat.reduceEqDiff, Nat.reduceLT, reduceIte, reduceCtorEq, true_and, and_true, forall_const, not_true_eq_false, not_false_eq_true, false_implies, implies_true, hp.1]
  generalize cs_sA p.2 (10 + i) 9 (pj (k : Nat)) (pj (pv_grows T V k)) = M2 at g1 g2 g3
  have hV2 := pc_V_x hi g1 hV
  simp (disch := omega) only [pj_lit, pj_add, pj_sub, pj_neg, pj_mul, pj_lt, pj_eq, pj_nat, pj_ald, pj_ast, pj_ix, pw_bind, pw_ite, pw_some, pw_none, pw_let, Option.bind_some, Int.toNat_natCast, Sum.elim_inl, Sum.elim_inr, Int.cast_ofNat_Int, Int.reduceLT, Int.reduceLE, Int.reduceEq, Int.reduceAdd, Int.reduceSub, Int.reduceMul, Int.reduceNeg, Int.reduceToNat, Nat.reduceAdd, Nat.reduceSub, Nat.reduceMul, Nat.reduceEqDiff, Nat.reduceLT, reduceIte, reduceCtorEq, true_and, and_true, forall_const, not_true_eq_false, not_false_eq_true, false_implies, implies_true, pc_has hV2 ho k (by omega), decide_eq_true_eq]
  have fin : ∀ M3 y, y = pj (if 0 < pv_p V k then pv_weak T V k else 0) → pc_e M2 M3 → pw (gv_blights T (cs_sA M3 (10 + i) 10 (pj (k : Nat)) y) i (pj (k : Nat)) st) fun a =>
      (a = true → pc_Y T V M i st (k + 1) (pj ((pb_set (pv_bl T V (M.1 (10 + i) 8) st) k : Nat) : Int) ||| zs_shl (pj 1) (pj (k : Nat)), pj ((k : Int) + 1), cs_sA M3 (10 + i) 10 (pj (k : Nat)) y)) ∧
      (¬ a = true → pc_Y T V M i st (k + 1) (pj ((pb_set (pv_bl T V (M.1 (10 + i) 8) st) k : Nat) : Int) ||| pj 0, pj ((k : Int) + 1), cs_sA M3 (10 + i) 10 (pj (k : Nat)) y)) := by
    intro M3 y hy hM
    have hx : pc_x M (cs_sA M3 (10 + i) 10 (pj (k : Nat)) y) := pc_x_trans (pc_x_trans g1 (pc_e_x hM)) (pc_x_A hi (by omega) _ _)
    have hcell : ∀ x, x < k + 1 → (cs_sA M3 (10 + i) 10 (pj (k : Nat)) y).2 (10 + i) 9 x = pj (pv_grows T V x) ∧ (cs_sA M3 (10 + i) 10 (pj (k : Nat)) y).2 (10 + i) 10 x = pj (if 0 < pv_p V x then pv_weak T V x else 0) := by
      intro x hx
      refine ⟨?_, ?_⟩
      · rw [pc_sA2, if_neg (by omega), hM.2 _ _ (by omega)]; exact g2 x hx
      · rw [pc_sA2s, pj_nat (by omega), pj_upd, Int.toNat_natCast]
        by_cases e : x = k
        · rw [if_pos e, e, hy]
        · rw [if_neg e, hM.2 _ _ (by omega)]; exact g3 x (by omega)
    rw [pc_bl (pc_V_x hi hx hV), hx.1 _ _ (by omega), pw_some]
    have hsucc : pb_set (pv_bl T V (M.1 (10 + i) 8) st) (k + 1) = pb_set (pv_bl T V (M.1 (10 + i) 8) st) k ||| (if pv_bl T V (M.1 (10 + i) 8) st k then 1 <<< k else 0) := rfl
    refine ⟨fun q => ⟨_, ?_, hx, hcell⟩, fun q => ⟨_, ?_, hx, hcell⟩⟩
    · rw [hsucc, if_pos q, pj_shl1 k (by omega), pj_or _ hset _ (by rw [Nat.one_shiftLeft]; exact show 2 ^ k < 2 ^ 6 from Nat.pow_lt_pow_right (by omega) (by omega))]; rfl
    · rw [hsucc, if_neg q, Nat.or_zero, show pj 0 = pj ((0 : Nat) : Int) from rfl, pj_or _ hset 0 (by omega), Nat.or_zero]; rfl
  refine ⟨fun q => ?_, fun q => ?_⟩
  · refine pw_mono (pc_weak hT hV2 ho hi hk) (fun p2 hp2 => ?_)
    exact fin p2.2 p2.1 (by rw [hp2.1, if_pos q]) hp2.2
  · exact fin M2 (pj 0) (by rw [if_neg q]) (pc_e_rfl M2)
/-- behind the first k houses changed -/
def pc_H (T : zt_T) (V : pv_V) (sd : Int32) (M : cs_S) (i : Nat) (st : Bool) (k : Nat) (t : Int32 × cs_S) : Prop :=
  ∃ M', t = (pj (k : Nat), M') ∧ M'.1 = M.1 ∧ (∀ o f, ¬ (o = 10 + i ∧ (f = 0 ∨ f = 2)) → M'.2 o f = M.2 o f) ∧
    ∀ x, x < 6 → M'.2 (10 + i) 0 x = pj (if x < k then pv_nh T V sd st x else pv_h V x) ∧ M'.2 (10 + i) 2 x = pj (if x < k then pv_ns T V x else pv_s V x)
theorem pc_year2 {T : zt_T} {M : cs_S} {i : Nat} {V : pv_V} (hV : pc_V M i V) (ho : pv_ok (zt_n T) V) (sd : Int32) (st : Bool) (r : cs_S)
    (hm : ∀ x, x < zt_n T → M.2 (10 + i) 9 x = pj (pv_grows T V x) ∧ M.2 (10 + i) 10 x = pj (if 0 < pv_p V x then pv_weak T V x else 0)) (k : Nat) (t : Int32 × cs_S) (hk : k < zt_n T) (hI : pc_H T V sd M i st k t) :
    pw (gv_goesBy_L89 T (pj ((pb_set (pv_bl T V sd st) (zt_n T) : Nat) : Int), r) i t) (Sum.elim (pc_H T V sd M i st (k + 1)) (fun _ => False)) := by
  obtain ⟨M', rfl, h0, h1, h2⟩ := hI
  have hn := ho.1
  have hlt : (k : Int) < (zt_n T : Nat) := by omega
  have hgb := pv_grows_bd T V k
  have hwb := pv_weak_bd T V k
  have hb := ho.2.1 k (by omega)
  have hnb := pv_nh_bd (T := T) ho sd st (h := k) (by omega)
  have hsb := pv_ns_bd (T := T) ho (h := k) (by omega)
  have hset := pb_lt64 (pv_bl T V sd st) (k := zt_n T) (by omega)
  have hbit := pb_bit (pv_bl T V sd st) (zt_n T) k
  rw [decide_eq_true hk, Bool.true_and] at hbit
  have c0 := (h2 k (by omega)).1
  have c2 := (h2 k (by omega)).2
  rw [if_neg (Nat.lt_irrefl k)] at c0 c2
  have c9 : M'.2 (10 + i) 9 k = pj (pv_grows T V k) := by rw [h1 _ _ (by omega)]; exact (hm k hk).1
  have c10 : M'.2 (10 + i) 10 k = pj (if 0 < pv_p V k then pv_weak T V k else 0) := by rw [h1 _ _ (by omega)]; exact (hm k hk).2
  have fin : ∀ M'', M'' = cs_sA (cs_sA M' (10 + i) 0 (pj (k : Nat)) (pj (pv_nh T V sd st k))) (10 + i) 2 (pj (k : Nat)) (pj (pv_ns T V k)) → pc_H T V sd M i st (k + 1) (pj ((k : Int) + 1), M'') := by
    rintro M'' rfl
    refine ⟨_, rfl, h0, fun o f q => ?_, fun x hx => ⟨?_, ?_⟩⟩
    · rw [pc_sA2n (by omega), pc_sA2n (by omega)]; exact h1 o f q
    · rw [pc_sA2n (by omega), pc_sA2s, pj_nat (by omega), pj_upd, Int.toNat_natCast]
      by_cases e : x = k
      · rw [if_pos e, e, if_pos (by omega)]
      · rw [if_neg e, (h2 x hx).1]
        by_cases e2 : x < k
        · rw [if_pos e2, if_pos (by omega)]
        · rw [if_neg e2, if_neg (by omega)]
    · rw [pc_sA2s, pj_nat (by omega), pj_upd, Int.toNat_natCast, pc_sA2n (by omega)]
      by_cases e : x = k
      · rw [if_pos e, e, if_pos (by omega)]
      · rw [if_neg e, (h2 x hx).2]
        by_cases e2 : x < k
        · rw [if_pos e2, if_pos (by omega)]
        · rw [if_neg e2, if_neg (by omega)]
  have hnh : (if (pb_set (pv_bl T V sd st) (zt_n T)).testBit k = true then (some (pj ((pv_h V k).tdiv 2))) else some (zs_min (pj 99) (pj (pv_h V k + pv_grows T V k)))) = some (pj (pv_nh T V sd st k)) := by
    rw [hbit]
    unfold pv_nh
    by_cases q : pv_bl T V sd st k = true
    · rw [if_pos q, if_pos q]
    · rw [if_neg q, if_neg q, pj_min _ _ (by omega) (by omega)]
  have hwk : 0 ≤ (if 0 < pv_p V k then pv_weak T V k else 0) ∧ (if 0 < pv_p V k then pv_weak T V k else 0) ≤ 99 := by split <;> omega
  have hns : zs_max (pj 0) (pj (pv_s V k - if 0 < pv_p V k then pv_weak T V k else 0)) = pj (pv_ns T V k) := pj_max _ _ (by omega) (by omega)
  unfold gv_goesBy_L89
  dsimp only
  rw [pj_nI, if_pos ((pj_lt (by omega) (by omega)).2 hlt)]
  have hd : pj (pv_h V k) / pj 2 = pj ((pv_h V k).tdiv 2) := pj_tdiv (by omega) (by omega)
  have hcell : ∀ y, (cs_sA M' (10 + i) 0 (pj (k : Nat)) y).2 (10 + i) 2 k = pj (pv_s V k) := fun y => by rw [pc_sA2, if_neg (by omega)]; exact c2
  have hcell2 : ∀ y, (cs_sA M' (10 + i) 0 (pj (k : Nat)) y).2 (10 + i) 10 k = pj (if 0 < pv_p V k then pv_weak T V k else 0) := fun y => by rw [pc_sA2, if_neg (by omega)]; exact c10
  simp (disch := omega) only [pj_lit, pj_add, pj_sub, pj_neg, pj_mul, pj_lt, pj_eq, pj_nat, pj_ald, pj_ast, pj_ix, pw_bind, pw_ite, pw_some, pw_none, pw_let, Option.bind_some, Int.toNat_natCast, Sum.elim_inl, Sum.elim_inr, Int.cast_ofNat_Int, Int.reduceLT, Int.reduceLE, Int.reduceEq, Int.reduceAdd, Int.reduceSub, Int.reduceMul, Int.reduceNeg, Int.reduceToNat, Nat.reduceAdd, Nat.reduceSub, Nat.reduceMul, Nat.reduceEqDiff, Nat.reduceLT, reduceIte, reduceCtorEq, true_and, and_true, forall_const, not_true_eq_false, not_false_eq_true, false_implies, implies_true, pj_bitx hset (show k < 6 by omega), c0, c9, hd, hcell, hcell2, hns]
  unfold pv_nh at fin
  rw [hbit]
  refine ⟨fun q => ?_, fun q => ?_⟩
  · rw [if_pos q] at fin
    exact fin _ rfl
  · rw [if_neg q] at fin
    rw [pj_min _ _ (by omega) (by omega)]
    exact fin _ rfl
theorem pc_year {T : zt_T} {M : cs_S} {i : Nat} {V : pv_V} (hT : pt_ok T) (hV : pc_V M i V) (ho : pv_ok (zt_n T) V) (hi : i < 45) (st : Bool) :
    pw (gv_goesBy T M i st) (fun M' => pc_V M' i (pv_year T (M.1 (10 + i) 8) st V) ∧ pc_w i M M' ∧ M'.1 (10 + i) 8 = M.1 (10 + i) 8) := by
  have hn := ho.1
  unfold gv_goesBy
  refine pw_seq (Q := fun p => pc_Y T V M i st (zt_n T) (p.1, pj (zt_n T), p.2)) ?_ ?_
  · rw [pj_0]
    refine pw_for (zt_n T) (pc_Y T V M i st) 5000 (by omega) (fun k t hk hI => pw_mono (pc_year1 hT hV ho hi st k t hk hI) (fun r hr => ?_)) ?_ _ ⟨M, rfl, pc_x_rfl M, fun x hx => absurd hx (Nat.not_lt_zero x)⟩
    · cases r with
      | inl t => exact hr
      | inr p => exact hr.elim
    · rintro t ⟨M', rfl, h1, h2⟩
      unfold gv_goesBy_L5
      simp (disch := omega) only [pj_lit, pj_add, pj_sub, pj_neg, pj_mul, pj_lt, pj_eq, pj_nat, pj_ald, pj_ast, pj_ix, pw_bind, pw_ite, pw_some, pw_none, pw_let, Option.bind_some, Int.toNat_natCast, Sum.elim_inl, Sum.elim_inr, Int.cast_ofNat_Int, Int.reduceLT, Int.reduceLE, Int.reduceEq, Int.reduceAdd, Int.reduceSub, Int.reduceMul, Int.reduceNeg, Int.reduceToNat, Nat.reduceAdd, Nat.reduceSub, Nat.reduceMul, Nat.reduceEqDiff, Nat.reduceLT, reduceIte, reduceCtorEq, true_and, and_true, forall_const, not_true_eq_false, not_false_eq_true, false_implies, implies_true, pj_nI, Int.lt_irrefl]
      exact ⟨M', rfl, h1, h2⟩
  · rintro ⟨x, M1⟩ ⟨M', e, h1, h2⟩
    injection e with e1 e2
    injection e2 with e3 e4
    dsimp only at e1 e4
    subst e1 e4
    have hV1 := pc_V_x hi h1 hV
    refine pw_seq (Q := fun M2 => pc_H T V (M.1 (10 + i) 8) M1 i st (zt_n T) (pj (zt_n T), M2)) ?_ ?_
    · rw [pj_0]
      refine pw_for (zt_n T) (pc_H T V (M.1 (10 + i) 8) M1 i st) 5000 (by omega) (fun k t hk hI => pw_mono (pc_year2 hV1 ho (M.1 (10 + i) 8) st M1 h2 k t hk hI) (fun r hr => ?_)) ?_ _ ⟨M1, rfl, rfl, fun _ _ _ => rfl, fun x hx => ?_⟩
      · cases r with
        | inl t => exact hr
        | inr p => exact hr.elim
      · rintro t ⟨M', rfl, h3, h4, h5⟩
        unfold gv_goesBy_L89
        simp (disch := omega) only [pj_lit, pj_add, pj_sub, pj_neg, pj_mul, pj_lt, pj_eq, pj_nat, pj_ald, pj_ast, pj_ix, pw_bind, pw_ite, pw_some, pw_none, pw_let, Option.bind_some, Int.toNat_natCast, Sum.elim_inl, Sum.elim_inr, Int.cast_ofNat_Int, Int.reduceLT, Int.reduceLE, Int.reduceEq, Int.reduceAdd, Int.reduceSub, Int.reduceMul, Int.reduceNeg, Int.reduceToNat, Nat.reduceAdd, Nat.reduceSub, Nat.reduceMul, Nat.reduceEqDiff, Nat.reduceLT, reduceIte, reduceCtorEq, true_and, and_true, forall_const, not_true_eq_false, not_false_eq_true, false_implies, implies_true, pj_nI, Int.lt_irrefl]
        exact ⟨M', rfl, h3, h4, h5⟩
      · rw [if_neg (Nat.not_lt_zero x), if_neg (Nat.not_lt_zero x)]
        exact ⟨(hV1.1 x hx).1, (hV1.1 x hx).2.2.1⟩
    · rintro M2 ⟨M', e, h3, h4, h5⟩
      injection e with _ e
      subst e
      simp (disch := omega) only [pj_lit, pj_add, pj_sub, pj_neg, pj_mul, pj_lt, pj_eq, pj_nat, pj_ald, pj_ast, pj_ix, pw_bind, pw_ite, pw_some, pw_none, pw_let, Option.bind_some, Int.toNat_natCast, Sum.elim_inl, Sum.elim_inr, Int.cast_ofNat_Int, Int.reduceLT, Int.reduceLE, Int.reduceEq, Int.reduceAdd, Int.reduceSub, Int.reduceMul, Int.reduceNeg, Int.reduceToNat, Nat.reduceAdd, Nat.reduceSub, Nat.reduceMul, Nat.reduceEqDiff, Nat.reduceLT, reduceIte, reduceCtorEq, true_and, and_true, forall_const, not_true_eq_false, not_false_eq_true, false_implies, implies_true]
      have hy : M2.1 (10 + i) 6 = pv_y V := by rw [h3]; exact hV1.2.2.2.1
      have hM2 : ∀ o f, ¬ (o = 10 + i ∧ (f = 0 ∨ f = 2)) → M2.2 o f = M1.2 o f := h4
      refine ⟨⟨fun x hx => ⟨(h5 x hx).1, ?_, (h5 x hx).2, ?_⟩, ?_, fun k x e => ?_, ?_, ?_⟩, ?_, ?_⟩
      · rw [pc_sF2, hM2 _ _ (by omega)]; exact (hV1.1 x hx).2.1
      · rw [pc_sF2, hM2 _ _ (by omega)]; exact (hV1.1 x hx).2.2.2
      · rw [pc_sF1, if_neg (by omega), h3]; exact hV1.2.1
      · rw [pc_sF2, hM2 _ _ (by omega)]; exact hV1.2.2.1 k x e
      · rw [pc_sF1, if_pos ⟨rfl, rfl⟩, hy]; rfl
      · rw [pc_sF1, if_neg (by omega), h3]; exact hV1.2.2.2.2
      · refine ⟨fun o f q r => ?_, fun o f q r => ?_⟩
        · rw [pc_sF1, if_neg (by omega), h3]; exact h1.1 o f q
        · rw [pc_sF2, hM2 _ _ (by omega)]; exact h1.2 o f q
      · rw [pc_sF1, if_neg (by omega), h3]; exact h1.1 _ _ (by omega)
/-! a year in the model -/
def pm_x (Z Z' : zm_S) : Prop := (∀ k, k ≠ 46 → Z'.1 k = Z.1 k) ∧ (∀ k, k ≠ 44 → k ≠ 45 → k ≠ 51 → k ≠ 52 → Z'.2.1 k = Z.2.1 k) ∧ Z'.2.2 = Z.2.2
/-- all but the row that is worked on -/
def pm_w (Z Z' : zm_S) : Prop := (∀ k, k ≠ 46 → Z'.1 k = Z.1 k) ∧ (∀ k, k ≠ 44 → k ≠ 45 → k ≠ 48 → k ≠ 51 → k ≠ 52 → Z'.2.1 k = Z.2.1 k) ∧ Z'.2.2 = Z.2.2
theorem pm_x_rfl (Z : zm_S) : pm_x Z Z := ⟨fun _ _ => rfl, fun _ _ _ _ _ => rfl, rfl⟩
theorem pm_w_rfl (Z : zm_S) : pm_w Z Z := ⟨fun _ _ => rfl, fun _ _ _ _ _ _ => rfl, rfl⟩
theorem pm_x_trans {A B C : zm_S} (h : pm_x A B) (g : pm_x B C) : pm_x A C := ⟨fun k q => (g.1 k q).trans (h.1 k q), fun k a b c d => (g.2.1 k a b c d).trans (h.2.1 k a b c d), g.2.2.trans h.2.2⟩
theorem pm_w_trans {A B C : zm_S} (h : pm_w A B) (g : pm_w B C) : pm_w A C := ⟨fun k q => (g.1 k q).trans (h.1 k q), fun k a b c d e => (g.2.1 k a b c d e).trans (h.2.1 k a b c d e), g.2.2.trans h.2.2⟩
theorem pm_e_x {Z Z' : zm_S} (h : pm_e Z Z') : pm_x Z Z' := ⟨h.1, fun k a b _ _ => h.2.1 k a b, h.2.2⟩
theorem pm_x_w {Z Z' : zm_S} (h : pm_x Z Z') : pm_w Z Z' := ⟨h.1, fun k a b _ c d => h.2.1 k a b c d, h.2.2⟩
theorem pm_sAn {Z : zm_S} {k j : Nat} {i x : Int32} (h : j ≠ k) : (zm_sA Z k i x).2.1 j = Z.2.1 j := if_neg h
theorem pm_x_A {Z : zm_S} {k : Nat} (i x : Int32) (h : k = 51 ∨ k = 52) : pm_x Z (zm_sA Z k i x) := ⟨fun _ _ => rfl, fun j a b c d => pm_sAn (by omega), rfl⟩
theorem pm_w_A {Z : zm_S} (i x : Int32) : pm_w Z (zm_sA Z 48 i x) := ⟨fun _ _ => rfl, fun j a b e c d => pm_sAn (by omega), rfl⟩
theorem pl_cd_w {Z Z' : zm_S} (h : pm_w Z Z') {a : Nat} {c : zl_C} (g : pl_cd Z a c) : pl_cd Z' a c :=
  ⟨g.1, fun j q e => by rw [h.2.1 40 (by decide) (by decide) (by decide) (by decide) (by decide), h.2.1 41 (by decide) (by decide) (by decide) (by decide) (by decide)]; exact g.2 j q e⟩
/-- what a text is in the model lies in these arrays -/
def pm_tx (Z Z' : zm_S) : Prop := Z'.1 18 = Z.1 18 ∧ ∀ k, (22 ≤ k ∧ k ≤ 32) ∨ (34 ≤ k ∧ k ≤ 41) → Z'.2.1 k = Z.2.1 k
theorem pl_lw_tx {Z Z' : zm_S} (h : pm_tx Z Z') {s k : Nat} {o : Option zl_L} (g : pl_lw Z s k o) : pl_lw Z' s k o := by
  have e : ∀ k, (22 ≤ k ∧ k ≤ 32) ∨ (34 ≤ k ∧ k ≤ 41) → Z'.2.1 k = Z.2.1 k := h.2
  have hcd : ∀ a c, pl_cd Z a c → pl_cd Z' a c := fun a c g => ⟨g.1, fun j q ee => by rw [e 40 (by omega), e 41 (by omega)]; exact g.2 j q ee⟩
  have hbr : ∀ b q, pl_br Z b q → pl_br Z' b q := by
    rintro b q ⟨a, g1, g2, g3, g4, g5, g6, g7, g8⟩
    exact ⟨a, (congrFun (e 34 (by omega)) _).trans g1, (congrFun (e 35 (by omega)) _).trans g2, (congrFun (e 36 (by omega)) _).trans g3, (congrFun (e 37 (by omega)) _).trans g4, (congrFun (e 38 (by omega)) _).trans g5, hcd _ _ g6, hcd _ _ g7, hcd _ _ g8.1, g8.2⟩
  have hel : ∀ b q, pl_el Z b q → pl_el Z' b q := by
    rintro b q ⟨a, g1, g4, g5, g6⟩
    exact ⟨a, (congrFun (e 34 (by omega)) _).trans g1, (congrFun (e 37 (by omega)) _).trans g4, (congrFun (e 38 (by omega)) _).trans g5, hcd _ _ g6.1, g6.2⟩
  cases o with
  | none => show Z'.2.1 31 _ = Z'.2.1 32 _; rw [e 31 (by omega), e 32 (by omega)]; exact g
  | some L =>
    obtain ⟨f, g1, g2, g3, g4, g5, g6⟩ := g
    exact ⟨f, g1, (congrFun (e 31 (by omega)) _).trans g2, (congrFun (e 32 (by omega)) _).trans g3, fun j q ee => hbr _ _ (g4 j q ee), hel _ _ g5, g6⟩
theorem pm_T_tx {T : zt_T} {s : Nat} {Z Z' : zm_S} (h : pm_tx Z Z') (g : pm_T T s Z) : pm_T T s Z' := by
  obtain ⟨g1, g2, g3, g4, g5, g6, g7, g8, g9, g10⟩ := g
  have e : ∀ k, (22 ≤ k ∧ k ≤ 32) ∨ (34 ≤ k ∧ k ≤ 41) → Z'.2.1 k = Z.2.1 k := h.2
  refine ⟨g1, h.1.trans g2, ?_, fun x hx => ?_, fun a b ha hb => ?_, ?_, ?_, ?_, ?_, fun k hk => pl_lw_tx h (g10 k hk)⟩
  · rw [e 22 (by omega)]; exact g3
  · rw [e 23 (by omega), e 24 (by omega)]; exact g4 x hx
  · rw [e 26 (by omega)]; exact g5 a b ha hb
  · rw [e 27 (by omega)]; exact g6
  · rw [e 28 (by omega)]; exact g7
  · rw [e 29 (by omega)]; exact g8
  · rw [e 30 (by omega)]; exact g9
theorem pm_tx_trans {A B C : zm_S} (h : pm_tx A B) (g : pm_tx B C) : pm_tx A C := ⟨g.1.trans h.1, fun k q => (g.2 k q).trans (h.2 k q)⟩
theorem pm_w_tx {Z Z' : zm_S} (h : pm_w Z Z') : pm_tx Z Z' := ⟨h.1 18 (by decide), fun k q => h.2.1 k (by omega) (by omega) (by omega) (by omega) (by omega)⟩
theorem pm_T_w {T : zt_T} {s : Nat} {Z Z' : zm_S} (h : pm_w Z Z') (g : pm_T T s Z) : pm_T T s Z' := pm_T_tx (pm_w_tx h) g
theorem pm_row_x {Z Z' : zm_S} (h : pm_x Z Z') {V : pv_V} (g : pv_row (Z.2.1 48) V) : pv_row (Z'.2.1 48) V := by rw [h.2.1 48 (by decide) (by decide) (by decide) (by decide)]; exact g
def pm_Y (T : zt_T) (V : pv_V) (Z : zm_S) (k : Nat) (t : Int32 × zm_S) : Prop :=
  ∃ Z', t = (pj (k : Nat), Z') ∧ pm_x Z Z' ∧ ∀ x, x < k → Z'.2.1 51 x = pj (pv_grows T V x) ∧ Z'.2.1 52 x = pj (pv_weak T V x)
theorem pm_year1 {T : zt_T} {s : Nat} {Z : zm_S} {V : pv_V} (hT : pm_T T s Z) (hV : pv_row (Z.2.1 48) V) (ho : pv_ok (zt_n T) V) (k : Nat) (t : Int32 × zm_S) (hk : k < zt_n T) (hI : pm_Y T V Z k t) :
    pw (gm_yearGoes_L2 t) (Sum.elim (pm_Y T V Z (k + 1)) (fun _ => False)) := by
  obtain ⟨Z', rfl, h1, h2⟩ := hI
  have hn := ho.1
  have hlt : (k : Int) < (zt_n T : Nat) := by omega
  have hT' := pm_T_w (pm_x_w h1) hT
  have e22 := hT'.2.2.1
  have hs := hT'.1
  unfold gm_yearGoes_L2
  simp (disch := omega) only [pj_lit, pj_add, pj_sub, pj_neg, pj_mul, pj_lt, pj_eq, pj_nat, pj_ald, pj_ast, pj_ix, pw_bind, pw_ite, pw_some, pw_none, pw_let, Option.bind_some, Int.toNat_natCast, Sum.elim_inl, Sum.elim_inr, Int.cast_ofNat_Int, Int.reduceLT, Int.reduceLE, Int.reduceEq, Int.reduceAdd, Int.reduceSub, Int.reduceMul, Int.reduceNeg, Int.reduceToNat, Nat.reduceAdd, Nat.reduceSub, Nat.reduceMul, Nat.reduceEqDiff, Nat.reduceLT, reduceIte, reduceCtorEq, true_and, and_true, forall_const, not_true_eq_false, not_false_eq_true, false_implies, implies_true, hT'.2.1, e22, hlt]
  refine pw_mono (pm_grows hT' (pm_row_x h1 hV) ho hk) (fun p hp => ?_)
  have g1 : pm_x Z (zm_sA p.2 51 (pj (k : Nat)) (pj (pv_grows T V k))) := pm_x_trans (pm_x_trans h1 (pm_e_x hp.2)) (pm_x_A _ _ (Or.inl rfl))
  have g2 : ∀ x, x < k + 1 → (zm_sA p.2 51 (pj (k : Nat)) (pj (pv_grows T V k))).2.1 51 x = pj (pv_grows T V x) := by
    intro x hx
    rw [pm_sAs, pj_nat (by omega), pj_upd, Int.toNat_natCast]
    by_cases e : x = k
    · rw [if_pos e, e]
    · rw [if_neg e, hp.2.2.1 _ (by omega) (by omega)]; exact (h2 x (by omega)).1
  have g3 : ∀ x, x < k → (zm_sA p.2 51 (pj (k : Nat)) (pj (pv_grows T V k))).2.1 52 x = pj (pv_weak T V x) := by
    intro x hx
    rw [pm_sAn (by omega), hp.2.2.1 _ (by omega) (by omega)]; exact (h2 x (by omega)).2
  simp (disch := omega) only [pj_lit, pj_add, pj_sub, pj_neg, pj_mul, pj_lt, pj_eq, pj_nat, pj_ald, pj_ast, pj_ix, pw_bind, pw_ite, pw_some, pw_none, pw_let, Option.bind_some, Int.toNat_natCast, Sum.elim_inl, Sum.elim_inr, Int.cast_ofNat_Int, Int.reduceLT, Int.reduceLE, Int.reduceEq, Int.reduceAdd, Int.reduceSub, Int.reduceMul, Int.reduceNeg, Int.reduceToNat, Nat.reduceAdd, Nat.reduceSub, Nat.reduceMul, Nat.reduceEqDiff, Nat.reduceLT, reduceIte, reduceCtorEq, true_and, and_true, forall_const, not_true_eq_false, not_false_eq_true, false_implies, implies_true, hp.1]
  generalize zm_sA p.2 51 (pj (k : Nat)) (pj (pv_grows T V k)) = M2 at g1 g2 g3
  refine pw_mono (pm_weak (pm_T_w (pm_x_w g1) hT) (pm_row_x g1 hV) ho hk) (fun p2 hp2 => ?_)
  refine ⟨_, rfl, pm_x_trans (pm_x_trans g1 (pm_e_x hp2.2)) (pm_x_A _ _ (Or.inr rfl)), fun x hx => ⟨?_, ?_⟩⟩
  · rw [pm_sAn (by omega), hp2.2.2.1 _ (by omega) (by omega)]; exact g2 x hx
  · rw [pm_sAs, pj_nat (by omega), pj_upd, Int.toNat_natCast]
    by_cases e : x = k
    · rw [if_pos e, e, hp2.1]
    · rw [if_neg e, hp2.2.2.1 _ (by omega) (by omega)]; exact g3 x (by omega)
def pm_H (T : zt_T) (V : pv_V) (st : Bool) (Z : zm_S) (k : Nat) (t : Int32 × zm_S) : Prop :=
  ∃ Z', t = (pj (k : Nat), Z') ∧ Z'.1 = Z.1 ∧ Z'.2.2 = Z.2.2 ∧ (∀ j, j ≠ 48 → Z'.2.1 j = Z.2.1 j) ∧
    (∀ x, x < 6 → Z'.2.1 48 x = pj (if x < k then pv_nh T V (Z.1 49) st x else pv_h V x) ∧ Z'.2.1 48 (12 + x) = pj (if x < k then pv_ns T V x else pv_s V x)) ∧
    ∀ x, 6 ≤ x → ¬ (12 ≤ x ∧ x < 18) → Z'.2.1 48 x = Z.2.1 48 x
theorem pm_year2 {T : zt_T} {s : Nat} {Z : zm_S} {V : pv_V} (hT : pm_T T s Z) (hV : pv_row (Z.2.1 48) V) (ho : pv_ok (zt_n T) V) {st : Bool} (h5 : Z.1 50 = zs_b st)
    (hm : ∀ x, x < zt_n T → Z.2.1 51 x = pj (pv_grows T V x) ∧ Z.2.1 52 x = pj (pv_weak T V x)) (k : Nat) (t : Int32 × zm_S) (hk : k < zt_n T) (hI : pm_H T V st Z k t) :
    pw (gm_yearGoes_L45 t) (Sum.elim (pm_H T V st Z (k + 1)) (fun _ => False)) := by
  obtain ⟨Z', rfl, h0, h00, h1, h2, h3⟩ := hI
  have hn := ho.1
  have hlt : (k : Int) < (zt_n T : Nat) := by omega
  have hgb := pv_grows_bd T V k
  have hwb := pv_weak_bd T V k
  have hb := ho.2.1 k (by omega)
  have hnb := pv_nh_bd (T := T) ho (Z.1 49) st (h := k) (by omega)
  have hsb := pv_ns_bd (T := T) ho (h := k) (by omega)
  have htx : pm_tx Z Z' := ⟨by rw [h0], fun j q => h1 j (by omega)⟩
  have hT' := pm_T_tx htx hT
  have e22 := hT'.2.2.1
  have hs := hT'.1
  have c0 := (h2 k (by omega)).1
  have c2 := (h2 k (by omega)).2
  have c1 : Z'.2.1 48 (6 + k) = pj (pv_p V k) := by rw [h3 _ (by omega) (by omega)]; exact (hV.1 k (by omega)).2.1
  rw [if_neg (Nat.lt_irrefl k)] at c0 c2
  have c51 : Z'.2.1 51 k = pj (pv_grows T V k) := by rw [h1 _ (by omega)]; exact (hm k hk).1
  have c52 : Z'.2.1 52 k = pj (pv_weak T V k) := by rw [h1 _ (by omega)]; exact (hm k hk).2
  have e31 : Z'.2.1 48 31 = pv_y V := by rw [h3 _ (by omega) (by omega)]; exact hV.2.2.2.1
  have hbl : gm_isBlighted Z' (pj (k : Nat)) = some (pv_bl T V (Z.1 49) st k) := by
    have hlocal : ∀ r : Nat → Int32, r 31 = pv_y V → True := fun _ _ => trivial
    have e29 := hT'.2.2.2.2.2.2.2.1
    unfold gm_isBlighted pv_bl
    cases st with
    | true =>
      have : ¬ Z'.1 50 = 0 := by rw [h0, h5]; decide
      rw [pw_let, if_neg this]; rfl
    | false =>
      rw [pw_let, if_pos (show Z'.1 50 = 0 by rw [h0, h5]; rfl)]
      have x31 : zs_ald 33 (Z'.2.1 48) 31 = some (pv_y V) := by rw [pj_lit]; simp (disch := omega) only [pj_lit, pj_add, pj_sub, pj_neg, pj_mul, pj_lt, pj_eq, pj_nat, pj_ald, pj_ast, pj_ix, pw_bind, pw_ite, pw_some, pw_none, pw_let, Option.bind_some, Int.toNat_natCast, Sum.elim_inl, Sum.elim_inr, Int.cast_ofNat_Int, Int.reduceLT, Int.reduceLE, Int.reduceEq, Int.reduceAdd, Int.reduceSub, Int.reduceMul, Int.reduceNeg, Int.reduceToNat, Nat.reduceAdd, Nat.reduceSub, Nat.reduceMul, Nat.reduceEqDiff, Nat.reduceLT, reduceIte, reduceCtorEq, true_and, and_true, forall_const, not_true_eq_false, not_false_eq_true, false_implies, implies_true, e31]
      have x29 : zs_ald 2 (Z'.2.1 29) (Z'.1 18) = some (zt_f T 6) := by rw [hT'.2.1]; simp (disch := omega) only [pj_lit, pj_add, pj_sub, pj_neg, pj_mul, pj_lt, pj_eq, pj_nat, pj_ald, pj_ast, pj_ix, pw_bind, pw_ite, pw_some, pw_none, pw_let, Option.bind_some, Int.toNat_natCast, Sum.elim_inl, Sum.elim_inr, Int.cast_ofNat_Int, Int.reduceLT, Int.reduceLE, Int.reduceEq, Int.reduceAdd, Int.reduceSub, Int.reduceMul, Int.reduceNeg, Int.reduceToNat, Nat.reduceAdd, Nat.reduceSub, Nat.reduceMul, Nat.reduceEqDiff, Nat.reduceLT, reduceIte, reduceCtorEq, true_and, and_true, forall_const, not_true_eq_false, not_false_eq_true, false_implies, implies_true, e29]; rw [← pt_f_eq]
      rw [x31, Option.bind_some, pm_lot, Option.bind_some, x29, Option.bind_some, h0]
      by_cases q : pv_lot (Z.1 49) (8 * pv_y V + pj k) < zt_f T 6
      · rw [if_pos q, decide_eq_true q]; rfl
      · rw [if_neg q, decide_eq_false q]; rfl
  have e12 : (12 : Int) + (k : Int) = ((12 + k : Nat) : Int) := by omega
  have e6 : (6 : Int) + (k : Int) = ((6 + k : Nat) : Int) := by omega
  have hd : pj (pv_h V k) / pj 2 = pj ((pv_h V k).tdiv 2) := pj_tdiv (by omega) (by omega)
  have ha : ∀ y, (zm_sA Z' 48 (pj (k : Nat)) y).2.1 48 (6 + k) = pj (pv_p V k) := fun y => by rw [pm_sAs, pj_nat (by omega), pj_upd, Int.toNat_natCast, if_neg (by omega)]; exact c1
  have hbb : ∀ y, (zm_sA Z' 48 (pj (k : Nat)) y).2.1 48 (12 + k) = pj (pv_s V k) := fun y => by rw [pm_sAs, pj_nat (by omega), pj_upd, Int.toNat_natCast, if_neg (by omega)]; exact c2
  have hc : ∀ y, (zm_sA Z' 48 (pj (k : Nat)) y).2.1 52 k = pj (pv_weak T V k) := fun y => by rw [pm_sAn (by omega)]; exact c52
  have fin1 : ¬ 0 < pv_p V k → pm_H T V st Z (k + 1) (pj ((k : Int) + 1), zm_sA Z' 48 (pj (k : Nat)) (pj (pv_nh T V (Z.1 49) st k))) := by
    intro hp
    have hns : pv_ns T V k = pv_s V k := by unfold pv_ns; rw [if_neg hp]; omega
    refine ⟨_, rfl, h0, h00, fun j hj => (pm_sAn hj).trans (h1 j hj), fun x hx => ⟨?_, ?_⟩, fun x hx hx2 => ?_⟩
    · rw [pm_sAs, pj_nat (by omega), pj_upd, Int.toNat_natCast]
      by_cases e : x = k
      · rw [if_pos e, e, if_pos (by omega)]
      · rw [if_neg e, (h2 x hx).1]
        by_cases e2 : x < k
        · rw [if_pos e2, if_pos (by omega)]
        · rw [if_neg e2, if_neg (by omega)]
    · rw [pm_sAs, pj_nat (by omega), pj_upd, Int.toNat_natCast, if_neg (by omega), (h2 x hx).2]
      by_cases e : x = k
      · rw [e, if_neg (by omega), if_pos (by omega), hns]
      · by_cases e2 : x < k
        · rw [if_pos e2, if_pos (by omega)]
        · rw [if_neg e2, if_neg (by omega)]
    · rw [pm_sAs, pj_nat (by omega), pj_upd, Int.toNat_natCast, if_neg (by omega)]; exact h3 x hx hx2
  have fin2 : 0 < pv_p V k → pm_H T V st Z (k + 1) (pj ((k : Int) + 1), zm_sA (zm_sA Z' 48 (pj (k : Nat)) (pj (pv_nh T V (Z.1 49) st k))) 48 (pj ((12 + k : Nat) : Int)) (pj (max 0 (min 99 (pv_s V k - pv_weak T V k))))) := by
    intro hp
    have hns : pv_ns T V k = max 0 (min 99 (pv_s V k - pv_weak T V k)) := by unfold pv_ns; rw [if_pos hp]; omega
    refine ⟨_, rfl, h0, h00, fun j hj => (pm_sAn hj).trans ((pm_sAn hj).trans (h1 j hj)), fun x hx => ⟨?_, ?_⟩, fun x hx hx2 => ?_⟩
    · rw [pm_sAs, pj_nat (by omega), pj_upd, Int.toNat_natCast, if_neg (by omega), pm_sAs, pj_nat (by omega), pj_upd, Int.toNat_natCast]
      by_cases e : x = k
      · rw [if_pos e, e, if_pos (by omega)]
      · rw [if_neg e, (h2 x hx).1]
        by_cases e2 : x < k
        · rw [if_pos e2, if_pos (by omega)]
        · rw [if_neg e2, if_neg (by omega)]
    · rw [pm_sAs, pj_nat (by omega), pj_upd, Int.toNat_natCast]
      by_cases e : x = k
      · rw [e, if_pos rfl, if_pos (by omega), hns]
      · rw [if_neg (by omega), pm_sAs, pj_nat (by omega), pj_upd, Int.toNat_natCast, if_neg (by omega), (h2 x hx).2]
        by_cases e2 : x < k
        · rw [if_pos e2, if_pos (by omega)]
        · rw [if_neg e2, if_neg (by omega)]
    · rw [pm_sAs, pj_nat (by omega), pj_upd, Int.toNat_natCast, if_neg (by omega), pm_sAs, pj_nat (by omega), pj_upd, Int.toNat_natCast, if_neg (by omega)]; exact h3 x hx hx2
  have hhas : ∀ y, gm_hasPlait (zm_sA Z' 48 (pj (k : Nat)) y) (pj (k : Nat)) = some (decide (0 < pv_p V k)) := by
    intro y
    unfold gm_hasPlait
    simp (disch := omega) only [pj_lit, pj_add, pj_sub, pj_neg, pj_mul, pj_lt, pj_eq, pj_nat, pj_ald, pj_ast, pj_ix, pw_bind, pw_ite, pw_some, pw_none, pw_let, Option.bind_some, Int.toNat_natCast, Sum.elim_inl, Sum.elim_inr, Int.cast_ofNat_Int, Int.reduceLT, Int.reduceLE, Int.reduceEq, Int.reduceAdd, Int.reduceSub, Int.reduceMul, Int.reduceNeg, Int.reduceToNat, Nat.reduceAdd, Nat.reduceSub, Nat.reduceMul, Nat.reduceEqDiff, Nat.reduceLT, reduceIte, reduceCtorEq, true_and, and_true, forall_const, not_true_eq_false, not_false_eq_true, false_implies, implies_true, e6, ha]
    by_cases q : 0 < pv_p V k
    · rw [if_pos q, decide_eq_true q]
    · rw [if_neg q, decide_eq_false q]
  unfold gm_yearGoes_L45
  simp (disch := omega) only [pj_lit, pj_add, pj_sub, pj_neg, pj_mul, pj_lt, pj_eq, pj_nat, pj_ald, pj_ast, pj_ix, pw_bind, pw_ite, pw_some, pw_none, pw_let, Option.bind_some, Int.toNat_natCast, Sum.elim_inl, Sum.elim_inr, Int.cast_ofNat_Int, Int.reduceLT, Int.reduceLE, Int.reduceEq, Int.reduceAdd, Int.reduceSub, Int.reduceMul, Int.reduceNeg, Int.reduceToNat, Nat.reduceAdd, Nat.reduceSub, Nat.reduceMul, Nat.reduceEqDiff, Nat.reduceLT, reduceIte, reduceCtorEq, true_and, and_true, forall_const, not_true_eq_false, not_false_eq_true, false_implies, implies_true, hT'.2.1, e22, hlt, hbl, c0, c51, hd, pm_withinI, hhas, e12, hbb, hc, decide_eq_true_eq]
  unfold pv_nh at fin1 fin2
  refine ⟨fun q => ?_, fun q => ?_⟩
  · rw [if_pos q] at fin1 fin2
    exact ⟨fun z => fin2 z, fun z => fin1 z⟩
  · rw [if_neg q] at fin1 fin2
    have e99 : max 0 (min 99 (pv_h V k + pv_grows T V k)) = min 99 (pv_h V k + pv_grows T V k) := by omega
    rw [e99]
    exact ⟨fun z => fin2 z, fun z => fin1 z⟩
theorem pm_year {T : zt_T} {s : Nat} {Z : zm_S} {V : pv_V} (hT : pm_T T s Z) (hV : pv_row (Z.2.1 48) V) (ho : pv_ok (zt_n T) V) {st : Bool} (h5 : Z.1 50 = zs_b st) :
    pw (gm_yearGoes Z) (fun Z' => pv_row (Z'.2.1 48) (pv_year T (Z.1 49) st V) ∧ pm_w Z Z') := by
  have hn := ho.1
  unfold gm_yearGoes
  refine pw_seq (Q := fun Z1 => pm_Y T V Z (zt_n T) (pj (zt_n T), Z1)) ?_ ?_
  · rw [pj_0]
    refine pw_for (zt_n T) (pm_Y T V Z) 5000 (by omega) (fun k t hk hI => pw_mono (pm_year1 hT hV ho k t hk hI) (fun r hr => ?_)) ?_ _ ⟨Z, rfl, pm_x_rfl Z, fun x hx => absurd hx (Nat.not_lt_zero x)⟩
    · cases r with
      | inl t => exact hr
      | inr p => exact hr.elim
    · rintro t ⟨Z', rfl, h1, h2⟩
      have hT' := pm_T_w (pm_x_w h1) hT
      have e22 := hT'.2.2.1
      have hs := hT'.1
      unfold gm_yearGoes_L2
      simp (disch := omega) only [pj_lit, pj_add, pj_sub, pj_neg, pj_mul, pj_lt, pj_eq, pj_nat, pj_ald, pj_ast, pj_ix, pw_bind, pw_ite, pw_some, pw_none, pw_let, Option.bind_some, Int.toNat_natCast, Sum.elim_inl, Sum.elim_inr, Int.cast_ofNat_Int, Int.reduceLT, Int.reduceLE, Int.reduceEq, Int.reduceAdd, Int.reduceSub, Int.reduceMul, Int.reduceNeg, Int.reduceToNat, Nat.reduceAdd, Nat.reduceSub, Nat.reduceMul, Nat.reduceEqDiff, Nat.reduceLT, reduceIte, reduceCtorEq, true_and, and_true, forall_const, not_true_eq_false, not_false_eq_true, false_implies, implies_true, hT'.2.1, e22, Int.lt_irrefl]
      exact ⟨Z', rfl, h1, h2⟩
  · rintro Z1 ⟨Z', e, h1, h2⟩
    injection e with _ e
    subst e
    have hT1 := pm_T_w (pm_x_w h1) hT
    have hV1 := pm_row_x h1 hV
    have h51 : Z1.1 50 = zs_b st := (h1.1 50 (by decide)).trans h5
    refine pw_seq (Q := fun Z2 => pm_H T V st Z1 (zt_n T) (pj (zt_n T), Z2)) ?_ ?_
    · rw [pj_0]
      refine pw_for (zt_n T) (pm_H T V st Z1) 5000 (by omega) (fun k t hk hI => pw_mono (pm_year2 hT1 hV1 ho h51 h2 k t hk hI) (fun r hr => ?_)) ?_ _ ⟨Z1, rfl, rfl, rfl, fun _ _ => rfl, fun x hx => ?_, fun _ _ _ => rfl⟩
      · cases r with
        | inl t => exact hr
        | inr p => exact hr.elim
      · rintro t ⟨Z', rfl, h3, h4, h6, h7, h8⟩
        have htx : pm_tx Z1 Z' := ⟨by rw [h3], fun j q => h6 j (by omega)⟩
        have hT' := pm_T_tx htx hT1
        have e22 := hT'.2.2.1
        have hs := hT'.1
        unfold gm_yearGoes_L45
        simp (disch := omega) only [pj_lit, pj_add, pj_sub, pj_neg, pj_mul, pj_lt, pj_eq, pj_nat, pj_ald, pj_ast, pj_ix, pw_bind, pw_ite, pw_some, pw_none, pw_let, Option.bind_some, Int.toNat_natCast, Sum.elim_inl, Sum.elim_inr, Int.cast_ofNat_Int, Int.reduceLT, Int.reduceLE, Int.reduceEq, Int.reduceAdd, Int.reduceSub, Int.reduceMul, Int.reduceNeg, Int.reduceToNat, Nat.reduceAdd, Nat.reduceSub, Nat.reduceMul, Nat.reduceEqDiff, Nat.reduceLT, reduceIte, reduceCtorEq, true_and, and_true, forall_const, not_true_eq_false, not_false_eq_true, false_implies, implies_true, hT'.2.1, e22, Int.lt_irrefl]
        exact ⟨Z', rfl, h3, h4, h6, h7, h8⟩
      · rw [if_neg (Nat.not_lt_zero x), if_neg (Nat.not_lt_zero x)]
        exact ⟨(hV1.1 x hx).1, (hV1.1 x hx).2.2.1⟩
    · rintro Z2 ⟨Z', e, h3, h4, h6, h7, h8⟩
      injection e with _ e
      subst e
      have h49 : Z1.1 49 = Z.1 49 := h1.1 49 (by decide)
      have e31 : Z2.2.1 48 31 = pv_y V := by rw [h8 _ (by omega) (by omega)]; exact hV1.2.2.2.1
      have x31 : zs_ald 33 (Z2.2.1 48) 31 = some (pv_y V) := by rw [pj_lit]; simp (disch := omega) only [pj_lit, pj_add, pj_sub, pj_neg, pj_mul, pj_lt, pj_eq, pj_nat, pj_ald, pj_ast, pj_ix, pw_bind, pw_ite, pw_some, pw_none, pw_let, Option.bind_some, Int.toNat_natCast, Sum.elim_inl, Sum.elim_inr, Int.cast_ofNat_Int, Int.reduceLT, Int.reduceLE, Int.reduceEq, Int.reduceAdd, Int.reduceSub, Int.reduceMul, Int.reduceNeg, Int.reduceToNat, Nat.reduceAdd, Nat.reduceSub, Nat.reduceMul, Nat.reduceEqDiff, Nat.reduceLT, reduceIte, reduceCtorEq, true_and, and_true, forall_const, not_true_eq_false, not_false_eq_true, false_implies, implies_true, e31]
      rw [x31, Option.bind_some, pj_lit]
      simp (disch := omega) only [pj_lit, pj_add, pj_sub, pj_neg, pj_mul, pj_lt, pj_eq, pj_nat, pj_ald, pj_ast, pj_ix, pw_bind, pw_ite, pw_some, pw_none, pw_let, Option.bind_some, Int.toNat_natCast, Sum.elim_inl, Sum.elim_inr, Int.cast_ofNat_Int, Int.reduceLT, Int.reduceLE, Int.reduceEq, Int.reduceAdd, Int.reduceSub, Int.reduceMul, Int.reduceNeg, Int.reduceToNat, Nat.reduceAdd, Nat.reduceSub, Nat.reduceMul, Nat.reduceEqDiff, Nat.reduceLT, reduceIte, reduceCtorEq, true_and, and_true, forall_const, not_true_eq_false, not_false_eq_true, false_implies, implies_true]
      have cell : ∀ x, x ≠ 31 → (zm_sA Z2 48 (pj 31) (pv_y V + pj 1)).2.1 48 x = Z2.2.1 48 x := fun x hx => by rw [pm_sAs, pj_nat (by omega), pj_upd, if_neg (by omega)]
      refine ⟨⟨fun x hx => ⟨?_, ?_, ?_, ?_⟩, ?_, fun k x e => ?_, ?_, ?_⟩, ?_⟩
      · rw [cell _ (by omega), (h7 x hx).1, h49]; rfl
      · rw [cell _ (by omega), h8 _ (by omega) (by omega)]; exact (hV1.1 x hx).2.1
      · rw [cell _ (by omega), (h7 x hx).2]; rfl
      · rw [cell _ (by omega), h8 _ (by omega) (by omega)]; exact (hV1.1 x hx).2.2.2
      · rw [cell _ (by omega), h8 _ (by omega) (by omega)]; exact hV1.2.1
      · have hk : k < 6 := by
          have := pv_len ho
          have := (List.getElem?_eq_some_iff.1 e).1
          have e3 : (pv_r (pv_year T (Z.1 49) st V)).length = (pv_r V).length := rfl
          omega
        rw [cell _ (by omega), h8 _ (by omega) (by omega)]; exact hV1.2.2.1 k x e
      · rw [pm_sAs, pj_nat (by omega), pj_upd, if_pos (show 31 = Int.toNat 31 from rfl)]; rfl
      · rw [cell _ (by omega), h8 _ (by omega) (by omega)]; exact hV1.2.2.2.2
      · refine pm_w_trans (pm_x_w h1) (pm_w_trans (B := Z2) ⟨fun k _ => by rw [h3], fun k _ _ a _ _ => h6 k a, h4⟩ (pm_w_A _ _))
/-! a village becomes another; the model's row is copied -/
theorem pc_cp (M : cs_S) (v i k : Nat) : (gv_copies M v i k).1 = M.1 ∧ (∀ p q, ¬ (p = 10 + i ∧ q = k) → (gv_copies M v i k).2 p q = M.2 p q) ∧ ∀ x, x < 6 → (gv_copies M v i k).2 (10 + i) k x = M.2 (10 + v) k x := by
  refine ⟨rfl, fun p q h => if_neg h, fun x hx => ?_⟩
  show (if 10 + i = 10 + i ∧ k = k then va_cpy (M.2 (10 + v) k) (M.2 (10 + i) k) 0 0 6 else _) x = _
  rw [if_pos ⟨rfl, rfl⟩]
  show (if 0 ≤ x ∧ x < 0 + 6 then M.2 (10 + v) k (0 + (x - 0)) else _) = _
  rw [if_pos ⟨by omega, by omega⟩, Nat.sub_zero, Nat.zero_add]
/-- all but one village -/
def pc_o (i : Nat) (M M' : cs_S) : Prop := (∀ o f, o ≠ 10 + i → M'.1 o f = M.1 o f) ∧ (∀ o f, o ≠ 10 + i → M'.2 o f = M.2 o f)
theorem pc_o_w {i : Nat} {M M' : cs_S} (h : pc_o i M M') : pc_w i M M' := ⟨fun o f _ r => h.1 o f r, fun o f _ r => h.2 o f r⟩
theorem pc_becomes {M : cs_S} {i v n : Nat} {V : pv_V} (T : zt_T) (hiv : i ≠ v) (hV : pc_V M v V) (ho : pv_ok n V) :
    ∃ M', gv_becomes T M i v = some M' ∧ pc_V M' i V ∧ M'.1 (10 + i) 8 = M.1 (10 + v) 8 ∧ pc_o i M M' := by
  have hl := pv_len ho
  have hn := ho.1
  unfold gv_becomes
  simp only [Option.bind_some]
  obtain ⟨a1, a2, a3⟩ := pc_cp M v i 0
  generalize gv_copies M v i 0 = M1 at a1 a2 a3
  obtain ⟨b1, b2, b3⟩ := pc_cp M1 v i 1
  generalize gv_copies M1 v i 1 = M2 at b1 b2 b3
  obtain ⟨c1, c2, c3⟩ := pc_cp M2 v i 2
  generalize gv_copies M2 v i 2 = M3 at c1 c2 c3
  obtain ⟨d1, d2, d3⟩ := pc_cp M3 v i 3
  generalize gv_copies M3 v i 3 = M4 at d1 d2 d3
  obtain ⟨e1, e2, e3⟩ := pc_cp M4 v i 4
  generalize gv_copies M4 v i 4 = M5 at e1 e2 e3
  have hf : M5.1 = M.1 := by rw [e1, d1, c1, b1, a1]
  have hvi : 10 + v ≠ 10 + i := by omega
  obtain ⟨g1, g2, g3, g4, g5⟩ := hV
  refine ⟨_, rfl, ⟨fun h hh => ⟨?_, ?_, ?_, ?_⟩, ?_, fun k x e => ?_, ?_, ?_⟩, ?_, ?_⟩
  · simp only [pc_sF2]
    rw [e2 _ _ (by omega), d2 _ _ (by omega), c2 _ _ (by omega), b2 _ _ (by omega), a3 h hh]; exact (g1 h hh).1
  · simp only [pc_sF2]
    rw [e2 _ _ (by omega), d2 _ _ (by omega), c2 _ _ (by omega), b3 h hh, a2 _ _ (by omega)]; exact (g1 h hh).2.1
  · simp only [pc_sF2]
    rw [e2 _ _ (by omega), d2 _ _ (by omega), c3 h hh, b2 _ _ (by omega), a2 _ _ (by omega)]; exact (g1 h hh).2.2.1
  · simp only [pc_sF2]
    rw [e2 _ _ (by omega), d3 h hh, c2 _ _ (by omega), b2 _ _ (by omega), a2 _ _ (by omega)]; exact (g1 h hh).2.2.2
  · simp only [pc_sF1, hvi, false_and, if_false, true_and, Nat.reduceEqDiff, if_true, hf]
    exact g2
  · have hk : k < 6 := by have := (List.getElem?_eq_some_iff.1 e).1; omega
    simp only [pc_sF2]
    rw [e3 k hk, d2 _ _ (by omega), c2 _ _ (by omega), b2 _ _ (by omega), a2 _ _ (by omega)]; exact g3 k x e
  · simp only [pc_sF1, hvi, false_and, if_false, true_and, Nat.reduceEqDiff, if_true, hf]
    exact g4
  · simp only [pc_sF1, hvi, false_and, if_false, true_and, Nat.reduceEqDiff, if_true, hf]
    exact g5
  · simp only [pc_sF1, hvi, false_and, if_false, true_and, Nat.reduceEqDiff, if_true, hf]
  · refine ⟨fun o f q => ?_, fun o f q => ?_⟩
    · simp only [pc_sF1, q, false_and, if_false, hf]
    · simp only [pc_sF2]
      rw [e2 _ _ (by omega), d2 _ _ (by omega), c2 _ _ (by omega), b2 _ _ (by omega), a2 _ _ (by omega)]
/-- a loop that writes cells -/
theorem pm_cploop {b : Int32 × zm_S → Option ((Int32 × zm_S) ⊕ zm_S)} {N dst : Nat} {g : zm_S → Nat → Int32} (Z : zm_S) (off : Nat) (hN : N < 5000) (hb : off + N < 2147483648)
    (hg : ∀ Z' : zm_S, Z'.1 = Z.1 → Z'.2.2 = Z.2.2 → (∀ k, k ≠ dst → Z'.2.1 k = Z.2.1 k) → ∀ x, x < N → (∀ j, off + x ≤ j → Z'.2.1 dst j = Z.2.1 dst j) → g Z' x = g Z x)
    (h1 : ∀ (Z' : zm_S) (k : Nat), Z'.1 = Z.1 → Z'.2.2 = Z.2.2 → (∀ k, k ≠ dst → Z'.2.1 k = Z.2.1 k) → k < N → b (pj k, Z') = some (Sum.inl (pj ((k : Int) + 1), zm_sA Z' dst (pj ((off + k : Nat) : Int)) (g Z' k))))
    (h2 : ∀ Z' : zm_S, Z'.1 = Z.1 → Z'.2.2 = Z.2.2 → (∀ k, k ≠ dst → Z'.2.1 k = Z.2.1 k) → b (pj N, Z') = some (Sum.inr Z')) :
    ∃ Z', zs_loop 5000 b (pj 0, Z) = some Z' ∧ Z'.1 = Z.1 ∧ Z'.2.2 = Z.2.2 ∧ (∀ k, k ≠ dst → Z'.2.1 k = Z.2.1 k) ∧ ∀ j, Z'.2.1 dst j = if off ≤ j ∧ j < off + N then g Z (j - off) else Z.2.1 dst j := by
  have := pw_for (b := b) (Q := fun Z' : zm_S => Z'.1 = Z.1 ∧ Z'.2.2 = Z.2.2 ∧ (∀ k, k ≠ dst → Z'.2.1 k = Z.2.1 k) ∧ ∀ j, Z'.2.1 dst j = if off ≤ j ∧ j < off + N then g Z (j - off) else Z.2.1 dst j) N
    (fun k t => ∃ Z', t = (pj (k : Nat), Z') ∧ Z'.1 = Z.1 ∧ Z'.2.2 = Z.2.2 ∧ (∀ k, k ≠ dst → Z'.2.1 k = Z.2.1 k) ∧ ∀ j, Z'.2.1 dst j = if off ≤ j ∧ j < off + k then g Z (j - off) else Z.2.1 dst j) 5000 hN ?_ ?_ (pj 0, Z) ?_
  · obtain ⟨Z', e, q⟩ := this
    exact ⟨Z', e, q⟩
  · rintro k t hk ⟨Z', rfl, q1, q2, q3, q4⟩
    rw [h1 Z' k q1 q2 q3 hk, pw_some]
    refine ⟨_, rfl, q1, q2, fun j hj => (pm_sAn hj).trans (q3 j hj), fun j => ?_⟩
    rw [pm_sAs, pj_nat (by omega), Int.toNat_natCast, pj_upd, hg Z' q1 q2 q3 k hk (fun j hj => by rw [q4 j, if_neg (by omega)]), q4 j]
    by_cases e : j = off + k
    · rw [if_pos e, if_pos (by omega), e, Nat.add_sub_cancel_left]
    · rw [if_neg e]
      by_cases e2 : off ≤ j ∧ j < off + k
      · rw [if_pos e2, if_pos (by omega)]
      · rw [if_neg e2, if_neg (by omega)]
  · rintro t ⟨Z', rfl, q1, q2, q3, q4⟩
    rw [h2 Z' q1 q2 q3, pw_some]
    exact ⟨q1, q2, q3, q4⟩
  · exact ⟨Z, rfl, rfl, rfl, fun _ _ => rfl, fun j => by rw [if_neg (by omega)]⟩
/-- the model's row that is worked on is what stands -/
def pm_c (T : zt_T) (s : Nat) (V : pv_V) (Z Z' : zm_S) : Prop := pm_T T s Z' ∧ pv_row (Z'.2.1 48) V ∧ Z'.1 49 = zt_f T 7 ∧ Z'.1 50 = 0 ∧ (∀ k, k ≠ 49 → k ≠ 50 → Z'.1 k = Z.1 k) ∧ (∀ k, k ≠ 48 → Z'.2.1 k = Z.2.1 k) ∧ Z'.2.2 = Z.2.2 ∧ ∀ x, x < 33 → Z'.2.1 48 x = Z.2.1 47 x
theorem pv_row_congr {r q : Nat → Int32} {V : pv_V} {n : Nat} (ho : pv_ok n V) (h : ∀ x, x < 33 → q x = r x) (g : pv_row r V) : pv_row q V := by
  obtain ⟨g1, g2, g3, g4, g5⟩ := g
  have hl := pv_len ho
  have hn := ho.1
  refine ⟨fun x hx => ?_, ?_, fun k x e => ?_, ?_, ?_⟩
  · rw [h x (by omega), h (6 + x) (by omega), h (12 + x) (by omega), h (18 + x) (by omega)]; exact g1 x hx
  · rw [h _ (by omega)]; exact g2
  · have := (List.getElem?_eq_some_iff.1 e).1
    rw [h _ (by omega)]; exact g3 k x e
  · rw [h _ (by omega)]; exact g4
  · rw [h _ (by omega)]; exact g5
theorem pm_copies {T : zt_T} {s : Nat} {Z : zm_S} {V : pv_V} {n : Nat} (hT : pm_T T s Z) (ho : pv_ok n V) (hV : pv_row (Z.2.1 47) V) : ∃ Z', gm_copies Z = some Z' ∧ pm_c T s V Z Z' := by
  have l1 : ∀ (Z' : zm_S) (k : Nat), Z'.1 = Z.1 → Z'.2.2 = Z.2.2 → (∀ k, k ≠ 48 → Z'.2.1 k = Z.2.1 k) → k < 33 → gm_copies_L2 (pj k, Z') = some (Sum.inl (pj ((k : Int) + 1), zm_sA Z' 48 (pj ((0 + k : Nat) : Int)) (Z'.2.1 47 k))) := by
    intro Z' k _ _ _ hk
    have hk' : (k : Int) < 33 := by omega
    unfold gm_copies_L2
    simp (disch := omega) only [pj_lit, pj_add, pj_sub, pj_neg, pj_mul, pj_lt, pj_eq, pj_nat, pj_ald, pj_ast, pj_ix, pw_bind, pw_ite, pw_some, pw_none, pw_let, Option.bind_some, Int.toNat_natCast, Sum.elim_inl, Sum.elim_inr, Int.cast_ofNat_Int, Int.reduceLT, Int.reduceLE, Int.reduceEq, Int.reduceAdd, Int.reduceSub, Int.reduceMul, Int.reduceNeg, Int.reduceToNat, Nat.reduceAdd, Nat.reduceSub, Nat.reduceMul, Nat.reduceEqDiff, Nat.reduceLT, reduceIte, reduceCtorEq, true_and, and_true, forall_const, not_true_eq_false, not_false_eq_true, false_implies, implies_true, hk']
    rw [Nat.zero_add]
  have l2 : ∀ Z' : zm_S, Z'.1 = Z.1 → Z'.2.2 = Z.2.2 → (∀ k, k ≠ 48 → Z'.2.1 k = Z.2.1 k) → gm_copies_L2 (pj (33 : Nat), Z') = some (Sum.inr Z') := by
    intro Z' _ _ _
    unfold gm_copies_L2
    simp (disch := omega) only [pj_lit, pj_add, pj_sub, pj_neg, pj_mul, pj_lt, pj_eq, pj_nat, pj_ald, pj_ast, pj_ix, pw_bind, pw_ite, pw_some, pw_none, pw_let, Option.bind_some, Int.toNat_natCast, Sum.elim_inl, Sum.elim_inr, Int.cast_ofNat_Int, Int.reduceLT, Int.reduceLE, Int.reduceEq, Int.reduceAdd, Int.reduceSub, Int.reduceMul, Int.reduceNeg, Int.reduceToNat, Nat.reduceAdd, Nat.reduceSub, Nat.reduceMul, Nat.reduceEqDiff, Nat.reduceLT, reduceIte, reduceCtorEq, true_and, and_true, forall_const, not_true_eq_false, not_false_eq_true, false_implies, implies_true, Int.lt_irrefl]
  obtain ⟨Z1, e, q1, q2, q3, q4⟩ := pm_cploop (b := gm_copies_L2) (N := 33) (dst := 48) (g := fun Z x => Z.2.1 47 x) Z 0 (by omega) (by omega) (fun Z' _ _ h x _ _ => by show Z'.2.1 47 x = _; rw [h 47 (by decide)]) l1 l2
  unfold gm_copies
  rw [pj_0, e, Option.bind_some]
  have htx : pm_tx Z Z1 := ⟨by rw [q1], fun j q => q3 j (by omega)⟩
  have hT1 := pm_T_tx htx hT
  have e30 := hT1.2.2.2.2.2.2.2.2.1
  have hs := hT1.1
  have x30 : zs_ald 2 (Z1.2.1 30) (Z1.1 18) = some (zt_f T 7) := by rw [hT1.2.1]; simp (disch := omega) only [pj_lit, pj_add, pj_sub, pj_neg, pj_mul, pj_lt, pj_eq, pj_nat, pj_ald, pj_ast, pj_ix, pw_bind, pw_ite, pw_some, pw_none, pw_let, Option.bind_some, Int.toNat_natCast, Sum.elim_inl, Sum.elim_inr, Int.cast_ofNat_Int, Int.reduceLT, Int.reduceLE, Int.reduceEq, Int.reduceAdd, Int.reduceSub, Int.reduceMul, Int.reduceNeg, Int.reduceToNat, Nat.reduceAdd, Nat.reduceSub, Nat.reduceMul, Nat.reduceEqDiff, Nat.reduceLT, reduceIte, reduceCtorEq, true_and, and_true, forall_const, not_true_eq_false, not_false_eq_true, false_implies, implies_true, e30]
  rw [x30, Option.bind_some, Option.bind_some, Option.bind_some]
  refine ⟨_, rfl, pm_T_tx (Z := Z1) ⟨rfl, fun _ _ => rfl⟩ hT1, ?_, rfl, rfl, fun k a b => ?_, q3, q2, fun x hx => ?_⟩
  · exact pv_row_congr ho (fun x hx => by show Z1.2.1 48 x = Z.2.1 47 x; rw [q4 x, if_pos (by omega)]; rfl) hV
  · show (if k = 50 then _ else if k = 49 then _ else Z1.1 k) = _
    rw [if_neg b, if_neg a, q1]
  · show Z1.2.1 48 x = Z.2.1 47 x
    rw [q4 x, if_pos (by omega)]; rfl
/-! what stands on both sides -/
def pc_k (M M' : cs_S) : Prop := (∀ o f, ¬ (110 ≤ o ∧ o < 155) → o ≠ 11 → ¬ (o = 0 ∧ (f = 20 ∨ f = 21)) → M'.1 o f = M.1 o f) ∧
  (∀ o f, ¬ (10 ≤ o ∧ o < 55 ∧ 9 ≤ f ∧ f ≤ 11) → o ≠ 11 → o ≠ 60 → o ≠ 61 → o ≠ 62 → ¬ (o = 0 ∧ (f = 16 ∨ f = 17 ∨ f = 18 ∨ f = 25)) → M'.2 o f = M.2 o f) ∧ M'.2 0 16 0 = M.2 0 16 0
def pm_k (Z Z' : zm_S) : Prop := (∀ k, k ≠ 46 → k ≠ 49 → k ≠ 50 → k ≠ 61 → Z'.1 k = Z.1 k) ∧
  (∀ k, ¬ (k = 44 ∨ k = 45 ∨ k = 48 ∨ k = 51 ∨ k = 52 ∨ (55 ≤ k ∧ k ≤ 60) ∨ k = 62 ∨ k = 67 ∨ k = 68) → Z'.2.1 k = Z.2.1 k) ∧ Z'.2.2 = Z.2.2
theorem pc_k_rfl (M : cs_S) : pc_k M M := ⟨fun _ _ _ _ _ => rfl, fun _ _ _ _ _ _ _ _ => rfl, rfl⟩
theorem pm_k_rfl (Z : zm_S) : pm_k Z Z := ⟨fun _ _ _ _ _ => rfl, fun _ _ => rfl, rfl⟩
theorem pc_k_trans {A B C : cs_S} (h : pc_k A B) (g : pc_k B C) : pc_k A C := ⟨fun o f a b c => (g.1 o f a b c).trans (h.1 o f a b c), fun o f a b c d e i => (g.2.1 o f a b c d e i).trans (h.2.1 o f a b c d e i), g.2.2.trans h.2.2⟩
theorem pm_k_trans {A B C : zm_S} (h : pm_k A B) (g : pm_k B C) : pm_k A C := ⟨fun k a b c d => (g.1 k a b c d).trans (h.1 k a b c d), fun k a => (g.2.1 k a).trans (h.2.1 k a), g.2.2.trans h.2.2⟩
theorem pc_x_k {M M' : cs_S} (h : pc_x M M') : pc_k M M' := ⟨fun o f a _ _ => h.1 o f (by omega), fun o f a _ _ _ _ _ => h.2 o f a, congrFun (h.2 0 16 (by omega)) 0⟩
theorem pc_e_k {M M' : cs_S} (h : pc_e M M') : pc_k M M' := pc_x_k (pc_e_x h)
theorem pc_w_k {M M' : cs_S} (h : pc_w 1 M M') : pc_k M M' := ⟨fun o f a b _ => h.1 o f (by omega) b, fun o f a b _ _ _ _ => h.2 o f a b, congrFun (h.2 0 16 (by omega) (by omega)) 0⟩
theorem pc_o_k {M M' : cs_S} (h : pc_o 1 M M') : pc_k M M' := pc_w_k (pc_o_w h)
theorem pm_w_k {Z Z' : zm_S} (h : pm_w Z Z') : pm_k Z Z' := ⟨fun k a _ _ _ => h.1 k a, fun k a => h.2.1 k (by omega) (by omega) (by omega) (by omega) (by omega), h.2.2⟩
theorem pm_e_k {Z Z' : zm_S} (h : pm_e Z Z') : pm_k Z Z' := pm_w_k (pm_x_w (pm_e_x h))
theorem pm_c_k {T : zt_T} {s : Nat} {V : pv_V} {Z Z' : zm_S} (h : pm_c T s V Z Z') : pm_k Z Z' := ⟨fun k _ b c _ => h.2.2.2.2.1 k b c, fun k a => h.2.2.2.2.2.1 k (by omega), h.2.2.2.2.2.2.1⟩
def pr_H (T : zt_T) (M : cs_S) (Z : zm_S) (H : List pv_V) (at_ : Nat) : Prop := H.length ≤ 40 ∧ at_ < 40 ∧ M.1 0 5 = pj H.length ∧ M.1 0 6 = pj at_ ∧ Z.1 53 = pj H.length ∧
  ∀ j V, H[j]? = some V → pv_ok (zt_n T) V ∧ pc_V M (2 + (at_ + 40 - H.length + j) % 40) V ∧ M.1 (10 + (2 + (at_ + 40 - H.length + j) % 40)) 8 = zt_f T 7 ∧ pv_row (fun x => Z.2.1 54 (33 * j + x)) V
def pr_S (T : zt_T) (M : cs_S) (Z : zm_S) : Prop := ∀ k, k < 3 → M.2 0 13 k = Z.2.1 69 k ∧ (M.2 0 13 k = 0 ∨ M.2 0 13 k = 1 ∧ ∃ V, pv_ok (zt_n T) V ∧ pc_V M (42 + k) V ∧ M.1 (10 + (42 + k)) 8 = zt_f T 7 ∧ pv_row (fun x => Z.2.1 70 (33 * k + x)) V)
def pr_L (M : cs_S) (Z : zm_S) : Prop := ∃ t : Nat, t ≤ 20 ∧ M.1 0 19 = pj t ∧ Z.1 63 = pj t ∧ ∀ j, j < t → M.2 0 22 j = Z.2.1 64 j ∧ M.2 0 23 j = Z.2.1 65 j ∧ M.2 0 24 j = Z.2.1 66 j ∧ (∃ p : Nat, p < 6 ∧ M.2 0 22 j = pj p) ∧ (∃ v : Int, 0 ≤ v ∧ v ≤ 99 ∧ M.2 0 23 j = pj v) ∧ (M.2 0 24 j = 0 ∨ M.2 0 24 j = 1)
def pr_P (M : cs_S) (Z : zm_S) : Prop := ∃ p : Nat, p ≤ 2000 ∧ M.1 2 2 = pj p ∧ Z.1 2 = pj p ∧ ∀ j, j < p → M.2 2 1 j = Z.2.1 1 j ∧ -128 ≤ (Z.2.1 1 j).toInt ∧ (Z.2.1 1 j).toInt < 128
/-- the words a text knows -/
def pr_words : List (List Nat) := [[104, 111, 117, 115, 101], [108, 105, 107, 101, 115], [119, 101, 108, 108], [119, 97, 116, 101, 114], [103, 114, 111, 119, 115], [119, 101, 97, 107, 101, 110, 115], [106, 111, 105, 110, 115], [99, 111, 115, 116, 115], [98, 108, 105, 103, 104, 116], [115, 101, 101, 100], [105, 102], [116, 104, 101, 110], [101, 108, 115, 101], [104, 97, 105, 114], [115, 116, 114, 111, 110, 103], [108, 105, 107, 101], [121, 101, 97, 114], [112, 108, 97, 99, 101], [119, 104, 105, 99, 104], [115, 112, 108, 105, 99, 101, 100], [103, 105, 118, 101, 110], [111, 116, 104, 101, 114]]
def pr_key (w : List Nat) : Int64 := w.foldl (fun (n : Int64) (c : Nat) => 27 * n + (pj ((c : Int) - 96)).toInt64) 0
def pr_K (Z : zm_S) : Prop := ∀ (j : Nat) (w : List Nat), pr_words[j]? = some w → Z.2.2 9 j = pr_key w
def pr_R0 (T : zt_T) (M : cs_S) (Z : zm_S) (s : Nat) (V : pv_V) (H : List pv_V) (at_ : Nat) : Prop :=
  pt_ok T ∧ pm_T T s Z ∧ pv_ok (zt_n T) V ∧ pc_V M 0 V ∧ M.1 (10 + 0) 8 = zt_f T 7 ∧ pv_row (Z.2.1 47) V ∧ pr_H T M Z H at_ ∧ pr_S T M Z ∧ pr_L M Z ∧ pr_P M Z ∧ M.1 0 4 = Z.1 17 ∧ pr_K Z ∧ M.2 0 16 0 = pj 0
def pr_R (T : zt_T) (M : cs_S) (Z : zm_S) : Prop := ∃ s V H at_, pr_R0 T M Z s V H at_
theorem pc_V_k {M M' : cs_S} {i : Nat} {V : pv_V} (hi : i < 45) (h1 : i ≠ 1) (h : pc_k M M') (g : pc_V M i V) : pc_V M' i V := by
  obtain ⟨g1, g2, g3, g4, g5⟩ := g
  have a : ∀ f, f < 5 → M'.2 (10 + i) f = M.2 (10 + i) f := fun f hf => h.2.1 _ _ (by omega) (by omega) (by omega) (by omega) (by omega) (by omega)
  have b : ∀ f, M'.1 (10 + i) f = M.1 (10 + i) f := fun f => h.1 _ _ (by omega) (by omega) (by omega)
  refine ⟨fun k hk => ?_, ?_, fun k x e => ?_, ?_, ?_⟩
  · rw [a 0 (by omega), a 1 (by omega), a 2 (by omega), a 3 (by omega)]; exact g1 k hk
  · rw [b]; exact g2
  · rw [a 4 (by omega)]; exact g3 k x e
  · rw [b]; exact g4
  · rw [b]; exact g5
theorem pm_k_tx {Z Z' : zm_S} (h : pm_k Z Z') : pm_tx Z Z' := ⟨h.1 18 (by decide) (by decide) (by decide) (by decide), fun k q => h.2.1 k (by omega)⟩
theorem pr_R_k {T : zt_T} {M M' : cs_S} {Z Z' : zm_S} (hM : pc_k M M') (hZ : pm_k Z Z') {s : Nat} {V : pv_V} {H : List pv_V} {at_ : Nat} (h : pr_R0 T M Z s V H at_) : pr_R0 T M' Z' s V H at_ := by
  obtain ⟨h1, h2, h3, h4, h5, h6, h7, h8, h9, h10, h11, h12, h13⟩ := h
  have a : ∀ f, M'.1 (10 + 0) f = M.1 (10 + 0) f := fun f => hM.1 _ _ (by omega) (by omega) (by omega)
  refine ⟨h1, pm_T_tx (pm_k_tx hZ) h2, h3, pc_V_k (by omega) (by omega) hM h4, (a 8).trans h5, ?_, ?_, ?_, ?_, ?_, ?_, ?_, hM.2.2.trans h13⟩
  · rw [hZ.2.1 47 (by omega)]; exact h6
  · obtain ⟨g1, g2, g3, g4, g5, g6⟩ := h7
    refine ⟨g1, g2, (hM.1 _ _ (by omega) (by omega) (by omega)).trans g3, (hM.1 _ _ (by omega) (by omega) (by omega)).trans g4, (hZ.1 53 (by decide) (by decide) (by decide) (by decide)).trans g5, fun j W e => ?_⟩
    obtain ⟨k1, k2, k3, k4⟩ := g6 j W e
    have hlt : (at_ + 40 - H.length + j) % 40 < 40 := Nat.mod_lt _ (by omega)
    refine ⟨k1, pc_V_k (by omega) (by omega) hM k2, (hM.1 _ _ (by omega) (by omega) (by omega)).trans k3, ?_⟩
    rw [hZ.2.1 54 (by omega)]; exact k4
  · intro k hk
    obtain ⟨k1, k2⟩ := h8 k hk
    have e1 : M'.2 0 13 = M.2 0 13 := hM.2.1 _ _ (by omega) (by omega) (by omega) (by omega) (by omega) (by omega)
    rw [e1, hZ.2.1 69 (by omega)]
    refine ⟨k1, k2.imp id (fun q => ⟨q.1, ?_⟩)⟩
    obtain ⟨W, w1, w2, w3, w4⟩ := q.2
    refine ⟨W, w1, pc_V_k (by omega) (by omega) hM w2, (hM.1 _ _ (by omega) (by omega) (by omega)).trans w3, ?_⟩
    rw [hZ.2.1 70 (by omega)]; exact w4
  · obtain ⟨t, t1, t2, t3, t4⟩ := h9
    refine ⟨t, t1, (hM.1 _ _ (by omega) (by omega) (by omega)).trans t2, (hZ.1 63 (by decide) (by decide) (by decide) (by decide)).trans t3, fun j hj => ?_⟩
    rw [hM.2.1 0 22 (by omega) (by omega) (by omega) (by omega) (by omega) (by omega), hM.2.1 0 23 (by omega) (by omega) (by omega) (by omega) (by omega) (by omega), hM.2.1 0 24 (by omega) (by omega) (by omega) (by omega) (by omega) (by omega), hZ.2.1 64 (by omega), hZ.2.1 65 (by omega), hZ.2.1 66 (by omega)]
    exact t4 j hj
  · obtain ⟨p, p1, p2, p3, p4⟩ := h10
    refine ⟨p, p1, (hM.1 _ _ (by omega) (by omega) (by omega)).trans p2, (hZ.1 2 (by decide) (by decide) (by decide) (by decide)).trans p3, fun j hj => ?_⟩
    rw [hM.2.1 2 1 (by omega) (by omega) (by omega) (by omega) (by omega) (by omega), hZ.2.1 1 (by omega)]
    exact p4 j hj
  · rw [hM.1 0 4 (by omega) (by omega) (by omega), hZ.1 17 (by decide) (by decide) (by decide) (by decide)]; exact h11
  · unfold pr_K; rw [hZ.2.2]; exact h12
/-- an operation that only asks -/
theorem pr_q {α : Type} {T : zt_T} {M : cs_S} {Z : zm_S} {s : Nat} {V : pv_V} {H : List pv_V} {at_ : Nat} (h : pr_R0 T M Z s V H at_) {x : Option (α × cs_S)} {y : Option (α × zm_S)} (a : α) (hx : pw x (fun p => p.1 = a ∧ pc_k M p.2)) (hy : pw y (fun q => q.1 = a ∧ pm_k Z q.2)) :
    pw x (fun p => pw y (fun q => p.1 = q.1 ∧ pr_R T p.2 q.2)) :=
  pw_mono hx (fun p hp => pw_mono hy (fun q hq => ⟨hp.1.trans hq.1.symm, s, V, H, at_, pr_R_k hp.2 hq.2 h⟩))
theorem pc_isIn {lo hi : Int} (a : Int32) (hl : -2147483648 ≤ lo ∧ lo < 2147483648) (hh : -2147483648 ≤ hi ∧ hi < 2147483648) : gh_isIn a (pj lo) (pj hi) = some (decide (lo ≤ a.toInt ∧ a.toInt ≤ hi)) := by
  rw [← pj_of a]
  have hb := pj_bd a
  rw [pj_toInt hb]
  unfold gh_isIn
  simp (disch := omega) only [pj_lit, pj_add, pj_sub, pj_neg, pj_mul, pj_lt, pj_eq, pj_nat, pj_ald, pj_ast, pj_ix, pw_bind, pw_ite, pw_some, pw_none, pw_let, Option.bind_some, Int.toNat_natCast, Sum.elim_inl, Sum.elim_inr, Int.cast_ofNat_Int, Int.reduceLT, Int.reduceLE, Int.reduceEq, Int.reduceAdd, Int.reduceSub, Int.reduceMul, Int.reduceNeg, Int.reduceToNat, Nat.reduceAdd, Nat.reduceSub, Nat.reduceMul, Nat.reduceEqDiff, Nat.reduceLT, reduceIte, reduceCtorEq, true_and, and_true, forall_const, not_true_eq_false, not_false_eq_true, false_implies, implies_true]
  by_cases q : a.toInt < lo
  · rw [if_pos q, decide_eq_false (by omega)]
  · rw [if_neg q]
    by_cases q2 : hi < a.toInt
    · rw [if_pos q2, decide_eq_false (by omega)]
    · rw [if_neg q2, decide_eq_true (by omega)]
theorem pm_isIn {lo hi : Int} (a : Int32) (hl : -2147483648 ≤ lo ∧ lo < 2147483648) (hh : -2147483648 ≤ hi ∧ hi < 2147483648) : gm_in a (pj lo) (pj hi) = some (decide (lo ≤ a.toInt ∧ a.toInt ≤ hi)) := pc_isIn a hl hh
theorem pc_isHouse {T : zt_T} (M : cs_S) (hT : pt_ok T) (a : Int32) : gh_isHouse T M a = some (decide (0 ≤ a.toInt ∧ a.toInt < zt_n T)) := by
  have hn := hT.1
  unfold gh_isHouse gh_houses
  simp (disch := omega) only [pj_lit, pj_add, pj_sub, pj_neg, pj_mul, pj_lt, pj_eq, pj_nat, pj_ald, pj_ast, pj_ix, pw_bind, pw_ite, pw_some, pw_none, pw_let, Option.bind_some, Int.toNat_natCast, Sum.elim_inl, Sum.elim_inr, Int.cast_ofNat_Int, Int.reduceLT, Int.reduceLE, Int.reduceEq, Int.reduceAdd, Int.reduceSub, Int.reduceMul, Int.reduceNeg, Int.reduceToNat, Nat.reduceAdd, Nat.reduceSub, Nat.reduceMul, Nat.reduceEqDiff, Nat.reduceLT, reduceIte, reduceCtorEq, true_and, and_true, forall_const, not_true_eq_false, not_false_eq_true, false_implies, implies_true, pj_nI, pc_isIn]
  congr 2
  exact propext ⟨fun h => by omega, fun h => by omega⟩
theorem pm_isHouse {T : zt_T} {s : Nat} {Z : zm_S} (ht : pt_ok T) (hT : pm_T T s Z) (a : Int32) : gm_isHouse Z a = some (decide (0 ≤ a.toInt ∧ a.toInt < zt_n T)) := by
  have hn := ht.1
  have hs := hT.1
  have e := hT.2.2.1
  unfold gm_isHouse
  simp (disch := omega) only [pj_lit, pj_add, pj_sub, pj_neg, pj_mul, pj_lt, pj_eq, pj_nat, pj_ald, pj_ast, pj_ix, pw_bind, pw_ite, pw_some, pw_none, pw_let, Option.bind_some, Int.toNat_natCast, Sum.elim_inl, Sum.elim_inr, Int.cast_ofNat_Int, Int.reduceLT, Int.reduceLE, Int.reduceEq, Int.reduceAdd, Int.reduceSub, Int.reduceMul, Int.reduceNeg, Int.reduceToNat, Nat.reduceAdd, Nat.reduceSub, Nat.reduceMul, Nat.reduceEqDiff, Nat.reduceLT, reduceIte, reduceCtorEq, true_and, and_true, forall_const, not_true_eq_false, not_false_eq_true, false_implies, implies_true, hT.2.1, e, pm_isIn]
  congr 2
  exact propext ⟨fun h => by omega, fun h => by omega⟩
/-- a number that is a house is a house -/
theorem pj_house {a : Int32} {n : Nat} (h : 0 ≤ a.toInt ∧ a.toInt < n) : ∃ k : Nat, a = pj k ∧ k < n := ⟨a.toInt.toNat, by rw [Int.toNat_of_nonneg h.1, pj_of], by omega⟩
