set_option maxRecDepth 100000
/-! counts -/
def pv_sm (f : Nat → Int) : Nat → Int
  | 0 => 0
  | k + 1 => pv_sm f k + f k
def pv_sg (f : Nat → Int32) : Nat → Int32
  | 0 => pj 0
  | k + 1 => pv_sg f k + f k
theorem pv_sm_zero {f : Nat → Int} {n : Nat} (h : ∀ x, n ≤ x → x < 6 → f x = 0) : ∀ k, n + k ≤ 6 → pv_sm f (n + k) = pv_sm f n
  | 0, _ => rfl
  | k + 1, hk => by
    show pv_sm f (n + k) + f (n + k) = _
    rw [h _ (by omega) (by omega), pv_sm_zero h k (by omega), Int.add_zero]
theorem pv_sg_zero {f : Nat → Int32} {n : Nat} (h : ∀ x, n ≤ x → x < 6 → f x = 0) : ∀ k, n + k ≤ 6 → pv_sg f (n + k) = pv_sg f n
  | 0, _ => rfl
  | k + 1, hk => by
    show pv_sg f (n + k) + f (n + k) = _
    rw [h _ (by omega) (by omega), pv_sg_zero h k (by omega), Int32.add_zero]
theorem pb_step (b : Nat → Bool) {k : Nat} (hk : k < 6) : pj ((pb_set b k : Nat) : Int) ||| (if b k = true then zs_shl (pj 1) (pj (k : Nat)) else pj 0) = pj ((pb_set b (k + 1) : Nat) : Int) := by
  have hs := pb_lt64 b (k := k) (by omega)
  have hsucc : pb_set b (k + 1) = pb_set b k ||| (if b k then 1 <<< k else 0) := rfl
  rw [hsucc]
  by_cases q : b k = true
  · rw [if_pos q, if_pos q, pj_shl1 k (by omega), pj_or _ hs _ (by rw [Nat.one_shiftLeft]; exact show 2 ^ k < 2 ^ 6 from Nat.pow_lt_pow_right (by omega) (by omega))]
  · rw [if_neg q, if_neg q, show pj 0 = pj ((0 : Nat) : Int) from rfl, pj_or _ hs 0 (by omega)]
theorem pb_step2 (b : Nat → Bool) {k : Nat} (hk : k < 6) : (if b k = true then pj ((pb_set b k : Nat) : Int) ||| zs_shl (pj 1) (pj (k : Nat)) else pj ((pb_set b k : Nat) : Int)) = pj ((pb_set b (k + 1) : Nat) : Int) := by
  rw [← pb_step b hk]
  by_cases q : b k = true
  · rw [if_pos q, if_pos q]
  · rw [if_neg q, if_neg q, show pj 0 = pj ((0 : Nat) : Int) from rfl, pj_or _ (pb_lt64 b (k := k) (by omega)) 0 (by omega), Nat.or_zero]
theorem pm_sum {Z : zm_S} {f : Nat → Int32} {a : Nat} (ha : a ≤ 20) (h : ∀ x, x < 6 → Z.2.1 47 (a + x) = f x) : gm_sumNow Z (pj a) = some (pv_sg f 6) := by
  unfold gm_sumNow
  have : zs_loop 5000 (gm_sumNow_L4 (pj a) Z) (pj 0, pj ((a + 0 : Nat) : Int)) = some (pv_sg f 6) := by
    refine pw_forE 6 (fun k => (pv_sg f k, pj ((a + k : Nat) : Int))) 5000 (by omega) ?_ ?_
    · intro k hk
      have hlt : ((a + k : Nat) : Int) < (a : Int) + 6 := by omega
      unfold gm_sumNow_L4
      simp (disch := omega) only [pj_lit, pj_add, pj_sub, pj_neg, pj_mul, pj_lt, pj_eq, pj_nat, pj_ald, pj_ast, pj_ix, pw_bind, pw_ite, pw_some, pw_none, pw_let, Option.bind_some, Int.toNat_natCast, Sum.elim_inl, Sum.elim_inr, Int.cast_ofNat_Int, Int.reduceLT, Int.reduceLE, Int.reduceEq, Int.reduceAdd, Int.reduceSub, Int.reduceMul, Int.reduceNeg, Int.reduceToNat, Nat.reduceAdd, Nat.reduceSub, Nat.reduceMul, Nat.reduceEqDiff, Nat.reduceLT, reduceIte, reduceCtorEq, true_and, and_true, forall_const, not_true_eq_false, not_false_eq_true, false_implies, implies_true, hlt, h k hk]
      rfl
    · have hlt : ¬ ((a + 6 : Nat) : Int) < (a : Int) + 6 := by omega
      unfold gm_sumNow_L4
      simp (disch := omega) only [pj_lit, pj_add, pj_sub, pj_neg, pj_mul, pj_lt, pj_eq, pj_nat, pj_ald, pj_ast, pj_ix, pw_bind, pw_ite, pw_some, pw_none, pw_let, Option.bind_some, Int.toNat_natCast, Sum.elim_inl, Sum.elim_inr, Int.cast_ofNat_Int, Int.reduceLT, Int.reduceLE, Int.reduceEq, Int.reduceAdd, Int.reduceSub, Int.reduceMul, Int.reduceNeg, Int.reduceToNat, Nat.reduceAdd, Nat.reduceSub, Nat.reduceMul, Nat.reduceEqDiff, Nat.reduceLT, reduceIte, reduceCtorEq, true_and, and_true, forall_const, not_true_eq_false, not_false_eq_true, false_implies, implies_true, hlt]
  rw [pj_0]
  rw [Nat.add_zero] at this
  rw [this]; rfl
theorem pv_sg_pj (f : Nat → Int) : ∀ k, pv_sg (fun x => pj (f x)) k = pj (pv_sm f k)
  | 0 => rfl
  | k + 1 => by
    show pv_sg _ k + pj (f k) = pj (pv_sm f k + f k)
    rw [pv_sg_pj f k, pj_add]
def pv_count (T : zt_T) (V : pv_V) (tp un tl h0 h1 h2 : Int32) (a : Int32) : Int32 :=
  if a = 0 then pj (zt_n T) else if a = 1 then pj (pt_f T 4) else if a = 2 then pv_y V else if a = 3 then pj (pv_r V).length else if a = 4 then pj (pv_long V) else if a = 5 then pv_d V
  else if a = 6 then pj (pv_sm (pv_h V) (zt_n T)) else if a = 7 then pj (pb_set (fun x => decide (0 < pv_p V x)) (zt_n T) : Nat) else if a = 8 then tp else if a = 9 then un else if a = 10 then tl
  else if a = 11 then ((if h0 = 0 then pj 0 else pj 1) + (if h1 = 0 then pj 0 else pj 1)) + (if h2 = 0 then pj 0 else pj 1) else if a = 12 then (if pv_long V < pt_f T 4 then pj 0 else pj 1) else if a = 13 then pj (pt_f T 5)
  else if a = 14 then pv_sg (pv_g V) (zt_n T) else if a = 15 then pj (pb_set (fun x => decide (pv_h V x = 0)) (zt_n T) : Nat) else if a = 16 then pj (pv_sm (pv_s V) (zt_n T)) else -1
theorem pc_isLong {T : zt_T} {M : cs_S} {V : pv_V} (hT : pt_ok T) (hV : pc_V M 0 V) (ho : pv_ok (zt_n T) V) : gh_isLong T M = some (!decide (pv_long V < pt_f T 4)) := by
  have hb : 0 ≤ pv_long V ∧ pv_long V ≤ 594 := by
    rw [← pv_long_eq ho]
    have b0 := ho.2.1 0 (by omega)
    have b1 := ho.2.1 1 (by omega)
    have b2 := ho.2.1 2 (by omega)
    have b3 := ho.2.1 3 (by omega)
    have b4 := ho.2.1 4 (by omega)
    have b5 := ho.2.1 5 (by omega)
    omega
  have hf := hT.2.2.2.1
  unfold gh_isLong
  simp (disch := omega) only [pj_lit, pj_add, pj_sub, pj_neg, pj_mul, pj_lt, pj_eq, pj_nat, pj_ald, pj_ast, pj_ix, pw_bind, pw_ite, pw_some, pw_none, pw_let, Option.bind_some, Int.toNat_natCast, Sum.elim_inl, Sum.elim_inr, Int.cast_ofNat_Int, Int.reduceLT, Int.reduceLE, Int.reduceEq, Int.reduceAdd, Int.reduceSub, Int.reduceMul, Int.reduceNeg, Int.reduceToNat, Nat.reduceAdd, Nat.reduceSub, Nat.reduceMul, Nat.reduceEqDiff, Nat.reduceLT, reduceIte, reduceCtorEq, true_and, and_true, forall_const, not_true_eq_false, not_false_eq_true, false_implies, implies_true, pc_rope hV ho, pt_f_eq]
  by_cases q : pv_long V < pt_f T 4
  · rw [if_pos q, decide_eq_true q]; rfl
  · rw [if_neg q, decide_eq_false q]; rfl
theorem pc_count {T : zt_T} {M : cs_S} {V : pv_V} (hT : pt_ok T) (hV : pc_V M 0 V) (ho : pv_ok (zt_n T) V) (a : Int32) :
    gh_count T M a = some (pv_count T V (M.1 2 2) (M.1 0 5) (M.1 0 19) (M.2 0 13 0) (M.2 0 13 1) (M.2 0 13 2) a) := by
  have hn := hT.1
  have c0 : ∀ k, k < zt_n T → M.2 (10 + 0) 0 k = pj (pv_h V k) := fun k hk => (hV.1 k (by omega)).1
  have c2 : ∀ k, k < zt_n T → M.2 (10 + 0) 2 k = pj (pv_s V k) := fun k hk => (hV.1 k (by omega)).2.2.1
  have c3 : ∀ k, k < zt_n T → M.2 (10 + 0) 3 k = pv_g V k := fun k hk => (hV.1 k (by omega)).2.2.2
  have L6 : zs_loop 5000 (gh_count_L131 T M) (pj 0, pj 0) = some (pj (pv_sm (pv_h V) (zt_n T))) := by
    refine pw_forE (zt_n T) (fun k => (pj (pv_sm (pv_h V) k), pj (k : Nat))) 5000 (by omega) ?_ ?_
    · intro k hk
      have hlt : (k : Int) < (zt_n T : Nat) := by omega
      unfold gh_count_L131 gh_houses
      simp (disch := omega) only [pj_lit, pj_add, pj_sub, pj_neg, pj_mul, pj_lt, pj_eq, pj_nat, pj_ald, pj_ast, pj_ix, pw_bind, pw_ite, pw_some, pw_none, pw_let, Option.bind_some, Int.toNat_natCast, Sum.elim_inl, Sum.elim_inr, Int.cast_ofNat_Int, Int.reduceLT, Int.reduceLE, Int.reduceEq, Int.reduceAdd, Int.reduceSub, Int.reduceMul, Int.reduceNeg, Int.reduceToNat, Nat.reduceAdd, Nat.reduceSub, Nat.reduceMul, Nat.reduceEqDiff, Nat.reduceLT, reduceIte, reduceCtorEq, true_and, and_true, forall_const, not_true_eq_false, not_false_eq_true, false_implies, implies_true, pj_nI, hlt, c0 k hk]
      rfl
    · unfold gh_count_L131 gh_houses
      simp (disch := omega) only [pj_lit, pj_add, pj_sub, pj_neg, pj_mul, pj_lt, pj_eq, pj_nat, pj_ald, pj_ast, pj_ix, pw_bind, pw_ite, pw_some, pw_none, pw_let, Option.bind_some, Int.toNat_natCast, Sum.elim_inl, Sum.elim_inr, Int.cast_ofNat_Int, Int.reduceLT, Int.reduceLE, Int.reduceEq, Int.reduceAdd, Int.reduceSub, Int.reduceMul, Int.reduceNeg, Int.reduceToNat, Nat.reduceAdd, Nat.reduceSub, Nat.reduceMul, Nat.reduceEqDiff, Nat.reduceLT, reduceIte, reduceCtorEq, true_and, and_true, forall_const, not_true_eq_false, not_false_eq_true, false_implies, implies_true, pj_nI, Int.lt_irrefl]
  have L16 : zs_loop 5000 (gh_count_L354 T M) (pj 0, pj 0) = some (pj (pv_sm (pv_s V) (zt_n T))) := by
    refine pw_forE (zt_n T) (fun k => (pj (pv_sm (pv_s V) k), pj (k : Nat))) 5000 (by omega) ?_ ?_
    · intro k hk
      have hlt : (k : Int) < (zt_n T : Nat) := by omega
      unfold gh_count_L354 gh_houses
      simp (disch := omega) only [pj_lit, pj_add, pj_sub, pj_neg, pj_mul, pj_lt, pj_eq, pj_nat, pj_ald, pj_ast, pj_ix, pw_bind, pw_ite, pw_some, pw_none, pw_let, Option.bind_some, Int.toNat_natCast, Sum.elim_inl, Sum.elim_inr, Int.cast_ofNat_Int, Int.reduceLT, Int.reduceLE, Int.reduceEq, Int.reduceAdd, Int.reduceSub, Int.reduceMul, Int.reduceNeg, Int.reduceToNat, Nat.reduceAdd, Nat.reduceSub, Nat.reduceMul, Nat.reduceEqDiff, Nat.reduceLT, reduceIte, reduceCtorEq, true_and, and_true, forall_const, not_true_eq_false, not_false_eq_true, false_implies, implies_true, pj_nI, hlt, c2 k hk]
      rfl
    · unfold gh_count_L354 gh_houses
      simp (disch := omega) only [pj_lit, pj_add, pj_sub, pj_neg, pj_mul, pj_lt, pj_eq, pj_nat, pj_ald, pj_ast, pj_ix, pw_bind, pw_ite, pw_some, pw_none, pw_let, Option.bind_some, Int.toNat_natCast, Sum.elim_inl, Sum.elim_inr, Int.cast_ofNat_Int, Int.reduceLT, Int.reduceLE, Int.reduceEq, Int.reduceAdd, Int.reduceSub, Int.reduceMul, Int.reduceNeg, Int.reduceToNat, Nat.reduceAdd, Nat.reduceSub, Nat.reduceMul, Nat.reduceEqDiff, Nat.reduceLT, reduceIte, reduceCtorEq, true_and, and_true, forall_const, not_true_eq_false, not_false_eq_true, false_implies, implies_true, pj_nI, Int.lt_irrefl]
  have L14 : zs_loop 5000 (gh_count_L284 T M) (pj 0, pj 0) = some (pv_sg (pv_g V) (zt_n T)) := by
    refine pw_forE (zt_n T) (fun k => (pv_sg (pv_g V) k, pj (k : Nat))) 5000 (by omega) ?_ ?_
    · intro k hk
      have hlt : (k : Int) < (zt_n T : Nat) := by omega
      unfold gh_count_L284 gh_houses
      simp (disch := omega) only [pj_lit, pj_add, pj_sub, pj_neg, pj_mul, pj_lt, pj_eq, pj_nat, pj_ald, pj_ast, pj_ix, pw_bind, pw_ite, pw_some, pw_none, pw_let, Option.bind_some, Int.toNat_natCast, Sum.elim_inl, Sum.elim_inr, Int.cast_ofNat_Int, Int.reduceLT, Int.reduceLE, Int.reduceEq, Int.reduceAdd, Int.reduceSub, Int.reduceMul, Int.reduceNeg, Int.reduceToNat, Nat.reduceAdd, Nat.reduceSub, Nat.reduceMul, Nat.reduceEqDiff, Nat.reduceLT, reduceIte, reduceCtorEq, true_and, and_true, forall_const, not_true_eq_false, not_false_eq_true, false_implies, implies_true, pj_nI, hlt, c3 k hk]
      rfl
    · unfold gh_count_L284 gh_houses
      simp (disch := omega) only [pj_lit, pj_add, pj_sub, pj_neg, pj_mul, pj_lt, pj_eq, pj_nat, pj_ald, pj_ast, pj_ix, pw_bind, pw_ite, pw_some, pw_none, pw_let, Option.bind_some, Int.toNat_natCast, Sum.elim_inl, Sum.elim_inr, Int.cast_ofNat_Int, Int.reduceLT, Int.reduceLE, Int.reduceEq, Int.reduceAdd, Int.reduceSub, Int.reduceMul, Int.reduceNeg, Int.reduceToNat, Nat.reduceAdd, Nat.reduceSub, Nat.reduceMul, Nat.reduceEqDiff, Nat.reduceLT, reduceIte, reduceCtorEq, true_and, and_true, forall_const, not_true_eq_false, not_false_eq_true, false_implies, implies_true, pj_nI, Int.lt_irrefl]
  have L7 : zs_loop 5000 (gh_count_L161 T M) (pj 0, pj 0) = some (pj (pb_set (fun x => decide (0 < pv_p V x)) (zt_n T) : Nat)) := by
    refine pw_forE (zt_n T) (fun k => (pj (pb_set (fun x => decide (0 < pv_p V x)) k : Nat), pj (k : Nat))) 5000 (by omega) ?_ ?_
    · intro k hk
      have hlt : (k : Int) < (zt_n T : Nat) := by omega
      have hp := pb_step (fun x => decide (0 < pv_p V x)) (k := k) (by omega)
      unfold gh_count_L161 gh_houses
      simp (disch := omega) only [pj_lit, pj_add, pj_sub, pj_neg, pj_mul, pj_lt, pj_eq, pj_nat, pj_ald, pj_ast, pj_ix, pw_bind, pw_ite, pw_some, pw_none, pw_let, Option.bind_some, Int.toNat_natCast, Sum.elim_inl, Sum.elim_inr, Int.cast_ofNat_Int, Int.reduceLT, Int.reduceLE, Int.reduceEq, Int.reduceAdd, Int.reduceSub, Int.reduceMul, Int.reduceNeg, Int.reduceToNat, Nat.reduceAdd, Nat.reduceSub, Nat.reduceMul, Nat.reduceEqDiff, Nat.reduceLT, reduceIte, reduceCtorEq, true_and, and_true, forall_const, not_true_eq_false, not_false_eq_true, false_implies, implies_true, pj_nI, hlt, pc_has hV ho k (by omega), ← hp]
      by_cases q : 0 < pv_p V k
      · rw [if_pos (decide_eq_true q), if_pos (decide_eq_true q)]; rfl
      · rw [if_neg (by simpa using q), if_neg (by simpa using q)]; rfl
    · unfold gh_count_L161 gh_houses
      simp (disch := omega) only [pj_lit, pj_add, pj_sub, pj_neg, pj_mul, pj_lt, pj_eq, pj_nat, pj_ald, pj_ast, pj_ix, pw_bind, pw_ite, pw_some, pw_none, pw_let, Option.bind_some, Int.toNat_natCast, Sum.elim_inl, Sum.elim_inr, Int.cast_ofNat_Int, Int.reduceLT, Int.reduceLE, Int.reduceEq, Int.reduceAdd, Int.reduceSub, Int.reduceMul, Int.reduceNeg, Int.reduceToNat, Nat.reduceAdd, Nat.reduceSub, Nat.reduceMul, Nat.reduceEqDiff, Nat.reduceLT, reduceIte, reduceCtorEq, true_and, and_true, forall_const, not_true_eq_false, not_false_eq_true, false_implies, implies_true, pj_nI, Int.lt_irrefl]
  have L15 : zs_loop 5000 (gh_count_L314 T M) (pj 0, pj 0) = some (pj (pb_set (fun x => decide (pv_h V x = 0)) (zt_n T) : Nat)) := by
    refine pw_forE (zt_n T) (fun k => (pj (pb_set (fun x => decide (pv_h V x = 0)) k : Nat), pj (k : Nat))) 5000 (by omega) ?_ ?_
    · intro k hk
      have hlt : (k : Int) < (zt_n T : Nat) := by omega
      have hp := pb_step (fun x => decide (pv_h V x = 0)) (k := k) (by omega)
      have hb := ho.2.1 k (by omega)
      unfold gh_count_L314 gh_houses
      simp (disch := omega) only [pj_lit, pj_add, pj_sub, pj_neg, pj_mul, pj_lt, pj_eq, pj_nat, pj_ald, pj_ast, pj_ix, pw_bind, pw_ite, pw_some, pw_none, pw_let, Option.bind_some, Int.toNat_natCast, Sum.elim_inl, Sum.elim_inr, Int.cast_ofNat_Int, Int.reduceLT, Int.reduceLE, Int.reduceEq, Int.reduceAdd, Int.reduceSub, Int.reduceMul, Int.reduceNeg, Int.reduceToNat, Nat.reduceAdd, Nat.reduceSub, Nat.reduceMul, Nat.reduceEqDiff, Nat.reduceLT, reduceIte, reduceCtorEq, true_and, and_true, forall_const, not_true_eq_false, not_false_eq_true, false_implies, implies_true, pj_nI, hlt, c0 k hk, ← hp]
      by_cases q : pv_h V k = 0
      · rw [if_pos q, if_pos (decide_eq_true q)]; rfl
      · rw [if_neg q, if_neg (by simpa using q)]; rfl
    · unfold gh_count_L314 gh_houses
      simp (disch := omega) only [pj_lit, pj_add, pj_sub, pj_neg, pj_mul, pj_lt, pj_eq, pj_nat, pj_ald, pj_ast, pj_ix, pw_bind, pw_ite, pw_some, pw_none, pw_let, Option.bind_some, Int.toNat_natCast, Sum.elim_inl, Sum.elim_inr, Int.cast_ofNat_Int, Int.reduceLT, Int.reduceLE, Int.reduceEq, Int.reduceAdd, Int.reduceSub, Int.reduceMul, Int.reduceNeg, Int.reduceToNat, Nat.reduceAdd, Nat.reduceSub, Nat.reduceMul, Nat.reduceEqDiff, Nat.reduceLT, reduceIte, reduceCtorEq, true_and, and_true, forall_const, not_true_eq_false, not_false_eq_true, false_implies, implies_true, pj_nI, Int.lt_irrefl]
  unfold gh_count pv_count
  by_cases q0 : a = 0
  · rw [if_pos q0, if_pos q0]; unfold gh_houses; simp (disch := omega) only [pj_lit, pj_add, pj_sub, pj_neg, pj_mul, pj_lt, pj_eq, pj_nat, pj_ald, pj_ast, pj_ix, pw_bind, pw_ite, pw_some, pw_none, pw_let, Option.bind_some, Int.toNat_natCast, Sum.elim_inl, Sum.elim_inr, Int.cast_ofNat_Int, Int.reduceLT, Int.reduceLE, Int.reduceEq, Int.reduceAdd, Int.reduceSub, Int.reduceMul, Int.reduceNeg, Int.reduceToNat, Nat.reduceAdd, Nat.reduceSub, Nat.reduceMul, Nat.reduceEqDiff, Nat.reduceLT, reduceIte, reduceCtorEq, true_and, and_true, forall_const, not_true_eq_false, not_false_eq_true, false_implies, implies_true, pj_nI]
  rw [if_neg q0, if_neg q0]
  by_cases q1 : a = 1
  · rw [if_pos q1, if_pos q1, pt_f_eq]
  rw [if_neg q1, if_neg q1]
  by_cases q2 : a = 2
  · rw [if_pos q2, if_pos q2, hV.2.2.2.1]
  rw [if_neg q2, if_neg q2]
  by_cases q3 : a = 3
  · rw [if_pos q3, if_pos q3, hV.2.1]
  rw [if_neg q3, if_neg q3]
  by_cases q4 : a = 4
  · rw [if_pos q4, if_pos q4, pc_rope hV ho]; rfl
  rw [if_neg q4, if_neg q4]
  by_cases q5 : a = 5
  · rw [if_pos q5, if_pos q5, hV.2.2.2.2]
  rw [if_neg q5, if_neg q5]
  by_cases q6 : a = 6
  · rw [if_pos q6, if_pos q6, pj_0, L6]; rfl
  rw [if_neg q6, if_neg q6]
  by_cases q7 : a = 7
  · rw [if_pos q7, if_pos q7, pj_0, L7]; rfl
  rw [if_neg q7, if_neg q7]
  by_cases q8 : a = 8
  · rw [if_pos q8, if_pos q8]
  rw [if_neg q8, if_neg q8]
  by_cases q9 : a = 9
  · rw [if_pos q9, if_pos q9]
  rw [if_neg q9, if_neg q9]
  by_cases q10 : a = 10
  · rw [if_pos q10, if_pos q10]
  rw [if_neg q10, if_neg q10]
  by_cases q11 : a = 11
  · rw [if_pos q11, if_pos q11]
    simp (disch := omega) only [pj_lit, pj_add, pj_sub, pj_neg, pj_mul, pj_lt, pj_eq, pj_nat, pj_ald, pj_ast, pj_ix, pw_bind, pw_ite, pw_some, pw_none, pw_let, Option.bind_some, Int.toNat_natCast, Sum.elim_inl, Sum.elim_inr, Int.cast_ofNat_Int, Int.reduceLT, Int.reduceLE, Int.reduceEq, Int.reduceAdd, Int.reduceSub, Int.reduceMul, Int.reduceNeg, Int.reduceToNat, Nat.reduceAdd, Nat.reduceSub, Nat.reduceMul, Nat.reduceEqDiff, Nat.reduceLT, reduceIte, reduceCtorEq, true_and, and_true, forall_const, not_true_eq_false, not_false_eq_true, false_implies, implies_true]
    by_cases z0 : M.2 0 13 0 = pj 0 <;> by_cases z1 : M.2 0 13 1 = pj 0 <;> by_cases z2 : M.2 0 13 2 = pj 0 <;> simp (disch := omega) only [pj_lit, pj_add, pj_sub, pj_neg, pj_mul, pj_lt, pj_eq, pj_nat, pj_ald, pj_ast, pj_ix, pw_bind, pw_ite, pw_some, pw_none, pw_let, Option.bind_some, Int.toNat_natCast, Sum.elim_inl, Sum.elim_inr, Int.cast_ofNat_Int, Int.reduceLT, Int.reduceLE, Int.reduceEq, Int.reduceAdd, Int.reduceSub, Int.reduceMul, Int.reduceNeg, Int.reduceToNat, Nat.reduceAdd, Nat.reduceSub, Nat.reduceMul, Nat.reduceEqDiff, Nat.reduceLT, reduceIte, reduceCtorEq, true_and, and_true, forall_const, not_true_eq_false, not_false_eq_true, false_implies, implies_true, z0, z1, z2]
  rw [if_neg q11, if_neg q11]
  by_cases q12 : a = 12
  · rw [if_pos q12, if_pos q12, pc_isLong hT hV ho]
    by_cases z : pv_long V < pt_f T 4
    · rw [decide_eq_true z, if_pos z]; rfl
    · rw [decide_eq_false z, if_neg z]; rfl
  rw [if_neg q12, if_neg q12]
  by_cases q13 : a = 13
  · rw [if_pos q13, if_pos q13, pt_f_eq]
  rw [if_neg q13, if_neg q13]
  by_cases q14 : a = 14
  · rw [if_pos q14, if_pos q14, pj_0, L14]; rfl
  rw [if_neg q14, if_neg q14]
  by_cases q15 : a = 15
  · rw [if_pos q15, if_pos q15, pj_0, L15]; rfl
  rw [if_neg q15, if_neg q15]
  by_cases q16 : a = 16
  · rw [if_pos q16, if_pos q16, pj_0, L16]; rfl
  rw [if_neg q16, if_neg q16]
theorem pm_count {T : zt_T} {s : Nat} {Z : zm_S} {V : pv_V} (hT : pt_ok T) (hm : pm_T T s Z) (ho : pv_ok (zt_n T) V) (hrow : pv_row (Z.2.1 47) V) (a : Int32) :
    pw (gm_count Z a) (fun p => p.1 = pv_count T V (Z.1 2) (Z.1 53) (Z.1 63) (Z.2.1 69 0) (Z.2.1 69 1) (Z.2.1 69 2) a ∧ pm_k Z p.2) := by
  have hn := hT.1
  obtain ⟨Z1, eZ, hc⟩ := pm_copies hm ho hrow
  have r := pm_c_k hc
  obtain ⟨hm1, hr1, -, -, hf1, ha1, -, -⟩ := hc
  have hs := hm1.1
  have e22 := hm1.2.2.1
  have e27 := hm1.2.2.2.2.2.1
  have e28 := hm1.2.2.2.2.2.2.1
  have a47 : Z1.2.1 47 = Z.2.1 47 := ha1 47 (by decide)
  have a69 : Z1.2.1 69 = Z.2.1 69 := ha1 69 (by decide)
  have S6 : gm_sumNow Z1 (pj 0) = some (pj (pv_sm (pv_h V) (zt_n T))) := by
    rw [show pj 0 = pj ((0 : Nat) : Int) from rfl, pm_sum (f := fun x => pj (pv_h V x)) (by omega) (fun x hx => by rw [a47, Nat.zero_add]; exact (hrow.1 x hx).1), pv_sg_pj]
    have := pv_sm_zero (f := pv_h V) (n := zt_n T) (fun x h1 h2 => (ho.2.2.2.2 x h1 h2).1) (6 - zt_n T) (by omega)
    rw [← this, show zt_n T + (6 - zt_n T) = 6 by omega]
  have S16 : gm_sumNow Z1 (pj 12) = some (pj (pv_sm (pv_s V) (zt_n T))) := by
    rw [show pj 12 = pj ((12 : Nat) : Int) from rfl, pm_sum (f := fun x => pj (pv_s V x)) (by omega) (fun x hx => by rw [a47]; exact (hrow.1 x hx).2.2.1), pv_sg_pj]
    have := pv_sm_zero (f := pv_s V) (n := zt_n T) (fun x h1 h2 => (ho.2.2.2.2 x h1 h2).2.1) (6 - zt_n T) (by omega)
    rw [← this, show zt_n T + (6 - zt_n T) = 6 by omega]
  have S14 : gm_sumNow Z1 (pj 18) = some (pv_sg (pv_g V) (zt_n T)) := by
    rw [show pj 18 = pj ((18 : Nat) : Int) from rfl, pm_sum (f := pv_g V) (by omega) (fun x hx => by rw [a47]; exact (hrow.1 x hx).2.2.2)]
    have := pv_sg_zero (f := pv_g V) (n := zt_n T) (fun x h1 h2 => (ho.2.2.2.2 x h1 h2).2.2) (6 - zt_n T) (by omega)
    rw [← this, show zt_n T + (6 - zt_n T) = 6 by omega]
  have L7 : zs_loop 5000 (gm_count_L145 Z1) (pj 0, pj 0) = some (pj (pb_set (fun x => decide (0 < pv_p V x)) (zt_n T) : Nat), Z1) := by
    refine pw_forE (zt_n T) (fun k => (pj (pb_set (fun x => decide (0 < pv_p V x)) k : Nat), pj (k : Nat))) 5000 (by omega) ?_ ?_
    · intro k hk
      have hlt : (k : Int) < (zt_n T : Nat) := by omega
      have hp := pb_step2 (fun x => decide (0 < pv_p V x)) (k := k) (by omega)
      unfold gm_count_L145
      simp (disch := omega) only [pj_lit, pj_add, pj_sub, pj_neg, pj_mul, pj_lt, pj_eq, pj_nat, pj_ald, pj_ast, pj_ix, pw_bind, pw_ite, pw_some, pw_none, pw_let, Option.bind_some, Int.toNat_natCast, Sum.elim_inl, Sum.elim_inr, Int.cast_ofNat_Int, Int.reduceLT, Int.reduceLE, Int.reduceEq, Int.reduceAdd, Int.reduceSub, Int.reduceMul, Int.reduceNeg, Int.reduceToNat, Nat.reduceAdd, Nat.reduceSub, Nat.reduceMul, Nat.reduceEqDiff, Nat.reduceLT, reduceIte, reduceCtorEq, true_and, and_true, forall_const, not_true_eq_false, not_false_eq_true, false_implies, implies_true, hm1.2.1, e22, hlt, pm_has hr1 ho k (by omega), ← hp]
      by_cases q : 0 < pv_p V k
      · rw [if_pos (decide_eq_true q), if_pos (decide_eq_true q)]; rfl
      · rw [if_neg (by simpa using q), if_neg (by simpa using q)]; rfl
    · unfold gm_count_L145
      simp (disch := omega) only [pj_lit, pj_add, pj_sub, pj_neg, pj_mul, pj_lt, pj_eq, pj_nat, pj_ald, pj_ast, pj_ix, pw_bind, pw_ite, pw_some, pw_none, pw_let, Option.bind_some, Int.toNat_natCast, Sum.elim_inl, Sum.elim_inr, Int.cast_ofNat_Int, Int.reduceLT, Int.reduceLE, Int.reduceEq, Int.reduceAdd, Int.reduceSub, Int.reduceMul, Int.reduceNeg, Int.reduceToNat, Nat.reduceAdd, Nat.reduceSub, Nat.reduceMul, Nat.reduceEqDiff, Nat.reduceLT, reduceIte, reduceCtorEq, true_and, and_true, forall_const, not_true_eq_false, not_false_eq_true, false_implies, implies_true, hm1.2.1, e22, Int.lt_irrefl]
  have L15 : zs_loop 5000 (gm_count_L281 Z1) (pj 0, pj 0) = some (pj (pb_set (fun x => decide (pv_h V x = 0)) (zt_n T) : Nat), Z1) := by
    refine pw_forE (zt_n T) (fun k => (pj (pb_set (fun x => decide (pv_h V x = 0)) k : Nat), pj (k : Nat))) 5000 (by omega) ?_ ?_
    · intro k hk
      have hlt : (k : Int) < (zt_n T : Nat) := by omega
      have hp := pb_step2 (fun x => decide (pv_h V x = 0)) (k := k) (by omega)
      have hb := ho.2.1 k (by omega)
      have c0 := (hr1.1 k (by omega)).1
      unfold gm_count_L281
      simp (disch := omega) only [pj_lit, pj_add, pj_sub, pj_neg, pj_mul, pj_lt, pj_eq, pj_nat, pj_ald, pj_ast, pj_ix, pw_bind, pw_ite, pw_some, pw_none, pw_let, Option.bind_some, Int.toNat_natCast, Sum.elim_inl, Sum.elim_inr, Int.cast_ofNat_Int, Int.reduceLT, Int.reduceLE, Int.reduceEq, Int.reduceAdd, Int.reduceSub, Int.reduceMul, Int.reduceNeg, Int.reduceToNat, Nat.reduceAdd, Nat.reduceSub, Nat.reduceMul, Nat.reduceEqDiff, Nat.reduceLT, reduceIte, reduceCtorEq, true_and, and_true, forall_const, not_true_eq_false, not_false_eq_true, false_implies, implies_true, hm1.2.1, e22, hlt, c0, ← hp]
      by_cases q : pv_h V k = 0
      · rw [if_pos q, if_pos (decide_eq_true q)]; rfl
      · rw [if_neg q, if_neg (by simpa using q)]; rfl
    · unfold gm_count_L281
      simp (disch := omega) only [pj_lit, pj_add, pj_sub, pj_neg, pj_mul, pj_lt, pj_eq, pj_nat, pj_ald, pj_ast, pj_ix, pw_bind, pw_ite, pw_some, pw_none, pw_let, Option.bind_some, Int.toNat_natCast, Sum.elim_inl, Sum.elim_inr, Int.cast_ofNat_Int, Int.reduceLT, Int.reduceLE, Int.reduceEq, Int.reduceAdd, Int.reduceSub, Int.reduceMul, Int.reduceNeg, Int.reduceToNat, Nat.reduceAdd, Nat.reduceSub, Nat.reduceMul, Nat.reduceEqDiff, Nat.reduceLT, reduceIte, reduceCtorEq, true_and, and_true, forall_const, not_true_eq_false, not_false_eq_true, false_implies, implies_true, hm1.2.1, e22, Int.lt_irrefl]
  have e24 := hr1.2.1
  have e31 := hr1.2.2.2.1
  have e32 := hr1.2.2.2.2
  unfold gm_count pv_count
  rw [eZ, Option.bind_some]
  by_cases q0 : a = 0
  · rw [if_pos q0, if_pos q0]; simp (disch := omega) only [pj_lit, pj_add, pj_sub, pj_neg, pj_mul, pj_lt, pj_eq, pj_nat, pj_ald, pj_ast, pj_ix, pw_bind, pw_ite, pw_some, pw_none, pw_let, Option.bind_some, Int.toNat_natCast, Sum.elim_inl, Sum.elim_inr, Int.cast_ofNat_Int, Int.reduceLT, Int.reduceLE, Int.reduceEq, Int.reduceAdd, Int.reduceSub, Int.reduceMul, Int.reduceNeg, Int.reduceToNat, Nat.reduceAdd, Nat.reduceSub, Nat.reduceMul, Nat.reduceEqDiff, Nat.reduceLT, reduceIte, reduceCtorEq, true_and, and_true, forall_const, not_true_eq_false, not_false_eq_true, false_implies, implies_true, hm1.2.1, e22]; exact r
  rw [if_neg q0, if_neg q0]
  by_cases q1 : a = 1
  · rw [if_pos q1, if_pos q1]; simp (disch := omega) only [pj_lit, pj_add, pj_sub, pj_neg, pj_mul, pj_lt, pj_eq, pj_nat, pj_ald, pj_ast, pj_ix, pw_bind, pw_ite, pw_some, pw_none, pw_let, Option.bind_some, Int.toNat_natCast, Sum.elim_inl, Sum.elim_inr, Int.cast_ofNat_Int, Int.reduceLT, Int.reduceLE, Int.reduceEq, Int.reduceAdd, Int.reduceSub, Int.reduceMul, Int.reduceNeg, Int.reduceToNat, Nat.reduceAdd, Nat.reduceSub, Nat.reduceMul, Nat.reduceEqDiff, Nat.reduceLT, reduceIte, reduceCtorEq, true_and, and_true, forall_const, not_true_eq_false, not_false_eq_true, false_implies, implies_true, hm1.2.1, e27]; exact r
  rw [if_neg q1, if_neg q1]
  by_cases q2 : a = 2
  · rw [if_pos q2, if_pos q2]; simp (disch := omega) only [pj_lit, pj_add, pj_sub, pj_neg, pj_mul, pj_lt, pj_eq, pj_nat, pj_ald, pj_ast, pj_ix, pw_bind, pw_ite, pw_some, pw_none, pw_let, Option.bind_some, Int.toNat_natCast, Sum.elim_inl, Sum.elim_inr, Int.cast_ofNat_Int, Int.reduceLT, Int.reduceLE, Int.reduceEq, Int.reduceAdd, Int.reduceSub, Int.reduceMul, Int.reduceNeg, Int.reduceToNat, Nat.reduceAdd, Nat.reduceSub, Nat.reduceMul, Nat.reduceEqDiff, Nat.reduceLT, reduceIte, reduceCtorEq, true_and, and_true, forall_const, not_true_eq_false, not_false_eq_true, false_implies, implies_true, e31]; exact r
  rw [if_neg q2, if_neg q2]
  by_cases q3 : a = 3
  · rw [if_pos q3, if_pos q3]; simp (disch := omega) only [pj_lit, pj_add, pj_sub, pj_neg, pj_mul, pj_lt, pj_eq, pj_nat, pj_ald, pj_ast, pj_ix, pw_bind, pw_ite, pw_some, pw_none, pw_let, Option.bind_some, Int.toNat_natCast, Sum.elim_inl, Sum.elim_inr, Int.cast_ofNat_Int, Int.reduceLT, Int.reduceLE, Int.reduceEq, Int.reduceAdd, Int.reduceSub, Int.reduceMul, Int.reduceNeg, Int.reduceToNat, Nat.reduceAdd, Nat.reduceSub, Nat.reduceMul, Nat.reduceEqDiff, Nat.reduceLT, reduceIte, reduceCtorEq, true_and, and_true, forall_const, not_true_eq_false, not_false_eq_true, false_implies, implies_true, e24]; exact r
  rw [if_neg q3, if_neg q3]
  by_cases q4 : a = 4
  · rw [if_pos q4, if_pos q4]; simp (disch := omega) only [pj_lit, pj_add, pj_sub, pj_neg, pj_mul, pj_lt, pj_eq, pj_nat, pj_ald, pj_ast, pj_ix, pw_bind, pw_ite, pw_some, pw_none, pw_let, Option.bind_some, Int.toNat_natCast, Sum.elim_inl, Sum.elim_inr, Int.cast_ofNat_Int, Int.reduceLT, Int.reduceLE, Int.reduceEq, Int.reduceAdd, Int.reduceSub, Int.reduceMul, Int.reduceNeg, Int.reduceToNat, Nat.reduceAdd, Nat.reduceSub, Nat.reduceMul, Nat.reduceEqDiff, Nat.reduceLT, reduceIte, reduceCtorEq, true_and, and_true, forall_const, not_true_eq_false, not_false_eq_true, false_implies, implies_true, pm_rope hr1 ho]; exact r
  rw [if_neg q4, if_neg q4]
  by_cases q5 : a = 5
  · rw [if_pos q5, if_pos q5]; simp (disch := omega) only [pj_lit, pj_add, pj_sub, pj_neg, pj_mul, pj_lt, pj_eq, pj_nat, pj_ald, pj_ast, pj_ix, pw_bind, pw_ite, pw_some, pw_none, pw_let, Option.bind_some, Int.toNat_natCast, Sum.elim_inl, Sum.elim_inr, Int.cast_ofNat_Int, Int.reduceLT, Int.reduceLE, Int.reduceEq, Int.reduceAdd, Int.reduceSub, Int.reduceMul, Int.reduceNeg, Int.reduceToNat, Nat.reduceAdd, Nat.reduceSub, Nat.reduceMul, Nat.reduceEqDiff, Nat.reduceLT, reduceIte, reduceCtorEq, true_and, and_true, forall_const, not_true_eq_false, not_false_eq_true, false_implies, implies_true, e32]; exact r
  rw [if_neg q5, if_neg q5]
  by_cases q6 : a = 6
  · rw [if_pos q6, if_pos q6]; simp (disch := omega) only [pj_lit, pj_add, pj_sub, pj_neg, pj_mul, pj_lt, pj_eq, pj_nat, pj_ald, pj_ast, pj_ix, pw_bind, pw_ite, pw_some, pw_none, pw_let, Option.bind_some, Int.toNat_natCast, Sum.elim_inl, Sum.elim_inr, Int.cast_ofNat_Int, Int.reduceLT, Int.reduceLE, Int.reduceEq, Int.reduceAdd, Int.reduceSub, Int.reduceMul, Int.reduceNeg, Int.reduceToNat, Nat.reduceAdd, Nat.reduceSub, Nat.reduceMul, Nat.reduceEqDiff, Nat.reduceLT, reduceIte, reduceCtorEq, true_and, and_true, forall_const, not_true_eq_false, not_false_eq_true, false_implies, implies_true, S6]; exact r
  rw [if_neg q6, if_neg q6]
  by_cases q7 : a = 7
  · rw [if_pos q7, if_pos q7]; simp (disch := omega) only [pj_lit, pj_add, pj_sub, pj_neg, pj_mul, pj_lt, pj_eq, pj_nat, pj_ald, pj_ast, pj_ix, pw_bind, pw_ite, pw_some, pw_none, pw_let, Option.bind_some, Int.toNat_natCast, Sum.elim_inl, Sum.elim_inr, Int.cast_ofNat_Int, Int.reduceLT, Int.reduceLE, Int.reduceEq, Int.reduceAdd, Int.reduceSub, Int.reduceMul, Int.reduceNeg, Int.reduceToNat, Nat.reduceAdd, Nat.reduceSub, Nat.reduceMul, Nat.reduceEqDiff, Nat.reduceLT, reduceIte, reduceCtorEq, true_and, and_true, forall_const, not_true_eq_false, not_false_eq_true, false_implies, implies_true, L7]; exact r
  rw [if_neg q7, if_neg q7]
  by_cases q8 : a = 8
  · rw [if_pos q8, if_pos q8, pw_some]; exact ⟨hf1 2 (by decide) (by decide), r⟩
  rw [if_neg q8, if_neg q8]
  by_cases q9 : a = 9
  · rw [if_pos q9, if_pos q9, pw_some]; exact ⟨hf1 53 (by decide) (by decide), r⟩
  rw [if_neg q9, if_neg q9]
  by_cases q10 : a = 10
  · rw [if_pos q10, if_pos q10, pw_some]; exact ⟨hf1 63 (by decide) (by decide), r⟩
  rw [if_neg q10, if_neg q10]
  by_cases q11 : a = 11
  · rw [if_pos q11, if_pos q11, a69]
    simp (disch := omega) only [pj_lit, pj_add, pj_sub, pj_neg, pj_mul, pj_lt, pj_eq, pj_nat, pj_ald, pj_ast, pj_ix, pw_bind, pw_ite, pw_some, pw_none, pw_let, Option.bind_some, Int.toNat_natCast, Sum.elim_inl, Sum.elim_inr, Int.cast_ofNat_Int, Int.reduceLT, Int.reduceLE, Int.reduceEq, Int.reduceAdd, Int.reduceSub, Int.reduceMul, Int.reduceNeg, Int.reduceToNat, Nat.reduceAdd, Nat.reduceSub, Nat.reduceMul, Nat.reduceEqDiff, Nat.reduceLT, reduceIte, reduceCtorEq, true_and, and_true, forall_const, not_true_eq_false, not_false_eq_true, false_implies, implies_true]
    by_cases z0 : Z.2.1 69 0 = pj 0 <;> by_cases z1 : Z.2.1 69 1 = pj 0 <;> by_cases z2 : Z.2.1 69 2 = pj 0 <;> simp (disch := omega) only [pj_lit, pj_add, pj_sub, pj_neg, pj_mul, pj_lt, pj_eq, pj_nat, pj_ald, pj_ast, pj_ix, pw_bind, pw_ite, pw_some, pw_none, pw_let, Option.bind_some, Int.toNat_natCast, Sum.elim_inl, Sum.elim_inr, Int.cast_ofNat_Int, Int.reduceLT, Int.reduceLE, Int.reduceEq, Int.reduceAdd, Int.reduceSub, Int.reduceMul, Int.reduceNeg, Int.reduceToNat, Nat.reduceAdd, Nat.reduceSub, Nat.reduceMul, Nat.reduceEqDiff, Nat.reduceLT, reduceIte, reduceCtorEq, true_and, and_true, forall_const, not_true_eq_false, not_false_eq_true, false_implies, implies_true, z0, z1, z2] <;> exact r
  rw [if_neg q11, if_neg q11]
  by_cases q12 : a = 12
  · rw [if_pos q12, if_pos q12]
    have hb : 0 ≤ pv_long V ∧ pv_long V ≤ 594 := by
      rw [← pv_long_eq ho]
      have b0 := ho.2.1 0 (by omega)
      have b1 := ho.2.1 1 (by omega)
      have b2 := ho.2.1 2 (by omega)
      have b3 := ho.2.1 3 (by omega)
      have b4 := ho.2.1 4 (by omega)
      have b5 := ho.2.1 5 (by omega)
      omega
    have hf := hT.2.2.2.1
    simp (disch := omega) only [pj_lit, pj_add, pj_sub, pj_neg, pj_mul, pj_lt, pj_eq, pj_nat, pj_ald, pj_ast, pj_ix, pw_bind, pw_ite, pw_some, pw_none, pw_let, Option.bind_some, Int.toNat_natCast, Sum.elim_inl, Sum.elim_inr, Int.cast_ofNat_Int, Int.reduceLT, Int.reduceLE, Int.reduceEq, Int.reduceAdd, Int.reduceSub, Int.reduceMul, Int.reduceNeg, Int.reduceToNat, Nat.reduceAdd, Nat.reduceSub, Nat.reduceMul, Nat.reduceEqDiff, Nat.reduceLT, reduceIte, reduceCtorEq, true_and, and_true, forall_const, not_true_eq_false, not_false_eq_true, false_implies, implies_true, pm_rope hr1 ho, hm1.2.1, e27]
    exact ⟨fun z => ⟨by rw [if_pos z], r⟩, fun z => ⟨by rw [if_neg z], r⟩⟩
  rw [if_neg q12, if_neg q12]
  by_cases q13 : a = 13
  · rw [if_pos q13, if_pos q13]; simp (disch := omega) only [pj_lit, pj_add, pj_sub, pj_neg, pj_mul, pj_lt, pj_eq, pj_nat, pj_ald, pj_ast, pj_ix, pw_bind, pw_ite, pw_some, pw_none, pw_let, Option.bind_some, Int.toNat_natCast, Sum.elim_inl, Sum.elim_inr, Int.cast_ofNat_Int, Int.reduceLT, Int.reduceLE, Int.reduceEq, Int.reduceAdd, Int.reduceSub, Int.reduceMul, Int.reduceNeg, Int.reduceToNat, Nat.reduceAdd, Nat.reduceSub, Nat.reduceMul, Nat.reduceEqDiff, Nat.reduceLT, reduceIte, reduceCtorEq, true_and, and_true, forall_const, not_true_eq_false, not_false_eq_true, false_implies, implies_true, hm1.2.1, e28]; exact r
  rw [if_neg q13, if_neg q13]
  by_cases q14 : a = 14
  · rw [if_pos q14, if_pos q14]; simp (disch := omega) only [pj_lit, pj_add, pj_sub, pj_neg, pj_mul, pj_lt, pj_eq, pj_nat, pj_ald, pj_ast, pj_ix, pw_bind, pw_ite, pw_some, pw_none, pw_let, Option.bind_some, Int.toNat_natCast, Sum.elim_inl, Sum.elim_inr, Int.cast_ofNat_Int, Int.reduceLT, Int.reduceLE, Int.reduceEq, Int.reduceAdd, Int.reduceSub, Int.reduceMul, Int.reduceNeg, Int.reduceToNat, Nat.reduceAdd, Nat.reduceSub, Nat.reduceMul, Nat.reduceEqDiff, Nat.reduceLT, reduceIte, reduceCtorEq, true_and, and_true, forall_const, not_true_eq_false, not_false_eq_true, false_implies, implies_true, S14]; exact r
  rw [if_neg q14, if_neg q14]
  by_cases q15 : a = 15
  · rw [if_pos q15, if_pos q15]; simp (disch := omega) only [pj_lit, pj_add, pj_sub, pj_neg, pj_mul, pj_lt, pj_eq, pj_nat, pj_ald, pj_ast, pj_ix, pw_bind, pw_ite, pw_some, pw_none, pw_let, Option.bind_some, Int.toNat_natCast, Sum.elim_inl, Sum.elim_inr, Int.cast_ofNat_Int, Int.reduceLT, Int.reduceLE, Int.reduceEq, Int.reduceAdd, Int.reduceSub, Int.reduceMul, Int.reduceNeg, Int.reduceToNat, Nat.reduceAdd, Nat.reduceSub, Nat.reduceMul, Nat.reduceEqDiff, Nat.reduceLT, reduceIte, reduceCtorEq, true_and, and_true, forall_const, not_true_eq_false, not_false_eq_true, false_implies, implies_true, L15]; exact r
  rw [if_neg q15, if_neg q15]
  by_cases q16 : a = 16
  · rw [if_pos q16, if_pos q16]; simp (disch := omega) only [pj_lit, pj_add, pj_sub, pj_neg, pj_mul, pj_lt, pj_eq, pj_nat, pj_ald, pj_ast, pj_ix, pw_bind, pw_ite, pw_some, pw_none, pw_let, Option.bind_some, Int.toNat_natCast, Sum.elim_inl, Sum.elim_inr, Int.cast_ofNat_Int, Int.reduceLT, Int.reduceLE, Int.reduceEq, Int.reduceAdd, Int.reduceSub, Int.reduceMul, Int.reduceNeg, Int.reduceToNat, Nat.reduceAdd, Nat.reduceSub, Nat.reduceMul, Nat.reduceEqDiff, Nat.reduceLT, reduceIte, reduceCtorEq, true_and, and_true, forall_const, not_true_eq_false, not_false_eq_true, false_implies, implies_true, S16]; exact r
  rw [if_neg q16, if_neg q16, pw_some]
  exact ⟨rfl, r⟩
theorem pq_count {T : zt_T} {M : cs_S} {Z : zm_S} {s : Nat} {V : pv_V} {H : List pv_V} {at_ : Nat} (h : pr_R0 T M Z s V H at_) (a : Int32) :
    pw (gh_count T M a) (fun p => pw (gm_count Z a) (fun q => p = q.1 ∧ pr_R T M q.2)) := by
  obtain ⟨hT, hm, ho, hV, hsd, hrow, hH, hS, ⟨t, t1, t2, t3, t4⟩, ⟨p, p1, p2, p3, p4⟩, -, -⟩ := id h
  rw [pc_count hT hV ho a, pw_some]
  refine pw_mono (pm_count hT hm ho hrow a) (fun q hq => ⟨?_, s, V, H, at_, pr_R_k (pc_k_rfl M) hq.2 h⟩)
  rw [hq.1, p2, p3, hH.2.2.1, hH.2.2.2.2.1, t2, t3, (hS 0 (by omega)).1, (hS 1 (by omega)).1, (hS 2 (by omega)).1]
theorem pq_place {T : zt_T} {M : cs_S} {Z : zm_S} {s : Nat} {V : pv_V} {H : List pv_V} {at_ : Nat} (h : pr_R0 T M Z s V H at_) :
    pw (gh_place T M) (fun p => pw (gm_place Z) (fun q => p = q)) := by
  obtain ⟨hT, hm, ho, hV, hsd, hrow, hH, hS, hL, hP, hpl, -⟩ := id h
  unfold gh_place gm_place
  rw [pw_some, pw_some]
  exact hpl
/-! operations on the tape and on what is told -/
theorem pj_bool (x : Int32) : vp_nar .boolean x = x &&& 1 := rfl
theorem pj_b01 (x : Int32) (h : x = 0 ∨ x = 1) : vp_nar .boolean x = x := by rcases h with rfl | rfl <;> decide
theorem pj_byte (x : Int32) : -128 ≤ (vp_nar .byte (zs_i8 x)).toInt ∧ (vp_nar .byte (zs_i8 x)).toInt < 128 := by
  show -128 ≤ ((zs_i8 x).toInt8.toInt32).toInt ∧ ((zs_i8 x).toInt8.toInt32).toInt < 128
  rw [Int8.toInt_toInt32]
  exact ⟨Int8.le_toInt _, Int8.toInt_lt _⟩
/-- other fields than a village's, other arrays than a village's: what stands is not told by them -/
theorem pr_R_FA {T : zt_T} {M M' : cs_S} {Z Z' : zm_S} {s : Nat} {V : pv_V} {H : List pv_V} {at_ : Nat} (h : pr_R0 T M Z s V H at_)
    (a1 : ∀ o f, 10 ≤ o → M'.1 o f = M.1 o f) (a2 : ∀ o, 10 ≤ o → M'.2 o = M.2 o) (a3 : ∀ f, f = 4 ∨ f = 5 ∨ f = 6 → M'.1 0 f = M.1 0 f) (a4 : M'.2 0 13 = M.2 0 13) (a5 : M'.2 0 16 = M.2 0 16)
    (b1 : ∀ k, k = 17 ∨ k = 18 ∨ k = 53 → Z'.1 k = Z.1 k) (b2 : ∀ k, k ≠ 1 → k ≠ 64 → k ≠ 65 → k ≠ 66 → Z'.2.1 k = Z.2.1 k) (b3 : Z'.2.2 = Z.2.2) (hL : pr_L M' Z') (hP : pr_P M' Z') : pr_R0 T M' Z' s V H at_ := by
  obtain ⟨h1, h2, h3, h4, h5, h6, h7, h8, h9, h10, h11, h12, h13⟩ := h
  have hv : ∀ i W, pc_V M i W → pc_V M' i W := by
    rintro i W ⟨g1, g2, g3, g4, g5⟩
    refine ⟨fun k hk => ?_, ?_, fun k x e => ?_, ?_, ?_⟩
    · rw [a2 _ (by omega)]; exact g1 k hk
    · rw [a1 _ _ (by omega)]; exact g2
    · rw [a2 _ (by omega)]; exact g3 k x e
    · rw [a1 _ _ (by omega)]; exact g4
    · rw [a1 _ _ (by omega)]; exact g5
  refine ⟨h1, pm_T_tx ⟨b1 18 (by omega), fun k q => b2 k (by omega) (by omega) (by omega) (by omega)⟩ h2, h3, hv _ _ h4, (a1 _ _ (by omega)).trans h5, ?_, ?_, ?_, hL, hP, ?_, ?_, (congrFun a5 0).trans h13⟩
  · rw [b2 47 (by decide) (by decide) (by decide) (by decide)]; exact h6
  · obtain ⟨g1, g2, g3, g4, g5, g6⟩ := h7
    refine ⟨g1, g2, (a3 _ (by omega)).trans g3, (a3 _ (by omega)).trans g4, (b1 _ (by omega)).trans g5, fun j W e => ?_⟩
    obtain ⟨k1, k2, k3, k4⟩ := g6 j W e
    refine ⟨k1, hv _ _ k2, (a1 _ _ (by omega)).trans k3, ?_⟩
    rw [b2 54 (by decide) (by decide) (by decide) (by decide)]; exact k4
  · intro k hk
    obtain ⟨k1, k2⟩ := h8 k hk
    rw [a4, b2 69 (by decide) (by decide) (by decide) (by decide)]
    refine ⟨k1, k2.imp id (fun q => ⟨q.1, ?_⟩)⟩
    obtain ⟨W, w1, w2, w3, w4⟩ := q.2
    refine ⟨W, w1, hv _ _ w2, (a1 _ _ (by omega)).trans w3, ?_⟩
    rw [b2 70 (by decide) (by decide) (by decide) (by decide)]; exact w4
  · rw [a3 _ (by omega), b1 _ (by omega)]; exact h11
  · unfold pr_K; rw [b3]; exact h12
theorem pq_forget {T : zt_T} {M : cs_S} {Z : zm_S} {s : Nat} {V : pv_V} {H : List pv_V} {at_ : Nat} (h : pr_R0 T M Z s V H at_) :
    pw (gh_forget T M) (fun p => pw (gm_forget Z) (fun q => p.1 = q.1 ∧ pr_R T p.2 q.2)) := by
  obtain ⟨hT, hm, ho, hV, hsd, hrow, hH, hS, ⟨t, t1, t2, t3, t4⟩, ⟨p, p1, p2, p3, p4⟩, -, -⟩ := id h
  unfold gh_forget gm_forget
  simp only [pw_bind, pw_some]
  refine ⟨t2.trans t3.symm, s, V, H, at_, pr_R_FA h (fun o f q => ?_) (fun o q => rfl) (fun f q => ?_) rfl rfl (fun k q => ?_) (fun k _ _ _ _ => rfl) rfl ⟨0, by omega, rfl, rfl, fun j hj => absurd hj (Nat.not_lt_zero j)⟩ ⟨p, p1, ?_, ?_, p4⟩⟩
  · rw [pc_sF1, if_neg (by omega)]
  · rw [pc_sF1, if_neg (by omega)]
  · rw [pm_sF1, if_neg (by omega)]
  · rw [pc_sF1, if_neg (by omega)]; exact p2
  · rw [pm_sF1, if_neg (by omega)]; exact p3
theorem pc_sF1s (M : cs_S) (o k : Nat) (x : Int32) : (cs_sF M o k x).1 o k = x := if_pos ⟨rfl, rfl⟩
theorem pc_sF1n {M : cs_S} {o k p q : Nat} {x : Int32} (h : ¬ (p = o ∧ q = k)) : (cs_sF M o k x).1 p q = M.1 p q := if_neg h
theorem pm_sF1s (Z : zm_S) (k : Nat) (x : Int32) : (zm_sF Z k x).1 k = x := if_pos rfl
theorem pm_sF1n {Z : zm_S} {k j : Nat} {x : Int32} (h : j ≠ k) : (zm_sF Z k x).1 j = Z.1 j := if_neg h
theorem pq_tell {T : zt_T} {M : cs_S} {Z : zm_S} {s : Nat} {V : pv_V} {H : List pv_V} {at_ : Nat} (h : pr_R0 T M Z s V H at_) (a1 a2 a3 : Int32) (h3 : a3 = 0 ∨ a3 = 1) :
    pw (gh_tell T M a1 a2 a3) (fun p => pw (gm_tell Z a1 a2 a3) (fun q => p.1 = q.1 ∧ pr_R T p.2 q.2)) := by
  obtain ⟨hT, hm, ho, hV, hsd, hrow, hH, hS, ⟨t, t1, t2, t3, t4⟩, ⟨p, p1, p2, p3, p4⟩, -, -⟩ := id h
  unfold gh_tell gm_tell
  rw [pm_mark]
  simp (disch := omega) only [pj_lit, pj_add, pj_sub, pj_neg, pj_mul, pj_lt, pj_eq, pj_nat, pj_ald, pj_ast, pj_ix, pw_bind, pw_ite, pw_some, pw_none, pw_let, Option.bind_some, Int.toNat_natCast, Sum.elim_inl, Sum.elim_inr, Int.cast_ofNat_Int, Int.reduceLT, Int.reduceLE, Int.reduceEq, Int.reduceAdd, Int.reduceSub, Int.reduceMul, Int.reduceNeg, Int.reduceToNat, Nat.reduceAdd, Nat.reduceSub, Nat.reduceMul, Nat.reduceEqDiff, Nat.reduceLT, reduceIte, reduceCtorEq, true_and, and_true, forall_const, not_true_eq_false, not_false_eq_true, false_implies, implies_true, pc_isIn, pm_isIn, t2, t3, decide_eq_true_eq]
  by_cases h1 : 0 ≤ a1.toInt ∧ a1.toInt ≤ 5
  · by_cases h2 : 0 ≤ a2.toInt ∧ a2.toInt ≤ 99
    · by_cases h4 : t = 20
      · subst h4
        have : (((20 : Nat) : Int) = 20) := rfl
        simp (disch := omega) only [pj_lit, pj_add, pj_sub, pj_neg, pj_mul, pj_lt, pj_eq, pj_nat, pj_ald, pj_ast, pj_ix, pw_bind, pw_ite, pw_some, pw_none, pw_let, Option.bind_some, Int.toNat_natCast, Sum.elim_inl, Sum.elim_inr, Int.cast_ofNat_Int, Int.reduceLT, Int.reduceLE, Int.reduceEq, Int.reduceAdd, Int.reduceSub, Int.reduceMul, Int.reduceNeg, Int.reduceToNat, Nat.reduceAdd, Nat.reduceSub, Nat.reduceMul, Nat.reduceEqDiff, Nat.reduceLT, reduceIte, reduceCtorEq, true_and, and_true, forall_const, not_true_eq_false, not_false_eq_true, false_implies, implies_true, h1, h2, this, and_self]
        exact ⟨s, V, H, at_, h⟩
      · have h4' : ¬ ((t : Int) = 20) := by omega
        obtain ⟨x, rfl, hx0, hx⟩ := pj_range (lo := 0) (hi := 5) h1
        generalize hv : a2.toInt = v at h2
        obtain rfl : a2 = pj v := by rw [← hv, pj_of]
        have e1 : ∀ x, x = 0 ∨ x = 1 → vp_nar .boolean x = x := pj_b01
        simp (disch := omega) only [pj_lit, pj_add, pj_sub, pj_neg, pj_mul, pj_lt, pj_eq, pj_nat, pj_ald, pj_ast, pj_ix, pw_bind, pw_ite, pw_some, pw_none, pw_let, Option.bind_some, Int.toNat_natCast, Sum.elim_inl, Sum.elim_inr, Int.cast_ofNat_Int, Int.reduceLT, Int.reduceLE, Int.reduceEq, Int.reduceAdd, Int.reduceSub, Int.reduceMul, Int.reduceNeg, Int.reduceToNat, Nat.reduceAdd, Nat.reduceSub, Nat.reduceMul, Nat.reduceEqDiff, Nat.reduceLT, reduceIte, reduceCtorEq, true_and, and_true, forall_const, not_true_eq_false, not_false_eq_true, false_implies, implies_true, h1, h2, h4', and_self, pc_sA1, pm_sA1, t2, t3, e1 a3 h3]
        refine ⟨by rw [pc_sF1s, pm_sF1s], s, V, H, at_, pr_R_FA h (fun o f q => ?_) (fun o q => funext fun f => ?_) (fun f q => ?_) ?_ ?_ (fun k q => ?_) (fun k q1 q2 q3 q4 => ?_) rfl ⟨t + 1, by omega, ?_, ?_, fun j hj => ?_⟩ ⟨p, p1, ?_, ?_, fun j hj => ?_⟩⟩
        · rw [pc_sF1n (by omega)]; rfl
        · rw [pc_sF2, pc_sA2n (by omega), pc_sA2n (by omega), pc_sA2n (by omega)]
        · rw [pc_sF1n (by omega)]; rfl
        · rw [pc_sF2, pc_sA2n (by omega), pc_sA2n (by omega), pc_sA2n (by omega)]
        · rw [pc_sF2, pc_sA2n (by omega), pc_sA2n (by omega), pc_sA2n (by omega)]
        · rw [pm_sF1n (by omega)]; rfl
        · rw [pm_sF2, pm_sAn (by omega), pm_sAn (by omega), pm_sAn (by omega)]
        · rw [pc_sF1s]; rfl
        · rw [pm_sF1s]; rfl
        · rw [pc_sF2, pm_sF2, pc_sA2n (by omega), pc_sA2n (by omega), pc_sA2s, pm_sAn (by omega), pm_sAn (by omega), pm_sAs, pc_sA2n (by omega), pc_sA2s, pc_sA2n (by omega), pm_sAn (by omega), pm_sAs, pm_sAn (by omega), pc_sA2s, pm_sAs,
            pc_sA2n (by omega), pc_sA2n (by omega), pm_sAn (by omega), pm_sAn (by omega)]
          simp only [pj_upd]
          rw [pj_nat (by omega), Int.toNat_natCast]
          by_cases e : j = t
          · rw [if_pos e, if_pos e, if_pos e, if_pos e, if_pos e, if_pos e]
            exact ⟨rfl, rfl, rfl, ⟨x, by omega, rfl⟩, ⟨v, h2.1, h2.2, rfl⟩, h3⟩
          · rw [if_neg e, if_neg e, if_neg e, if_neg e, if_neg e, if_neg e]
            exact t4 j (by omega)
        · rw [pc_sF1n (by omega)]; exact p2
        · rw [pm_sF1n (by omega)]; exact p3
        · rw [pc_sF2, pm_sF2, pc_sA2n (by omega), pc_sA2n (by omega), pc_sA2n (by omega), pm_sAn (by omega), pm_sAn (by omega), pm_sAn (by omega)]; exact p4 j hj
    · by_cases h4 : (t : Int) = 20
      · simp (disch := omega) only [pj_lit, pj_add, pj_sub, pj_neg, pj_mul, pj_lt, pj_eq, pj_nat, pj_ald, pj_ast, pj_ix, pw_bind, pw_ite, pw_some, pw_none, pw_let, Option.bind_some, Int.toNat_natCast, Sum.elim_inl, Sum.elim_inr, Int.cast_ofNat_Int, Int.reduceLT, Int.reduceLE, Int.reduceEq, Int.reduceAdd, Int.reduceSub, Int.reduceMul, Int.reduceNeg, Int.reduceToNat, Nat.reduceAdd, Nat.reduceSub, Nat.reduceMul, Nat.reduceEqDiff, Nat.reduceLT, reduceIte, reduceCtorEq, true_and, and_true, forall_const, not_true_eq_false, not_false_eq_true, false_implies, implies_true, h1, h2, h4, and_self, and_false, false_and]
        exact ⟨s, V, H, at_, h⟩
      · simp (disch := omega) only [pj_lit, pj_add, pj_sub, pj_neg, pj_mul, pj_lt, pj_eq, pj_nat, pj_ald, pj_ast, pj_ix, pw_bind, pw_ite, pw_some, pw_none, pw_let, Option.bind_some, Int.toNat_natCast, Sum.elim_inl, Sum.elim_inr, Int.cast_ofNat_Int, Int.reduceLT, Int.reduceLE, Int.reduceEq, Int.reduceAdd, Int.reduceSub, Int.reduceMul, Int.reduceNeg, Int.reduceToNat, Nat.reduceAdd, Nat.reduceSub, Nat.reduceMul, Nat.reduceEqDiff, Nat.reduceLT, reduceIte, reduceCtorEq, true_and, and_true, forall_const, not_true_eq_false, not_false_eq_true, false_implies, implies_true, h1, h2, h4, and_self, and_false, false_and]
        exact ⟨s, V, H, at_, h⟩
  · by_cases h4 : (t : Int) = 20
    · simp (disch := omega) only [pj_lit, pj_add, pj_sub, pj_neg, pj_mul, pj_lt, pj_eq, pj_nat, pj_ald, pj_ast, pj_ix, pw_bind, pw_ite, pw_some, pw_none, pw_let, Option.bind_some, Int.toNat_natCast, Sum.elim_inl, Sum.elim_inr, Int.cast_ofNat_Int, Int.reduceLT, Int.reduceLE, Int.reduceEq, Int.reduceAdd, Int.reduceSub, Int.reduceMul, Int.reduceNeg, Int.reduceToNat, Nat.reduceAdd, Nat.reduceSub, Nat.reduceMul, Nat.reduceEqDiff, Nat.reduceLT, reduceIte, reduceCtorEq, true_and, and_true, forall_const, not_true_eq_false, not_false_eq_true, false_implies, implies_true, h1, h4, and_self, and_false, false_and]
      exact ⟨s, V, H, at_, h⟩
    · simp (disch := omega) only [pj_lit, pj_add, pj_sub, pj_neg, pj_mul, pj_lt, pj_eq, pj_nat, pj_ald, pj_ast, pj_ix, pw_bind, pw_ite, pw_some, pw_none, pw_let, Option.bind_some, Int.toNat_natCast, Sum.elim_inl, Sum.elim_inr, Int.cast_ofNat_Int, Int.reduceLT, Int.reduceLE, Int.reduceEq, Int.reduceAdd, Int.reduceSub, Int.reduceMul, Int.reduceNeg, Int.reduceToNat, Nat.reduceAdd, Nat.reduceSub, Nat.reduceMul, Nat.reduceEqDiff, Nat.reduceLT, reduceIte, reduceCtorEq, true_and, and_true, forall_const, not_true_eq_false, not_false_eq_true, false_implies, implies_true, h1, h4, and_self, and_false, false_and]
      exact ⟨s, V, H, at_, h⟩
/-! the tape -/
def pf_b (a : Int32) (k : Nat) : Int32 := vp_nar .byte (zs_i8 (zs_shr a (pj (24 - 8 * (k : Int)))))
theorem pf_bd (a : Int32) (k : Nat) : -128 ≤ (pf_b a k).toInt ∧ (pf_b a k).toInt < 128 := pj_byte _
def pc_tp (M M' : cs_S) (p q : Nat) : Prop := M'.1 2 2 = pj (q : Nat) ∧ (∀ o f, ¬ (o = 2 ∧ f = 2) → M'.1 o f = M.1 o f) ∧ (∀ o f, ¬ (o = 2 ∧ f = 1) → M'.2 o f = M.2 o f) ∧ ∀ j, j < p → M'.2 2 1 j = M.2 2 1 j
def pm_tp (Z Z' : zm_S) (p q : Nat) : Prop := Z'.1 2 = pj (q : Nat) ∧ (∀ k, k ≠ 2 → Z'.1 k = Z.1 k) ∧ (∀ k, k ≠ 1 → Z'.2.1 k = Z.2.1 k) ∧ Z'.2.2 = Z.2.2 ∧ ∀ j, j < p → Z'.2.1 1 j = Z.2.1 1 j
theorem pc_tp_trans {A B C : cs_S} {p q r : Nat} (h : pc_tp A B p q) (g : pc_tp B C q r) (hpq : p ≤ q) : pc_tp A C p r := ⟨g.1, fun o f c => (g.2.1 o f c).trans (h.2.1 o f c), fun o f c => (g.2.2.1 o f c).trans (h.2.2.1 o f c), fun j hj => (g.2.2.2 j (by omega)).trans (h.2.2.2 j hj)⟩
theorem pm_tp_trans {A B C : zm_S} {p q r : Nat} (h : pm_tp A B p q) (g : pm_tp B C q r) (hpq : p ≤ q) : pm_tp A C p r := ⟨g.1, fun o c => (g.2.1 o c).trans (h.2.1 o c), fun o c => (g.2.2.1 o c).trans (h.2.2.1 o c), g.2.2.2.1.trans h.2.2.2.1, fun j hj => (g.2.2.2.2 j (by omega)).trans (h.2.2.2.2 j hj)⟩
theorem pc_typed {M : cs_S} (T : zt_T) (a : Int32) {p : Nat} (hp : M.1 2 2 = pj p) (h4 : p + 4 ≤ 2000) : ∃ M', gh_typed T M a = some M' ∧ pc_tp M M' p (p + 4) ∧ ∀ k, k < 4 → M'.2 2 1 (p + k) = pf_b a k := by
  have := pw_for (b := gh_typed_L3 a) (Q := fun M' => pc_tp M M' p (p + 4) ∧ ∀ k, k < 4 → M'.2 2 1 (p + k) = pf_b a k) 4 (fun k t => ∃ M', t = (pj (24 - 8 * (k : Int)), M') ∧ pc_tp M M' p (p + k) ∧ ∀ j, j < k → M'.2 2 1 (p + j) = pf_b a j) 5000 (by omega) ?_ ?_ (pj 24, M) ⟨M, rfl, ⟨hp, fun _ _ _ => rfl, fun _ _ _ => rfl, fun _ _ => rfl⟩, fun j hj => absurd hj (Nat.not_lt_zero j)⟩
  · obtain ⟨M', e, q1, q2⟩ := this
    refine ⟨M', ?_, q1, q2⟩
    unfold gh_typed
    rw [pj_lit]
    show (zs_loop 5000 (gh_typed_L3 a) (pj 24, M)).bind _ = _
    rw [e]; rfl
  · rintro k t hk ⟨M1, rfl, ⟨g1, g2, g3, g4⟩, g5⟩
    have hlt : ¬ (24 - 8 * (k : Int) < 0) := by omega
    unfold gh_typed_L3
    simp (disch := omega) only [pj_lit, pj_add, pj_sub, pj_neg, pj_mul, pj_lt, pj_eq, pj_nat, pj_ald, pj_ast, pj_ix, pw_bind, pw_ite, pw_some, pw_none, pw_let, Option.bind_some, Int.toNat_natCast, Sum.elim_inl, Sum.elim_inr, Int.cast_ofNat_Int, Int.reduceLT, Int.reduceLE, Int.reduceEq, Int.reduceAdd, Int.reduceSub, Int.reduceMul, Int.reduceNeg, Int.reduceToNat, Nat.reduceAdd, Nat.reduceSub, Nat.reduceMul, Nat.reduceEqDiff, Nat.reduceLT, reduceIte, reduceCtorEq, true_and, and_true, forall_const, not_true_eq_false, not_false_eq_true, false_implies, implies_true, hlt, g1, pc_sA1]
    refine ⟨_, by congr 2; omega, ⟨?_, fun o f c => ?_, fun o f c => ?_, fun j hj => ?_⟩, fun j hj => ?_⟩
    · rw [pc_sF1s]; congr 1
    · rw [pc_sF1n c]; exact g2 o f c
    · rw [pc_sF2, pc_sA2n c]; exact g3 o f c
    · rw [pc_sF2, pc_sA2s, pj_upd, pj_nat (by omega), Int.toNat_natCast, if_neg (by omega)]; exact g4 j hj
    · rw [pc_sF2, pc_sA2s, pj_upd, pj_nat (by omega), Int.toNat_natCast]
      by_cases e : j = k
      · rw [if_pos (by omega), e]; rfl
      · rw [if_neg (by omega)]; exact g5 j (by omega)
  · rintro t ⟨M1, rfl, g1, g5⟩
    have hlt : (24 - 8 * ((4 : Nat) : Int) < 0) := by omega
    unfold gh_typed_L3
    simp (disch := omega) only [pj_lit, pj_add, pj_sub, pj_neg, pj_mul, pj_lt, pj_eq, pj_nat, pj_ald, pj_ast, pj_ix, pw_bind, pw_ite, pw_some, pw_none, pw_let, Option.bind_some, Int.toNat_natCast, Sum.elim_inl, Sum.elim_inr, Int.cast_ofNat_Int, Int.reduceLT, Int.reduceLE, Int.reduceEq, Int.reduceAdd, Int.reduceSub, Int.reduceMul, Int.reduceNeg, Int.reduceToNat, Nat.reduceAdd, Nat.reduceSub, Nat.reduceMul, Nat.reduceEqDiff, Nat.reduceLT, reduceIte, reduceCtorEq, true_and, and_true, forall_const, not_true_eq_false, not_false_eq_true, false_implies, implies_true, hlt]
    exact ⟨g1, g5⟩
theorem pm_lays {Z : zm_S} (a : Int32) {p : Nat} (hp : Z.1 2 = pj p) (h4 : p + 4 ≤ 2000) : ∃ Z', gm_lays Z a = some Z' ∧ pm_tp Z Z' p (p + 4) ∧ ∀ k, k < 4 → Z'.2.1 1 (p + k) = pf_b a k := by
  have := pw_for (b := gm_lays_L3 a) (Q := fun M' => pm_tp Z M' p (p + 4) ∧ ∀ k, k < 4 → M'.2.1 1 (p + k) = pf_b a k) 4 (fun k t => ∃ M', t = (pj (24 - 8 * (k : Int)), M') ∧ pm_tp Z M' p (p + k) ∧ ∀ j, j < k → M'.2.1 1 (p + j) = pf_b a j) 5000 (by omega) ?_ ?_ (pj 24, Z) ⟨Z, rfl, ⟨hp, fun _ _ => rfl, fun _ _ => rfl, rfl, fun _ _ => rfl⟩, fun j hj => absurd hj (Nat.not_lt_zero j)⟩
  · obtain ⟨M', e, q1, q2⟩ := this
    refine ⟨M', ?_, q1, q2⟩
    unfold gm_lays
    rw [pj_lit]
    show (zs_loop 5000 (gm_lays_L3 a) (pj 24, Z)).bind _ = _
    rw [e]; rfl
  · rintro k t hk ⟨M1, rfl, ⟨g1, g2, g3, g6, g4⟩, g5⟩
    have hlt : ¬ (24 - 8 * (k : Int) < 0) := by omega
    unfold gm_lays_L3
    simp (disch := omega) only [pj_lit, pj_add, pj_sub, pj_neg, pj_mul, pj_lt, pj_eq, pj_nat, pj_ald, pj_ast, pj_ix, pw_bind, pw_ite, pw_some, pw_none, pw_let, Option.bind_some, Int.toNat_natCast, Sum.elim_inl, Sum.elim_inr, Int.cast_ofNat_Int, Int.reduceLT, Int.reduceLE, Int.reduceEq, Int.reduceAdd, Int.reduceSub, Int.reduceMul, Int.reduceNeg, Int.reduceToNat, Nat.reduceAdd, Nat.reduceSub, Nat.reduceMul, Nat.reduceEqDiff, Nat.reduceLT, reduceIte, reduceCtorEq, true_and, and_true, forall_const, not_true_eq_false, not_false_eq_true, false_implies, implies_true, hlt, g1, pm_sA1]
    refine ⟨zm_sF (zm_sA M1 1 (pj ((p + k : Nat) : Int)) (pf_b a k)) 2 (pj (((p + k : Nat) : Int) + 1)), by congr 2; omega, ⟨?_, fun o c => ?_, fun o c => ?_, g6, fun j hj => ?_⟩, fun j hj => ?_⟩
    · rw [pm_sF1s]; congr 1
    · rw [pm_sF1n c]; exact g2 o c
    · rw [pm_sF2, pm_sAn c]; exact g3 o c
    · rw [pm_sF2, pm_sAs, pj_upd, pj_nat (by omega), Int.toNat_natCast, if_neg (by omega)]; exact g4 j hj
    · rw [pm_sF2, pm_sAs, pj_upd, pj_nat (by omega), Int.toNat_natCast]
      by_cases e : j = k
      · rw [if_pos (by omega), e]
      · rw [if_neg (by omega)]; exact g5 j (by omega)
  · rintro t ⟨M1, rfl, g1, g5⟩
    have hlt : (24 - 8 * ((4 : Nat) : Int) < 0) := by omega
    unfold gm_lays_L3
    simp (disch := omega) only [pj_lit, pj_add, pj_sub, pj_neg, pj_mul, pj_lt, pj_eq, pj_nat, pj_ald, pj_ast, pj_ix, pw_bind, pw_ite, pw_some, pw_none, pw_let, Option.bind_some, Int.toNat_natCast, Sum.elim_inl, Sum.elim_inr, Int.cast_ofNat_Int, Int.reduceLT, Int.reduceLE, Int.reduceEq, Int.reduceAdd, Int.reduceSub, Int.reduceMul, Int.reduceNeg, Int.reduceToNat, Nat.reduceAdd, Nat.reduceSub, Nat.reduceMul, Nat.reduceEqDiff, Nat.reduceLT, reduceIte, reduceCtorEq, true_and, and_true, forall_const, not_true_eq_false, not_false_eq_true, false_implies, implies_true, hlt]
    exact ⟨g1, g5⟩
/-- both tapes alike up to a place -/
def pf_E (M : cs_S) (Z : zm_S) (p : Nat) : Prop := ∀ j, j < p → M.2 2 1 j = Z.2.1 1 j ∧ -128 ≤ (Z.2.1 1 j).toInt ∧ (Z.2.1 1 j).toInt < 128
theorem pf_step {M M' : cs_S} {Z Z' : zm_S} {p : Nat} {a : Int32} (h : pf_E M Z p) (g1 : pc_tp M M' p (p + 4)) (g2 : ∀ k, k < 4 → M'.2 2 1 (p + k) = pf_b a k) (g3 : pm_tp Z Z' p (p + 4)) (g4 : ∀ k, k < 4 → Z'.2.1 1 (p + k) = pf_b a k) : pf_E M' Z' (p + 4) := by
  intro j hj
  by_cases e : j < p
  · rw [g1.2.2.2 j e, g3.2.2.2.2 j e]; exact h j e
  · have h1 := g2 (j - p) (by omega)
    have h2 := g4 (j - p) (by omega)
    rw [show p + (j - p) = j by omega] at h1 h2
    rw [h1, h2]
    exact ⟨rfl, pf_bd _ _⟩
theorem pq_feed {T : zt_T} {M : cs_S} {Z : zm_S} {s : Nat} {V : pv_V} {H : List pv_V} {at_ : Nat} (h : pr_R0 T M Z s V H at_) (a b c d e : Int32) :
    pw (gh_feed T M a b c d e) (fun p => pw (gm_feed Z a b c d e) (fun q => p.1 = q.1 ∧ pr_R T p.2 q.2)) := by
  obtain ⟨hT, hm, ho, hV, hsd, hrow, hH, hS, ⟨t, t1, t2, t3, t4⟩, ⟨p, p1, p2, p3, p4⟩, -, -⟩ := id h
  unfold gh_feed gm_feed
  by_cases hp : 2000 < p + 20
  · have hp' : 2000 < (p : Int) + 20 := by omega
    simp (disch := omega) only [pj_lit, pj_add, pj_sub, pj_neg, pj_mul, pj_lt, pj_eq, pj_nat, pj_ald, pj_ast, pj_ix, pw_bind, pw_ite, pw_some, pw_none, pw_let, Option.bind_some, Int.toNat_natCast, Sum.elim_inl, Sum.elim_inr, Int.cast_ofNat_Int, Int.reduceLT, Int.reduceLE, Int.reduceEq, Int.reduceAdd, Int.reduceSub, Int.reduceMul, Int.reduceNeg, Int.reduceToNat, Nat.reduceAdd, Nat.reduceSub, Nat.reduceMul, Nat.reduceEqDiff, Nat.reduceLT, reduceIte, reduceCtorEq, true_and, and_true, forall_const, not_true_eq_false, not_false_eq_true, false_implies, implies_true, p2, p3, hp']
    exact ⟨s, V, H, at_, h⟩
  · have hp' : ¬ 2000 < (p : Int) + 20 := by omega
    obtain ⟨M1, c1, c2, c3⟩ := pc_typed T a p2 (by omega)
    obtain ⟨M2, d1, d2, d3⟩ := pc_typed T b c2.1 (by omega)
    obtain ⟨M3, e1, e2, e3⟩ := pc_typed T c d2.1 (by omega)
    obtain ⟨M4, f1, f2, f3⟩ := pc_typed T d e2.1 (by omega)
    obtain ⟨M5, g1, g2, g3⟩ := pc_typed T e f2.1 (by omega)
    obtain ⟨Z1, i1, i2, i3⟩ := pm_lays a p3 (by omega)
    obtain ⟨Z2, j1, j2, j3⟩ := pm_lays b i2.1 (by omega)
    obtain ⟨Z3, k1, k2, k3⟩ := pm_lays c j2.1 (by omega)
    obtain ⟨Z4, l1, l2, l3⟩ := pm_lays d k2.1 (by omega)
    obtain ⟨Z5, m1, m2, m3⟩ := pm_lays e l2.1 (by omega)
    have E5 := pf_step (pf_step (pf_step (pf_step (pf_step p4 c2 c3 i2 i3) d2 d3 j2 j3) e2 e3 k2 k3) f2 f3 l2 l3) g2 g3 m2 m3
    have tM := pc_tp_trans (pc_tp_trans (pc_tp_trans (pc_tp_trans c2 d2 (by omega)) e2 (by omega)) f2 (by omega)) g2 (by omega)
    have tZ := pm_tp_trans (pm_tp_trans (pm_tp_trans (pm_tp_trans i2 j2 (by omega)) k2 (by omega)) l2 (by omega)) m2 (by omega)
    simp (disch := omega) only [pj_lit, pj_add, pj_sub, pj_neg, pj_mul, pj_lt, pj_eq, pj_nat, pj_ald, pj_ast, pj_ix, pw_bind, pw_ite, pw_some, pw_none, pw_let, Option.bind_some, Int.toNat_natCast, Sum.elim_inl, Sum.elim_inr, Int.cast_ofNat_Int, Int.reduceLT, Int.reduceLE, Int.reduceEq, Int.reduceAdd, Int.reduceSub, Int.reduceMul, Int.reduceNeg, Int.reduceToNat, Nat.reduceAdd, Nat.reduceSub, Nat.reduceMul, Nat.reduceEqDiff, Nat.reduceLT, reduceIte, reduceCtorEq, true_and, and_true, forall_const, not_true_eq_false, not_false_eq_true, false_implies, implies_true, p2, p3, hp', c1, d1, e1, f1, g1, i1, j1, k1, l1, m1]
    refine ⟨tM.1.trans tZ.1.symm, s, V, H, at_, pr_R_FA h (fun o f q => tM.2.1 o f (by omega)) (fun o q => funext fun f => tM.2.2.1 o f (by omega)) (fun f q => tM.2.1 0 f (by omega)) (tM.2.2.1 0 13 (by omega)) (tM.2.2.1 0 16 (by omega)) (fun k q => tZ.2.1 k (by omega)) (fun k q1 q2 q3 q4 => tZ.2.2.1 k q1) tZ.2.2.2.1 ⟨t, t1, (tM.2.1 0 19 (by omega)).trans t2, (tZ.2.1 63 (by omega)).trans t3, fun j hj => ?_⟩ ⟨p + 4 + 4 + 4 + 4 + 4, by omega, tM.1, tZ.1, E5⟩⟩
    rw [tM.2.2.1 0 22 (by omega), tM.2.2.1 0 23 (by omega), tM.2.2.1 0 24 (by omega), tZ.2.2.1 64 (by omega), tZ.2.2.1 65 (by omega), tZ.2.2.1 66 (by omega)]
    exact t4 j hj
theorem pq_back {T : zt_T} {M : cs_S} {Z : zm_S} {s : Nat} {V : pv_V} {H : List pv_V} {at_ : Nat} (h : pr_R0 T M Z s V H at_) (a : Int32) :
    pw (gh_back T M a) (fun p => pw (gm_back Z a) (fun q => p.1 = q.1 ∧ pr_R T p.2 q.2)) := by
  obtain ⟨hT, hm, ho, hV, hsd, hrow, hH, hS, ⟨t, t1, t2, t3, t4⟩, ⟨p, p1, p2, p3, p4⟩, -, -⟩ := id h
  generalize hw : a.toInt = w
  obtain rfl : a = pj w := by rw [← hw, pj_of]
  have hb := pj_bd (pj w)
  rw [hw] at hb
  unfold gh_back gm_back
  by_cases q1 : w < 0
  · simp (disch := omega) only [pj_lit, pj_add, pj_sub, pj_neg, pj_mul, pj_lt, pj_eq, pj_nat, pj_ald, pj_ast, pj_ix, pw_bind, pw_ite, pw_some, pw_none, pw_let, Option.bind_some, Int.toNat_natCast, Sum.elim_inl, Sum.elim_inr, Int.cast_ofNat_Int, Int.reduceLT, Int.reduceLE, Int.reduceEq, Int.reduceAdd, Int.reduceSub, Int.reduceMul, Int.reduceNeg, Int.reduceToNat, Nat.reduceAdd, Nat.reduceSub, Nat.reduceMul, Nat.reduceEqDiff, Nat.reduceLT, reduceIte, reduceCtorEq, true_and, and_true, forall_const, not_true_eq_false, not_false_eq_true, false_implies, implies_true, p2, p3, q1]
    exact ⟨s, V, H, at_, h⟩
  · by_cases q2 : (p : Int) < w
    · simp (disch := omega) only [pj_lit, pj_add, pj_sub, pj_neg, pj_mul, pj_lt, pj_eq, pj_nat, pj_ald, pj_ast, pj_ix, pw_bind, pw_ite, pw_some, pw_none, pw_let, Option.bind_some, Int.toNat_natCast, Sum.elim_inl, Sum.elim_inr, Int.cast_ofNat_Int, Int.reduceLT, Int.reduceLE, Int.reduceEq, Int.reduceAdd, Int.reduceSub, Int.reduceMul, Int.reduceNeg, Int.reduceToNat, Nat.reduceAdd, Nat.reduceSub, Nat.reduceMul, Nat.reduceEqDiff, Nat.reduceLT, reduceIte, reduceCtorEq, true_and, and_true, forall_const, not_true_eq_false, not_false_eq_true, false_implies, implies_true, p2, p3, q1, q2]
      exact ⟨s, V, H, at_, h⟩
    · simp (disch := omega) only [pj_lit, pj_add, pj_sub, pj_neg, pj_mul, pj_lt, pj_eq, pj_nat, pj_ald, pj_ast, pj_ix, pw_bind, pw_ite, pw_some, pw_none, pw_let, Option.bind_some, Int.toNat_natCast, Sum.elim_inl, Sum.elim_inr, Int.cast_ofNat_Int, Int.reduceLT, Int.reduceLE, Int.reduceEq, Int.reduceAdd, Int.reduceSub, Int.reduceMul, Int.reduceNeg, Int.reduceToNat, Nat.reduceAdd, Nat.reduceSub, Nat.reduceMul, Nat.reduceEqDiff, Nat.reduceLT, reduceIte, reduceCtorEq, true_and, and_true, forall_const, not_true_eq_false, not_false_eq_true, false_implies, implies_true, p2, p3, q1, q2]
      refine ⟨by rw [pc_sF1s, pm_sF1s], s, V, H, at_, pr_R_FA h (fun o f q => ?_) (fun o q => rfl) (fun f q => ?_) rfl rfl (fun k q => ?_) (fun k _ _ _ _ => rfl) rfl ⟨t, t1, ?_, ?_, t4⟩ ⟨(p - w).toNat, by omega, ?_, ?_, fun j hj => p4 j (by omega)⟩⟩
      · rw [pc_sF1n (by omega)]
      · rw [pc_sF1n (by omega)]
      · rw [pm_sF1n (by omega)]
      · rw [pc_sF1n (by omega)]; exact t2
      · rw [pm_sF1n (by omega)]; exact t3
      · rw [pc_sF1s]; congr 1; omega
      · rw [pm_sF1s]; congr 1; omega
/-! a plait is spliced, plaits are lost -/
def pv_spl (T : zt_T) (V : pv_V) (x : Nat) : pv_V := (fun h => if h = x then 0 else pv_h V h, fun h => if h = x then pv_h V x else pv_p V h, fun h => if h = x then pt_s T x else pv_s V h, fun h => if h = x then pv_g V x + 1 else pv_g V h, pv_r V ++ [x], pv_y V, pv_d V)
theorem pv_nop {n : Nat} {V : pv_V} (ho : pv_ok n V) {x : Nat} (hx : x < 6) (h : ¬ 0 < pv_p V x) : x ∉ pv_r V := fun q => h ((ho.2.1 x hx).2.2.2.2.2.2.2 q)
theorem pv_spl_ok {T : zt_T} {V : pv_V} (hT : pt_ok T) (ho : pv_ok (zt_n T) V) {x : Nat} (hx : x < zt_n T) (h1 : ¬ 0 < pv_p V x) (h2 : 0 < pv_h V x) : pv_ok (zt_n T) (pv_spl T V x) := by
  have hn := ho.1
  have hnx := pv_nop ho (by omega) h1
  have hbx := ho.2.1 x (by omega)
  have hsx := hT.2.1 x hx
  refine ⟨hn, fun h hh => ?_, ?_, fun h hh => ?_, fun h h3 h4 => ?_⟩
  · have b := ho.2.1 h hh
    show 0 ≤ (if h = x then 0 else pv_h V h) ∧ (if h = x then 0 else pv_h V h) ≤ 99 ∧ 0 ≤ (if h = x then pv_h V x else pv_p V h) ∧ (if h = x then pv_h V x else pv_p V h) ≤ 99 ∧ 0 ≤ (if h = x then pt_s T x else pv_s V h) ∧ (if h = x then pt_s T x else pv_s V h) ≤ 99 ∧ (0 < (if h = x then pv_h V x else pv_p V h) ↔ h ∈ pv_r V ++ [x])
    by_cases e : h = x
    · rw [if_pos e, if_pos e, if_pos e]
      refine ⟨by omega, by omega, by omega, by omega, by omega, by omega, fun _ => ?_, fun _ => h2⟩
      rw [e]; exact List.mem_append_right _ List.mem_cons_self
    · rw [if_neg e, if_neg e, if_neg e]
      refine ⟨b.1, b.2.1, b.2.2.1, b.2.2.2.1, b.2.2.2.2.1, b.2.2.2.2.2.1, b.2.2.2.2.2.2.trans ⟨fun q => List.mem_append_left _ q, fun q => ?_⟩⟩
      rcases List.mem_append.1 q with q | q
      · exact q
      · exact absurd (List.mem_singleton.1 q) e
  · show (pv_r V ++ [x]).Nodup
    rw [List.nodup_append]
    refine ⟨ho.2.2.1, by simp, fun a ha b hb e => ?_⟩
    rw [List.mem_singleton] at hb
    exact hnx (by rw [← hb, ← e]; exact ha)
  · rcases List.mem_append.1 (show h ∈ pv_r V ++ [x] from hh) with q | q
    · exact ho.2.2.2.1 h q
    · rw [List.mem_singleton.1 q]; exact hx
  · have := ho.2.2.2.2 h h3 h4
    refine ⟨?_, ?_, ?_⟩
    · show (if h = x then 0 else pv_h V h) = 0
      rw [if_neg (by omega)]; exact this.1
    · show (if h = x then pt_s T x else pv_s V h) = 0
      rw [if_neg (by omega)]; exact this.2.1
    · show (if h = x then pv_g V x + 1 else pv_g V h) = 0
      rw [if_neg (by omega)]; exact this.2.2
theorem pv_app_get {l : List Nat} {x k y : Nat} (e : (l ++ [x])[k]? = some y) : (k < l.length ∧ l[k]? = some y) ∨ (k = l.length ∧ y = x) := by
  rw [List.getElem?_append] at e
  split at e
  · exact Or.inl ⟨by assumption, e⟩
  · right
    have hk : k - l.length = 0 := by
      by_cases q : k - l.length = 0
      · exact q
      · rw [show k - l.length = (k - l.length - 1) + 1 by omega] at e; cases e
    rw [hk] at e
    injection e with e
    exact ⟨by omega, e.symm⟩
theorem pc_spl {T : zt_T} {M : cs_S} {V : pv_V} (hT : pt_ok T) (hV : pc_V M 0 V) (ho : pv_ok (zt_n T) V) {x : Nat} (hx : x < zt_n T) (h1 : ¬ 0 < pv_p V x) (h2 : 0 < pv_h V x) :
    ∃ M', gv_splices T M 0 (pj x) = some M' ∧ pc_V M' 0 (pv_spl T V x) ∧ pc_o 0 M M' ∧ M'.1 (10 + 0) 8 = M.1 (10 + 0) 8 := by
  have hn := hT.1
  have hx6 : x < 6 := by omega
  have hok := pv_spl_ok hT ho hx h1 h2
  have hl : (pv_r V).length + 1 ≤ zt_n T := by
    have := pv_len hok
    rw [show pv_r (pv_spl T V x) = pv_r V ++ [x] from rfl, List.length_append] at this
    exact this
  obtain ⟨c0, c1, c2, c3⟩ := hV.1 x hx6
  have e5 := hV.2.1
  have r3 : ∀ a b c, (cs_sA (cs_sA (cs_sA M (10 + 0) 1 (pj x) a) (10 + 0) 2 (pj x) b) (10 + 0) 0 (pj x) c).2 (10 + 0) 3 x = pv_g V x := fun a b c => by rw [pc_sA2n (by omega), pc_sA2n (by omega), pc_sA2n (by omega)]; exact c3
  unfold gv_splices
  simp (disch := omega) only [pj_lit, pj_add, pj_sub, pj_neg, pj_mul, pj_lt, pj_eq, pj_nat, pj_ald, pj_ast, pj_ix, pw_bind, pw_ite, pw_some, pw_none, pw_let, Option.bind_some, Int.toNat_natCast, Sum.elim_inl, Sum.elim_inr, Int.cast_ofNat_Int, Int.reduceLT, Int.reduceLE, Int.reduceEq, Int.reduceAdd, Int.reduceSub, Int.reduceMul, Int.reduceNeg, Int.reduceToNat, Nat.reduceAdd, Nat.reduceSub, Nat.reduceMul, Nat.reduceEqDiff, Nat.reduceLT, reduceIte, reduceCtorEq, true_and, and_true, forall_const, not_true_eq_false, not_false_eq_true, false_implies, implies_true, c0, pt_s_eq, r3, pc_sA1, e5]
  refine ⟨_, rfl, ?_, ⟨fun o f q => ?_, fun o f q => ?_⟩, ?_⟩
  · obtain ⟨g1, g2, g3, g4, g5⟩ := hV
    have up : ∀ (f : Nat → Int32) (v : Int32) (h : Nat), upd f (pj (x : Nat)).toNatClampNeg v h = if h = x then v else f h := fun f v h => by rw [pj_nat (by omega), Int.toNat_natCast, pj_upd]
    refine ⟨fun h hh => ⟨?_, ?_, ?_, ?_⟩, ?_, fun k y e => ?_, ?_, ?_⟩
    · rw [pc_sF2, pc_sA2n (by omega), pc_sA2n (by omega), pc_sA2s, up, pc_sA2n (by omega), pc_sA2n (by omega), (g1 h hh).1]
      show _ = pj (if h = x then 0 else pv_h V h)
      split <;> rfl
    · rw [pc_sF2, pc_sA2n (by omega), pc_sA2n (by omega), pc_sA2n (by omega), pc_sA2n (by omega), pc_sA2s, up, (g1 h hh).2.1]
      show _ = pj (if h = x then pv_h V x else pv_p V h)
      split <;> rfl
    · rw [pc_sF2, pc_sA2n (by omega), pc_sA2n (by omega), pc_sA2n (by omega), pc_sA2s, up, pc_sA2n (by omega), (g1 h hh).2.2.1]
      show _ = pj (if h = x then pt_s T x else pv_s V h)
      split <;> rfl
    · rw [pc_sF2, pc_sA2n (by omega), pc_sA2s, up, pc_sA2n (by omega), pc_sA2n (by omega), pc_sA2n (by omega), (g1 h hh).2.2.2]
      rfl
    · rw [pc_sF1s]
      show _ = pj ((pv_r V ++ [x]).length : Nat)
      rw [List.length_append]; rfl
    · rw [pc_sF2, pc_sA2s, pj_nat (by omega), Int.toNat_natCast, pj_upd]
      rcases pv_app_get (show (pv_r V ++ [x])[k]? = some y from e) with ⟨q1, q2⟩ | ⟨q1, q2⟩
      · rw [if_neg (by omega), pc_sA2n (by omega), pc_sA2n (by omega), pc_sA2n (by omega), pc_sA2n (by omega)]; exact g3 k y q2
      · rw [if_pos q1, q2]
    · rw [pc_sF1n (by omega)]; exact g4
    · rw [pc_sF1n (by omega)]; exact g5
  · rw [pc_sF1n (by omega)]; rfl
  · rw [pc_sF2, pc_sA2n (by omega), pc_sA2n (by omega), pc_sA2n (by omega), pc_sA2n (by omega), pc_sA2n (by omega)]
  · rw [pc_sF1n (by omega)]; rfl
def pv_los (V : pv_V) (k : Nat) : pv_V := (pv_h V, fun h => if h ∈ (pv_r V).drop k then 0 else pv_p V h, fun h => if h ∈ (pv_r V).drop k then 0 else pv_s V h, pv_g V, (pv_r V).take k, pv_y V, pv_d V)
theorem pv_los_ok {n : Nat} {V : pv_V} (ho : pv_ok n V) (k : Nat) : pv_ok n (pv_los V k) := by
  have hd : ∀ h, h ∈ (pv_r V).take k → h ∉ (pv_r V).drop k := by
    have hnd := ho.2.2.1
    rw [← List.take_append_drop k (pv_r V), List.nodup_append] at hnd
    exact fun h h1 h2 => hnd.2.2 h h1 h h2 rfl
  refine ⟨ho.1, fun h hh => ?_, ho.2.2.1.sublist (List.take_sublist _ _), fun h hh => ho.2.2.2.1 h (List.mem_of_mem_take hh), fun h h3 h4 => ?_⟩
  · have b := ho.2.1 h hh
    show 0 ≤ pv_h V h ∧ pv_h V h ≤ 99 ∧ 0 ≤ (if h ∈ (pv_r V).drop k then 0 else pv_p V h) ∧ (if h ∈ (pv_r V).drop k then 0 else pv_p V h) ≤ 99 ∧ 0 ≤ (if h ∈ (pv_r V).drop k then 0 else pv_s V h) ∧ (if h ∈ (pv_r V).drop k then 0 else pv_s V h) ≤ 99 ∧ (0 < (if h ∈ (pv_r V).drop k then 0 else pv_p V h) ↔ h ∈ (pv_r V).take k)
    by_cases e : h ∈ (pv_r V).drop k
    · rw [if_pos e, if_pos e]
      exact ⟨b.1, b.2.1, by omega, by omega, by omega, by omega, fun q => absurd q (by omega), fun q => absurd e (hd h q)⟩
    · rw [if_neg e, if_neg e]
      refine ⟨b.1, b.2.1, b.2.2.1, b.2.2.2.1, b.2.2.2.2.1, b.2.2.2.2.2.1, b.2.2.2.2.2.2.trans ⟨fun q => ?_, List.mem_of_mem_take⟩⟩
      rw [← List.take_append_drop k (pv_r V)] at q
      exact (List.mem_append.1 q).resolve_right e
  · have := ho.2.2.2.2 h h3 h4
    refine ⟨this.1, ?_, this.2.2⟩
    show (if h ∈ (pv_r V).drop k then 0 else pv_s V h) = 0
    split
    · rfl
    · exact this.2.1
theorem pv_drop_mem {l : List Nat} {m : Nat} (hm : m < l.length) (h : Nat) : h ∈ l.drop m ↔ h = l.getD m 0 ∨ h ∈ l.drop (m + 1) := by
  rw [List.drop_eq_getElem_cons hm, List.mem_cons, List.getD_eq_getElem?_getD, List.getElem?_eq_getElem hm]
  rfl
theorem pv_los_all {n : Nat} {V : pv_V} {M : cs_S} (hV : pc_V M 0 V) : pc_V M 0 (pv_los V (pv_r V).length) := by
  obtain ⟨g1, g2, g3, g4, g5⟩ := hV
  have e : ∀ h, h ∉ (pv_r V).drop (pv_r V).length := fun h => by rw [List.drop_length]; exact List.not_mem_nil
  refine ⟨fun h hh => ⟨(g1 h hh).1, ?_, ?_, (g1 h hh).2.2.2⟩, ?_, fun k x q => ?_, g4, g5⟩
  · show _ = pj (if h ∈ (pv_r V).drop (pv_r V).length then 0 else pv_p V h)
    rw [if_neg (e h)]; exact (g1 h hh).2.1
  · show _ = pj (if h ∈ (pv_r V).drop (pv_r V).length then 0 else pv_s V h)
    rw [if_neg (e h)]; exact (g1 h hh).2.2.1
  · show _ = pj (((pv_r V).take (pv_r V).length).length : Nat)
    rw [List.take_length]; exact g2
  · rw [show pv_r (pv_los V (pv_r V).length) = (pv_r V).take (pv_r V).length from rfl, List.take_length] at q; exact g3 k x q
theorem pc_los {T : zt_T} {M : cs_S} {V : pv_V} {n : Nat} (hV : pc_V M 0 V) (ho : pv_ok n V) {k : Nat} (hk : k ≤ (pv_r V).length) :
    pw (gv_loses T M 0 (pj k)) (fun M' => pc_V M' 0 (pv_los V k) ∧ pc_o 0 M M' ∧ M'.1 (10 + 0) 8 = M.1 (10 + 0) 8) := by
  have hn := ho.1
  have hl := pv_len ho
  unfold gv_loses
  refine pw_seq (Q := fun M' => pc_V M' 0 (pv_los V k) ∧ pc_o 0 M M' ∧ M'.1 (10 + 0) 8 = M.1 (10 + 0) 8) ?_ (fun M' h => (pw_some _ _).2 h)
  refine pw_for ((pv_r V).length - k) (fun j M' => pc_V M' 0 (pv_los V ((pv_r V).length - j)) ∧ pc_o 0 M M' ∧ M'.1 (10 + 0) 8 = M.1 (10 + 0) 8) 5000 (by omega) ?_ ?_ _ ⟨pv_los_all (n := n) hV, ⟨fun _ _ _ => rfl, fun _ _ _ => rfl⟩, rfl⟩
  · rintro j M1 hj ⟨⟨g1, g2, g3, g4, g5⟩, h2, h3⟩
    have hm : (pv_r V).length - (j + 1) < (pv_r V).length := by omega
    have hlen : (pv_r (pv_los V ((pv_r V).length - j))).length = (pv_r V).length - j := by
      show ((pv_r V).take ((pv_r V).length - j)).length = _
      rw [List.length_take]; omega
    rw [hlen] at g2
    have hlt : (k : Int) < (((pv_r V).length - j : Nat) : Int) := by omega
    have e1 : (((pv_r V).length - j : Nat) : Int) - 1 = (((pv_r V).length - (j + 1) : Nat) : Int) := by omega
    have er : M1.2 (10 + 0) 4 ((pv_r V).length - (j + 1)) = pj ((pv_r V).getD ((pv_r V).length - (j + 1)) 0 : Nat) := g3 _ _ (by
      show ((pv_r V).take ((pv_r V).length - j))[(pv_r V).length - (j + 1)]? = _
      rw [List.getElem?_take, if_pos (by omega), pv_get hm])
    have hx := ho.2.2.2.1 _ (pv_mem hm)
    have hdm := pv_drop_mem hm
    rw [show (pv_r V).length - (j + 1) + 1 = (pv_r V).length - j by omega] at hdm
    generalize hxe : (pv_r V).getD ((pv_r V).length - (j + 1)) 0 = x at er hx hdm
    have er2 : ∀ a b c, (cs_sA (cs_sF M1 (10 + 0) 5 c) (10 + 0) 1 a b).2 (10 + 0) 4 ((pv_r V).length - (j + 1)) = pj (x : Nat) := fun a b c => by rw [pc_sA2n (by omega), pc_sF2]; exact er
    unfold gv_loses_L0
    simp (disch := omega) only [pj_lit, pj_add, pj_sub, pj_neg, pj_mul, pj_lt, pj_eq, pj_nat, pj_ald, pj_ast, pj_ix, pw_bind, pw_ite, pw_some, pw_none, pw_let, Option.bind_some, Int.toNat_natCast, Sum.elim_inl, Sum.elim_inr, Int.cast_ofNat_Int, Int.reduceLT, Int.reduceLE, Int.reduceEq, Int.reduceAdd, Int.reduceSub, Int.reduceMul, Int.reduceNeg, Int.reduceToNat, Nat.reduceAdd, Nat.reduceSub, Nat.reduceMul, Nat.reduceEqDiff, Nat.reduceLT, reduceIte, reduceCtorEq, true_and, and_true, forall_const, not_true_eq_false, not_false_eq_true, false_implies, implies_true, g2, hlt, e1, pc_sF1s, pc_sF2, er, er2, pc_sA1]
    have up : ∀ (f : Nat → Int32) (v : Int32) (h : Nat), upd f (pj (x : Nat)).toNatClampNeg v h = if h = x then v else f h := fun f v h => by rw [pj_nat (by omega), Int.toNat_natCast, pj_upd]
    refine ⟨⟨fun h hh => ⟨?_, ?_, ?_, ?_⟩, ?_, fun i y e => ?_, ?_, ?_⟩, ⟨fun o f q => ?_, fun o f q => ?_⟩, ?_⟩
    · rw [pc_sA2n (by omega), pc_sA2n (by omega), pc_sF2]; exact (g1 h hh).1
    · rw [pc_sA2n (by omega), pc_sA2s, up, pc_sF2, (g1 h hh).2.1]
      show (if h = x then pj 0 else pj (if h ∈ (pv_r V).drop ((pv_r V).length - j) then 0 else pv_p V h)) = pj (if h ∈ (pv_r V).drop ((pv_r V).length - (j + 1)) then 0 else pv_p V h)
      by_cases q : h = x
      · rw [if_pos q, if_pos ((hdm h).2 (Or.inl q))]
      · by_cases q2 : h ∈ (pv_r V).drop ((pv_r V).length - j)
        · rw [if_neg q, if_pos q2, if_pos ((hdm h).2 (Or.inr q2))]
        · rw [if_neg q, if_neg q2, if_neg (fun z => ((hdm h).1 z).elim q q2)]
    · rw [pc_sA2s, up, pc_sA2n (by omega), pc_sF2, (g1 h hh).2.2.1]
      show (if h = x then pj 0 else pj (if h ∈ (pv_r V).drop ((pv_r V).length - j) then 0 else pv_s V h)) = pj (if h ∈ (pv_r V).drop ((pv_r V).length - (j + 1)) then 0 else pv_s V h)
      by_cases q : h = x
      · rw [if_pos q, if_pos ((hdm h).2 (Or.inl q))]
      · by_cases q2 : h ∈ (pv_r V).drop ((pv_r V).length - j)
        · rw [if_neg q, if_pos q2, if_pos ((hdm h).2 (Or.inr q2))]
        · rw [if_neg q, if_neg q2, if_neg (fun z => ((hdm h).1 z).elim q q2)]
    · rw [pc_sA2n (by omega), pc_sA2n (by omega), pc_sF2]; exact (g1 h hh).2.2.2
    · show (cs_sF M1 (10 + 0) 5 (pj (((pv_r V).length - (j + 1) : Nat) : Int))).1 (10 + 0) 5 = pj (((pv_r V).take ((pv_r V).length - (j + 1))).length : Nat)
      rw [pc_sF1s, List.length_take, Nat.min_eq_left (by omega)]
    · rw [pc_sA2n (by omega), pc_sA2n (by omega), pc_sF2]
      refine g3 i y ?_
      have e2 : ((pv_r V).take ((pv_r V).length - (j + 1)))[i]? = some y := e
      show ((pv_r V).take ((pv_r V).length - j))[i]? = _
      rw [List.getElem?_take] at e2 ⊢
      split at e2
      · rw [if_pos (by omega)]; exact e2
      · cases e2
    · rw [pc_sA1, pc_sA1, pc_sF1n (by omega)]; exact g4
    · rw [pc_sA1, pc_sA1, pc_sF1n (by omega)]; exact g5
    · rw [pc_sA1, pc_sA1, pc_sF1n (by omega)]; exact h2.1 o f q
    · rw [pc_sA2n (by omega), pc_sA2n (by omega), pc_sF2]; exact h2.2 o f q
    · rw [pc_sF1n (by omega)]; exact h3
  · rintro M1 ⟨⟨g1, g2, g3, g4, g5⟩, h2, h3⟩
    have ek : (pv_r V).length - ((pv_r V).length - k) = k := by omega
    rw [ek] at g1 g2 g3 g4 g5
    have hlen : (pv_r (pv_los V k)).length = k := by
      show ((pv_r V).take k).length = _
      rw [List.length_take]; omega
    have g2' := g2
    rw [hlen] at g2'
    unfold gv_loses_L0
    simp (disch := omega) only [pj_lit, pj_add, pj_sub, pj_neg, pj_mul, pj_lt, pj_eq, pj_nat, pj_ald, pj_ast, pj_ix, pw_bind, pw_ite, pw_some, pw_none, pw_let, Option.bind_some, Int.toNat_natCast, Sum.elim_inl, Sum.elim_inr, Int.cast_ofNat_Int, Int.reduceLT, Int.reduceLE, Int.reduceEq, Int.reduceAdd, Int.reduceSub, Int.reduceMul, Int.reduceNeg, Int.reduceToNat, Nat.reduceAdd, Nat.reduceSub, Nat.reduceMul, Nat.reduceEqDiff, Nat.reduceLT, reduceIte, reduceCtorEq, true_and, and_true, forall_const, not_true_eq_false, not_false_eq_true, false_implies, implies_true, g2', Int.lt_irrefl]
    exact ⟨⟨g1, g2, g3, g4, g5⟩, h2, h3⟩
/-! the same in the model; what was is kept -/
theorem pm_los_all {Z : zm_S} {V : pv_V} (hV : pv_row (Z.2.1 48) V) : pv_row (Z.2.1 48) (pv_los V (pv_r V).length) := by
  obtain ⟨g1, g2, g3, g4, g5⟩ := hV
  have e : ∀ h, h ∉ (pv_r V).drop (pv_r V).length := fun h => by rw [List.drop_length]; exact List.not_mem_nil
  refine ⟨fun h hh => ⟨(g1 h hh).1, ?_, ?_, (g1 h hh).2.2.2⟩, ?_, fun k x q => ?_, g4, g5⟩
  · show _ = pj (if h ∈ (pv_r V).drop (pv_r V).length then 0 else pv_p V h)
    rw [if_neg (e h)]; exact (g1 h hh).2.1
  · show _ = pj (if h ∈ (pv_r V).drop (pv_r V).length then 0 else pv_s V h)
    rw [if_neg (e h)]; exact (g1 h hh).2.2.1
  · show _ = pj (((pv_r V).take (pv_r V).length).length : Nat)
    rw [List.take_length]; exact g2
  · rw [show pv_r (pv_los V (pv_r V).length) = (pv_r V).take (pv_r V).length from rfl, List.take_length] at q; exact g3 k x q
theorem pm_los {Z : zm_S} {V : pv_V} {n : Nat} (hV : pv_row (Z.2.1 48) V) (ho : pv_ok n V) {k : Nat} (hk : k ≤ (pv_r V).length) :
    pw (gm_loses Z (pj k)) (fun Z' => pv_row (Z'.2.1 48) (pv_los V k) ∧ pm_w Z Z') := by
  have hn := ho.1
  have hl := pv_len ho
  unfold gm_loses
  refine pw_seq (Q := fun Z' => pv_row (Z'.2.1 48) (pv_los V k) ∧ pm_w Z Z') ?_ (fun M' h => (pw_some _ _).2 h)
  refine pw_for ((pv_r V).length - k) (fun j Z' => pv_row (Z'.2.1 48) (pv_los V ((pv_r V).length - j)) ∧ pm_w Z Z') 5000 (by omega) ?_ ?_ _ ⟨pm_los_all hV, pm_w_rfl Z⟩
  · rintro j Z1 hj ⟨⟨g1, g2, g3, g4, g5⟩, h2⟩
    have hm : (pv_r V).length - (j + 1) < (pv_r V).length := by omega
    have hlen : (pv_r (pv_los V ((pv_r V).length - j))).length = (pv_r V).length - j := by
      show ((pv_r V).take ((pv_r V).length - j)).length = _
      rw [List.length_take]; omega
    rw [hlen] at g2
    have hlt : (k : Int) < (((pv_r V).length - j : Nat) : Int) := by omega
    have e1 : (((pv_r V).length - j : Nat) : Int) - 1 = (((pv_r V).length - (j + 1) : Nat) : Int) := by omega
    have er : Z1.2.1 48 (25 + ((pv_r V).length - (j + 1))) = pj ((pv_r V).getD ((pv_r V).length - (j + 1)) 0 : Nat) := g3 _ _ (by
      show ((pv_r V).take ((pv_r V).length - j))[(pv_r V).length - (j + 1)]? = _
      rw [List.getElem?_take, if_pos (by omega), pv_get hm])
    have hx := ho.2.2.2.1 _ (pv_mem hm)
    have hdm := pv_drop_mem hm
    rw [show (pv_r V).length - (j + 1) + 1 = (pv_r V).length - j by omega] at hdm
    generalize hxe : (pv_r V).getD ((pv_r V).length - (j + 1)) 0 = x at er hx hdm
    have up : ∀ (f : Nat → Int32) (v : Int32) (m h : Nat), m < 33 → upd f (pj (m : Nat)).toNatClampNeg v h = if h = m then v else f h := fun f v m h hm => by rw [pj_nat (by omega), Int.toNat_natCast, pj_upd]
    have a24 : ∀ v, (zm_sA Z1 48 (pj 24) v).2.1 48 24 = v := fun v => by rw [pm_sAs, show pj 24 = pj ((24 : Nat) : Int) from rfl, up _ _ _ _ (by omega), if_pos rfl]
    have a25 : ∀ v, (zm_sA Z1 48 (pj 24) v).2.1 48 (25 + ((pv_r V).length - (j + 1))) = pj (x : Nat) := fun v => by rw [pm_sAs, show pj 24 = pj ((24 : Nat) : Int) from rfl, up _ _ _ _ (by omega), if_neg (by omega)]; exact er
    have e25 : (25 : Int) + (((pv_r V).length - (j + 1) : Nat) : Int) = ((25 + ((pv_r V).length - (j + 1)) : Nat) : Int) := by omega
    have e6 : (6 : Int) + (x : Int) = ((6 + x : Nat) : Int) := by omega
    have e12 : (12 : Int) + (x : Int) = ((12 + x : Nat) : Int) := by omega
    unfold gm_loses_L0
    simp (disch := omega) only [pj_lit, pj_add, pj_sub, pj_neg, pj_mul, pj_lt, pj_eq, pj_nat, pj_ald, pj_ast, pj_ix, pw_bind, pw_ite, pw_some, pw_none, pw_let, Option.bind_some, Int.toNat_natCast, Sum.elim_inl, Sum.elim_inr, Int.cast_ofNat_Int, Int.reduceLT, Int.reduceLE, Int.reduceEq, Int.reduceAdd, Int.reduceSub, Int.reduceMul, Int.reduceNeg, Int.reduceToNat, Nat.reduceAdd, Nat.reduceSub, Nat.reduceMul, Nat.reduceEqDiff, Nat.reduceLT, reduceIte, reduceCtorEq, true_and, and_true, forall_const, not_true_eq_false, not_false_eq_true, false_implies, implies_true, g2, hlt, e1, a24, e25, a25, e6, e12]
    have cell : ∀ y, (zm_sA (zm_sA (zm_sA (zm_sA Z1 48 (pj 24) (pj (((pv_r V).length - (j + 1) : Nat) : Int))) 48 (pj ((25 + ((pv_r V).length - (j + 1)) : Nat) : Int)) (pj 0)) 48 (pj ((6 + x : Nat) : Int)) (pj 0)) 48 (pj ((12 + x : Nat) : Int)) (pj 0)).2.1 48 y =
        if y = 12 + x then pj 0 else if y = 6 + x then pj 0 else if y = 25 + ((pv_r V).length - (j + 1)) then pj 0 else if y = 24 then pj (((pv_r V).length - (j + 1) : Nat) : Int) else Z1.2.1 48 y := by
      intro y
      rw [pm_sAs, up _ _ _ _ (by omega), pm_sAs, up _ _ _ _ (by omega), pm_sAs, up _ _ _ _ (by omega), pm_sAs, show pj 24 = pj ((24 : Nat) : Int) from rfl, up _ _ _ _ (by omega)]
    refine ⟨⟨fun h hh => ⟨?_, ?_, ?_, ?_⟩, ?_, fun i y e => ?_, ?_, ?_⟩, ?_⟩
    · rw [cell, if_neg (by omega), if_neg (by omega), if_neg (by omega), if_neg (by omega)]; exact (g1 h hh).1
    · rw [cell, if_neg (by omega)]
      show _ = pj (if h ∈ (pv_r V).drop ((pv_r V).length - (j + 1)) then 0 else pv_p V h)
      by_cases q : h = x
      · rw [if_pos (by omega), if_pos ((hdm h).2 (Or.inl q))]
      · rw [if_neg (by omega), if_neg (by omega), if_neg (by omega), (g1 h hh).2.1]
        show pj (if h ∈ (pv_r V).drop ((pv_r V).length - j) then 0 else pv_p V h) = _
        by_cases q2 : h ∈ (pv_r V).drop ((pv_r V).length - j)
        · rw [if_pos q2, if_pos ((hdm h).2 (Or.inr q2))]
        · rw [if_neg q2, if_neg (fun z => ((hdm h).1 z).elim q q2)]
    · rw [cell]
      show _ = pj (if h ∈ (pv_r V).drop ((pv_r V).length - (j + 1)) then 0 else pv_s V h)
      by_cases q : h = x
      · rw [if_pos (by omega), if_pos ((hdm h).2 (Or.inl q))]
      · rw [if_neg (by omega), if_neg (by omega), if_neg (by omega), if_neg (by omega), (g1 h hh).2.2.1]
        show pj (if h ∈ (pv_r V).drop ((pv_r V).length - j) then 0 else pv_s V h) = _
        by_cases q2 : h ∈ (pv_r V).drop ((pv_r V).length - j)
        · rw [if_pos q2, if_pos ((hdm h).2 (Or.inr q2))]
        · rw [if_neg q2, if_neg (fun z => ((hdm h).1 z).elim q q2)]
    · rw [cell, if_neg (by omega), if_neg (by omega), if_neg (by omega), if_neg (by omega)]; exact (g1 h hh).2.2.2
    · rw [cell, if_neg (by omega), if_neg (by omega), if_neg (by omega), if_pos rfl]
      show _ = pj (((pv_r V).take ((pv_r V).length - (j + 1))).length : Nat)
      rw [List.length_take, Nat.min_eq_left (by omega)]
    · have e2 : ((pv_r V).take ((pv_r V).length - (j + 1)))[i]? = some y := e
      rw [List.getElem?_take] at e2
      split at e2
      · rw [cell, if_neg (by omega), if_neg (by omega), if_neg (by omega), if_neg (by omega)]
        refine g3 i y ?_
        show ((pv_r V).take ((pv_r V).length - j))[i]? = _
        rw [List.getElem?_take, if_pos (by omega)]; exact e2
      · cases e2
    · rw [cell, if_neg (by omega), if_neg (by omega), if_neg (by omega), if_neg (by omega)]; exact g4
    · rw [cell, if_neg (by omega), if_neg (by omega), if_neg (by omega), if_neg (by omega)]; exact g5
    · exact pm_w_trans h2 (pm_w_trans (pm_w_A _ _) (pm_w_trans (pm_w_A _ _) (pm_w_trans (pm_w_A _ _) (pm_w_A _ _))))
  · rintro Z1 ⟨g, h2⟩
    have ek : (pv_r V).length - ((pv_r V).length - k) = k := by omega
    rw [ek] at g
    have hlen : (pv_r (pv_los V k)).length = k := by
      show ((pv_r V).take k).length = _
      rw [List.length_take]; omega
    have g2' := g.2.1
    rw [hlen] at g2'
    unfold gm_loses_L0
    simp (disch := omega) only [pj_lit, pj_add, pj_sub, pj_neg, pj_mul, pj_lt, pj_eq, pj_nat, pj_ald, pj_ast, pj_ix, pw_bind, pw_ite, pw_some, pw_none, pw_let, Option.bind_some, Int.toNat_natCast, Sum.elim_inl, Sum.elim_inr, Int.cast_ofNat_Int, Int.reduceLT, Int.reduceLE, Int.reduceEq, Int.reduceAdd, Int.reduceSub, Int.reduceMul, Int.reduceNeg, Int.reduceToNat, Nat.reduceAdd, Nat.reduceSub, Nat.reduceMul, Nat.reduceEqDiff, Nat.reduceLT, reduceIte, reduceCtorEq, true_and, and_true, forall_const, not_true_eq_false, not_false_eq_true, false_implies, implies_true, g2', Int.lt_irrefl]
    exact ⟨g, h2⟩
/-- the model keeps what was -/
def pm_rec (Z Z' : zm_S) (n : Nat) : Prop := Z'.1 53 = pj ((min 40 (n + 1) : Nat) : Int) ∧ (∀ k, k ≠ 53 → Z'.1 k = Z.1 k) ∧ (∀ k, k ≠ 47 → k ≠ 54 → Z'.2.1 k = Z.2.1 k) ∧ Z'.2.2 = Z.2.2 ∧ (∀ x, x < 33 → Z'.2.1 47 x = Z.2.1 48 x) ∧
  (n < 40 → ∀ j, Z'.2.1 54 j = if 33 * n ≤ j ∧ j < 33 * n + 33 then Z.2.1 47 (j - 33 * n) else Z.2.1 54 j) ∧
  (n = 40 → ∀ j, j < 1320 → Z'.2.1 54 j = if 1287 ≤ j then Z.2.1 47 (j - 1287) else Z.2.1 54 (j + 33))
theorem pm_keepsRow (Z : zm_S) : ∃ Z', gm_keepsRow Z = some Z' ∧ Z'.1 = Z.1 ∧ Z'.2.2 = Z.2.2 ∧ (∀ k, k ≠ 47 → Z'.2.1 k = Z.2.1 k) ∧ ∀ x, x < 33 → Z'.2.1 47 x = Z.2.1 48 x := by
  have l1 : ∀ (Z' : zm_S) (k : Nat), Z'.1 = Z.1 → Z'.2.2 = Z.2.2 → (∀ k, k ≠ 47 → Z'.2.1 k = Z.2.1 k) → k < 33 → gm_keepsRow_L2 (pj k, Z') = some (Sum.inl (pj ((k : Int) + 1), zm_sA Z' 47 (pj ((0 + k : Nat) : Int)) (Z'.2.1 48 k))) := by
    intro Z' k _ _ _ hk
    have hk' : (k : Int) < 33 := by omega
    unfold gm_keepsRow_L2
    simp (disch := omega) only [pj_lit, pj_add, pj_sub, pj_neg, pj_mul, pj_lt, pj_eq, pj_nat, pj_ald, pj_ast, pj_ix, pw_bind, pw_ite, pw_some, pw_none, pw_let, Option.bind_some, Int.toNat_natCast, Sum.elim_inl, Sum.elim_inr, Int.cast_ofNat_Int, Int.reduceLT, Int.reduceLE, Int.reduceEq, Int.reduceAdd, Int.reduceSub, Int.reduceMul, Int.reduceNeg, Int.reduceToNat, Nat.reduceAdd, Nat.reduceSub, Nat.reduceMul, Nat.reduceEqDiff, Nat.reduceLT, reduceIte, reduceCtorEq, true_and, and_true, forall_const, not_true_eq_false, not_false_eq_true, false_implies, implies_true, hk']
    rw [Nat.zero_add]
  have l2 : ∀ Z' : zm_S, Z'.1 = Z.1 → Z'.2.2 = Z.2.2 → (∀ k, k ≠ 47 → Z'.2.1 k = Z.2.1 k) → gm_keepsRow_L2 (pj (33 : Nat), Z') = some (Sum.inr Z') := by
    intro Z' _ _ _
    unfold gm_keepsRow_L2
    simp (disch := omega) only [pj_lit, pj_add, pj_sub, pj_neg, pj_mul, pj_lt, pj_eq, pj_nat, pj_ald, pj_ast, pj_ix, pw_bind, pw_ite, pw_some, pw_none, pw_let, Option.bind_some, Int.toNat_natCast, Sum.elim_inl, Sum.elim_inr, Int.cast_ofNat_Int, Int.reduceLT, Int.reduceLE, Int.reduceEq, Int.reduceAdd, Int.reduceSub, Int.reduceMul, Int.reduceNeg, Int.reduceToNat, Nat.reduceAdd, Nat.reduceSub, Nat.reduceMul, Nat.reduceEqDiff, Nat.reduceLT, reduceIte, reduceCtorEq, true_and, and_true, forall_const, not_true_eq_false, not_false_eq_true, false_implies, implies_true, Int.lt_irrefl]
  obtain ⟨Z1, e, q1, q2, q3, q4⟩ := pm_cploop (b := gm_keepsRow_L2) (N := 33) (dst := 47) (g := fun Z x => Z.2.1 48 x) Z 0 (by omega) (by omega) (fun Z' _ _ h x _ _ => by show Z'.2.1 48 x = _; rw [h 48 (by decide)]) l1 l2
  refine ⟨Z1, ?_, q1, q2, q3, fun x hx => by rw [q4 x, if_pos (by omega)]; rfl⟩
  unfold gm_keepsRow
  rw [pj_0, e]; rfl
theorem pm_records {Z : zm_S} {n : Nat} (hn : n ≤ 40) (h53 : Z.1 53 = pj n) : ∃ Z', gm_records Z = some Z' ∧ pm_rec Z Z' n := by
  have part2 : ∀ (Z1 : zm_S) (m : Nat), m < 40 → Z1.1 53 = pj m → ∃ Z2, zs_loop 5000 gm_records_L51 (pj 0, Z1) = some Z2 ∧ Z2.1 = Z1.1 ∧ Z2.2.2 = Z1.2.2 ∧ (∀ k, k ≠ 54 → Z2.2.1 k = Z1.2.1 k) ∧ ∀ j, Z2.2.1 54 j = if 33 * m ≤ j ∧ j < 33 * m + 33 then Z1.2.1 47 (j - 33 * m) else Z1.2.1 54 j := by
    intro Z1 m hm h53
    have l1 : ∀ (Z' : zm_S) (k : Nat), Z'.1 = Z1.1 → Z'.2.2 = Z1.2.2 → (∀ k, k ≠ 54 → Z'.2.1 k = Z1.2.1 k) → k < 33 → gm_records_L51 (pj k, Z') = some (Sum.inl (pj ((k : Int) + 1), zm_sA Z' 54 (pj ((33 * m + k : Nat) : Int)) (Z'.2.1 47 k))) := by
      intro Z' k a _ _ hk
      have hk' : (k : Int) < 33 := by omega
      have e : (33 : Int) * m + k = ((33 * m + k : Nat) : Int) := by omega
      unfold gm_records_L51
      simp (disch := omega) only [pj_lit, pj_add, pj_sub, pj_neg, pj_mul, pj_lt, pj_eq, pj_nat, pj_ald, pj_ast, pj_ix, pw_bind, pw_ite, pw_some, pw_none, pw_let, Option.bind_some, Int.toNat_natCast, Sum.elim_inl, Sum.elim_inr, Int.cast_ofNat_Int, Int.reduceLT, Int.reduceLE, Int.reduceEq, Int.reduceAdd, Int.reduceSub, Int.reduceMul, Int.reduceNeg, Int.reduceToNat, Nat.reduceAdd, Nat.reduceSub, Nat.reduceMul, Nat.reduceEqDiff, Nat.reduceLT, reduceIte, reduceCtorEq, true_and, and_true, forall_const, not_true_eq_false, not_false_eq_true, false_implies, implies_true, hk', a, h53, e]
    have l2 : ∀ Z' : zm_S, Z'.1 = Z1.1 → Z'.2.2 = Z1.2.2 → (∀ k, k ≠ 54 → Z'.2.1 k = Z1.2.1 k) → gm_records_L51 (pj (33 : Nat), Z') = some (Sum.inr Z') := by
      intro Z' _ _ _
      unfold gm_records_L51
      simp (disch := omega) only [pj_lit, pj_add, pj_sub, pj_neg, pj_mul, pj_lt, pj_eq, pj_nat, pj_ald, pj_ast, pj_ix, pw_bind, pw_ite, pw_some, pw_none, pw_let, Option.bind_some, Int.toNat_natCast, Sum.elim_inl, Sum.elim_inr, Int.cast_ofNat_Int, Int.reduceLT, Int.reduceLE, Int.reduceEq, Int.reduceAdd, Int.reduceSub, Int.reduceMul, Int.reduceNeg, Int.reduceToNat, Nat.reduceAdd, Nat.reduceSub, Nat.reduceMul, Nat.reduceEqDiff, Nat.reduceLT, reduceIte, reduceCtorEq, true_and, and_true, forall_const, not_true_eq_false, not_false_eq_true, false_implies, implies_true, Int.lt_irrefl]
    obtain ⟨Z2, e, q1, q2, q3, q4⟩ := pm_cploop (b := gm_records_L51) (N := 33) (dst := 54) (g := fun Z x => Z.2.1 47 x) Z1 (33 * m) (by omega) (by omega) (fun Z' _ _ h x _ _ => by show Z'.2.1 47 x = _; rw [h 47 (by decide)]) l1 l2
    exact ⟨Z2, e, q1, q2, q3, q4⟩
  by_cases h40 : n = 40
  · subst h40
    have l1 : ∀ (Z' : zm_S) (k : Nat), Z'.1 = Z.1 → Z'.2.2 = Z.2.2 → (∀ k, k ≠ 54 → Z'.2.1 k = Z.2.1 k) → k < 1287 → gm_records_L11 (pj k, Z') = some (Sum.inl (pj ((k : Int) + 1), zm_sA Z' 54 (pj ((0 + k : Nat) : Int)) (Z'.2.1 54 (k + 33)))) := by
      intro Z' k a _ _ hk
      have hk' : (k : Int) < 1287 := by omega
      have e : (k : Int) + 33 = ((k + 33 : Nat) : Int) := by omega
      unfold gm_records_L11
      simp (disch := omega) only [pj_lit, pj_add, pj_sub, pj_neg, pj_mul, pj_lt, pj_eq, pj_nat, pj_ald, pj_ast, pj_ix, pw_bind, pw_ite, pw_some, pw_none, pw_let, Option.bind_some, Int.toNat_natCast, Sum.elim_inl, Sum.elim_inr, Int.cast_ofNat_Int, Int.reduceLT, Int.reduceLE, Int.reduceEq, Int.reduceAdd, Int.reduceSub, Int.reduceMul, Int.reduceNeg, Int.reduceToNat, Nat.reduceAdd, Nat.reduceSub, Nat.reduceMul, Nat.reduceEqDiff, Nat.reduceLT, reduceIte, reduceCtorEq, true_and, and_true, forall_const, not_true_eq_false, not_false_eq_true, false_implies, implies_true, hk', e]
      rw [Nat.zero_add]
    have l2 : ∀ Z' : zm_S, Z'.1 = Z.1 → Z'.2.2 = Z.2.2 → (∀ k, k ≠ 54 → Z'.2.1 k = Z.2.1 k) → gm_records_L11 (pj (1287 : Nat), Z') = some (Sum.inr Z') := by
      intro Z' _ _ _
      unfold gm_records_L11
      simp (disch := omega) only [pj_lit, pj_add, pj_sub, pj_neg, pj_mul, pj_lt, pj_eq, pj_nat, pj_ald, pj_ast, pj_ix, pw_bind, pw_ite, pw_some, pw_none, pw_let, Option.bind_some, Int.toNat_natCast, Sum.elim_inl, Sum.elim_inr, Int.cast_ofNat_Int, Int.reduceLT, Int.reduceLE, Int.reduceEq, Int.reduceAdd, Int.reduceSub, Int.reduceMul, Int.reduceNeg, Int.reduceToNat, Nat.reduceAdd, Nat.reduceSub, Nat.reduceMul, Nat.reduceEqDiff, Nat.reduceLT, reduceIte, reduceCtorEq, true_and, and_true, forall_const, not_true_eq_false, not_false_eq_true, false_implies, implies_true, Int.lt_irrefl]
    obtain ⟨Z1, e1, q1, q2, q3, q4⟩ := pm_cploop (b := gm_records_L11) (N := 1287) (dst := 54) (g := fun Z x => Z.2.1 54 (x + 33)) Z 0 (by omega) (by omega) (fun Z' _ _ h x _ hc => hc _ (by omega)) l1 l2
    have h53' : Z1.1 53 = pj (40 : Nat) := by rw [q1]; exact h53
    obtain ⟨Z2, e2, r1, r2, r3, r4⟩ := part2 (zm_sF Z1 53 (pj (39 : Nat))) 39 (by omega) (pm_sF1s _ _ _)
    obtain ⟨Z3, e3, s1, s2, s3, s4⟩ := pm_keepsRow (zm_sF Z2 53 (pj (40 : Nat)))
    have h53'' : Z2.1 53 = pj (39 : Nat) := by rw [r1]; exact pm_sF1s _ _ _
    refine ⟨Z3, ?_, ?_⟩
    · unfold gm_records
      have c1 : Z.1 53 = 40 := h53
      rw [if_pos c1, pj_0, e1, Option.bind_some, Option.bind_some, Option.bind_some]
      have c2 : Z1.1 53 - 1 = pj (39 : Nat) := by rw [h53']; rfl
      rw [c2, e2, Option.bind_some]
      have c3 : Z2.1 53 + 1 = pj (40 : Nat) := by rw [h53'']; rfl
      rw [c3, Option.bind_some, e3]
      rfl
    · refine ⟨?_, fun k hk => ?_, fun k k1 k2 => ?_, ?_, fun x hx => ?_, fun q => absurd q (by omega), fun _ j hj => ?_⟩
      · rw [s1]; rfl
      · rw [s1, pm_sF1n hk, r1, pm_sF1n hk, q1]
      · rw [s3 k k1, pm_sF2, r3 k k2, pm_sF2, q3 k k2]
      · rw [s2, pm_sF2, r2, pm_sF2, q2]
      · rw [s4 x hx, pm_sF2, r3 48 (by decide), pm_sF2, q3 48 (by decide)]
      · rw [s3 54 (by decide), pm_sF2, r4 j, pm_sF2, q3 47 (by decide), q4 j]
        by_cases c : 1287 ≤ j
        · rw [if_pos (by omega), if_pos c]
        · rw [if_neg (by omega), if_neg c, if_pos (by omega)]; rfl
  · obtain ⟨Z2, e2, r1, r2, r3, r4⟩ := part2 Z n (by omega) h53
    obtain ⟨Z3, e3, s1, s2, s3, s4⟩ := pm_keepsRow (zm_sF Z2 53 (pj ((n + 1 : Nat) : Int)))
    have hn40 : ¬ Z.1 53 = 40 := by
      rw [h53]
      intro q
      have := (pj_eq (b := 40) (by omega) (by omega)).1 q
      omega
    refine ⟨Z3, ?_, ?_⟩
    · unfold gm_records
      rw [if_neg hn40, Option.bind_some, pj_0, e2, Option.bind_some]
      have c3 : Z2.1 53 + 1 = pj ((n + 1 : Nat) : Int) := by rw [r1, h53, pj_1, pj_add]; rfl
      rw [c3, Option.bind_some, e3]
      rfl
    · refine ⟨?_, fun k hk => ?_, fun k k1 k2 => ?_, ?_, fun x hx => ?_, fun _ j => ?_, fun q => absurd q h40⟩
      · rw [s1, pm_sF1s, Nat.min_eq_right (by omega)]
      · rw [s1, pm_sF1n hk, r1]
      · rw [s3 k k1, pm_sF2, r3 k k2]
      · rw [s2, pm_sF2, r2]
      · rw [s4 x hx, pm_sF2, r3 48 (by decide)]
      · rw [s3 54 (by decide), pm_sF2, r4 j]
/-! the component keeps what was; operations that change the village -/
/-- all but village v of the past, the ring's numbers -/
def pc_kp (v : Nat) (M M' : cs_S) : Prop := (∀ o f, o ≠ 10 + v → ¬ (o = 0 ∧ (f = 5 ∨ f = 6)) → M'.1 o f = M.1 o f) ∧ (∀ o f, o ≠ 10 + v → M'.2 o f = M.2 o f)
theorem pj_minN {a b : Nat} (ha : a < 2147483648) (hb : b < 2147483648) : zs_min (pj (a : Nat)) (pj (b : Nat)) = pj ((min a b : Nat) : Int) := by
  rw [pj_min _ _ (by omega) (by omega)]
  congr 1
  omega
theorem pc_keeps {T : zt_T} {M : cs_S} {V : pv_V} {n at_ : Nat} (hn : n ≤ 40) (ha : at_ < 40) (h5 : M.1 0 5 = pj n) (h6 : M.1 0 6 = pj at_) (hV : pc_V M 0 V) (ho : pv_ok (zt_n T) V) :
    ∃ M', gh_keeps T M = some M' ∧ pc_V M' (2 + at_) V ∧ M'.1 (10 + (2 + at_)) 8 = M.1 (10 + 0) 8 ∧ M'.1 0 5 = pj ((min 40 (n + 1) : Nat) : Int) ∧ M'.1 0 6 = pj (((at_ + 1) % 40 : Nat) : Int) ∧ pc_kp (2 + at_) M M' := by
  obtain ⟨M1, e1, v1, s1, o1⟩ := pc_becomes T (i := 2 + at_) (v := 0) (by omega) hV ho
  have g5 : M1.1 0 5 = pj n := (o1.1 0 5 (by omega)).trans h5
  have g6 : M1.1 0 6 = pj at_ := (o1.1 0 6 (by omega)).trans h6
  have hr : zs_rem (pj ((at_ : Int) + 1)) (pj 40) = pj (((at_ + 1) % 40 : Nat) : Int) := pj_remN (a := at_ + 1) (b := 40) (by omega) (by omega)
  have hmn : zs_min (pj 40) (pj ((n : Int) + 1)) = pj ((min 40 (n + 1) : Nat) : Int) := pj_minN (a := 40) (b := n + 1) (by omega) (by omega)
  have hx : ∀ x, (cs_sF M1 0 6 x).1 0 5 = pj n := fun x => by rw [pc_sF1n (by omega)]; exact g5
  unfold gh_keeps
  simp (disch := omega) only [pj_lit, pj_add, pj_sub, pj_neg, pj_mul, pj_lt, pj_eq, pj_nat, pj_ald, pj_ast, pj_ix, pw_bind, pw_ite, pw_some, pw_none, pw_let, Option.bind_some, Int.toNat_natCast, Sum.elim_inl, Sum.elim_inr, Int.cast_ofNat_Int, Int.reduceLT, Int.reduceLE, Int.reduceEq, Int.reduceAdd, Int.reduceSub, Int.reduceMul, Int.reduceNeg, Int.reduceToNat, Nat.reduceAdd, Nat.reduceSub, Nat.reduceMul, Nat.reduceEqDiff, Nat.reduceLT, reduceIte, reduceCtorEq, true_and, and_true, forall_const, not_true_eq_false, not_false_eq_true, false_implies, implies_true, h6, e1, g6, hr, hx, hmn]
  refine ⟨_, rfl, ?_, ?_, pc_sF1s _ _ _ _, ?_, ⟨fun o f q r => ?_, fun o f q => o1.2 o f q⟩⟩
  · obtain ⟨g1, g2, g3, g4, g5⟩ := v1
    refine ⟨g1, ?_, g3, ?_, ?_⟩
    · rw [pc_sF1n (by omega), pc_sF1n (by omega)]; exact g2
    · rw [pc_sF1n (by omega), pc_sF1n (by omega)]; exact g4
    · rw [pc_sF1n (by omega), pc_sF1n (by omega)]; exact g5
  · rw [pc_sF1n (by omega), pc_sF1n (by omega)]; exact s1
  · rw [pc_sF1n (by omega), pc_sF1s]
  · rw [pc_sF1n (by omega), pc_sF1n (by omega)]; exact o1.1 o f q
/-- all but the village, village v of the past, the ring's numbers, what is asked -/
def pc_u (v : Nat) (M M' : cs_S) : Prop := (∀ o f, ¬ (110 ≤ o ∧ o < 155) → o ≠ 10 → o ≠ 10 + v → ¬ (o = 0 ∧ (f = 5 ∨ f = 6)) → M'.1 o f = M.1 o f) ∧ (∀ o f, ¬ (10 ≤ o ∧ o < 55 ∧ 9 ≤ f ∧ f ≤ 11) → o ≠ 10 → o ≠ 10 + v → M'.2 o f = M.2 o f)
theorem pc_u_trans {v : Nat} {A B C : cs_S} (h : pc_u v A B) (g : pc_u v B C) : pc_u v A C := ⟨fun o f a b c d => (g.1 o f a b c d).trans (h.1 o f a b c d), fun o f a b c => (g.2 o f a b c).trans (h.2 o f a b c)⟩
theorem pc_kp_u {v : Nat} {M M' : cs_S} (h : pc_kp v M M') : pc_u v M M' := ⟨fun o f _ _ c d => h.1 o f c d, fun o f _ _ c => h.2 o f c⟩
theorem pc_w0_u {v : Nat} {M M' : cs_S} (h : pc_w 0 M M') : pc_u v M M' := ⟨fun o f a b _ _ => h.1 o f (by omega) b, fun o f a b _ => h.2 o f a b⟩
theorem pc_V_u {v i : Nat} {M M' : cs_S} {V : pv_V} (hi : i < 45) (h0 : i ≠ 0) (hv : i ≠ v) (h : pc_u v M M') (g : pc_V M i V) : pc_V M' i V := by
  obtain ⟨g1, g2, g3, g4, g5⟩ := g
  have a : ∀ f, f < 5 → M'.2 (10 + i) f = M.2 (10 + i) f := fun f hf => h.2 _ _ (by omega) (by omega) (by omega)
  have b : ∀ f, M'.1 (10 + i) f = M.1 (10 + i) f := fun f => h.1 _ _ (by omega) (by omega) (by omega) (by omega)
  refine ⟨fun k hk => ?_, ?_, fun k x e => ?_, ?_, ?_⟩
  · rw [a 0 (by omega), a 1 (by omega), a 2 (by omega), a 3 (by omega)]; exact g1 k hk
  · rw [b]; exact g2
  · rw [a 4 (by omega)]; exact g3 k x e
  · rw [b]; exact g4
  · rw [b]; exact g5
/-- all but what stands, what was, the row that is worked on -/
def pm_u (Z Z' : zm_S) : Prop := (∀ k, k ≠ 46 → k ≠ 49 → k ≠ 50 → k ≠ 53 → Z'.1 k = Z.1 k) ∧ (∀ k, ¬ (k = 44 ∨ k = 45 ∨ k = 47 ∨ k = 48 ∨ k = 51 ∨ k = 52 ∨ k = 54) → Z'.2.1 k = Z.2.1 k) ∧ Z'.2.2 = Z.2.2
theorem pm_u_trans {A B C : zm_S} (h : pm_u A B) (g : pm_u B C) : pm_u A C := ⟨fun k a b c d => (g.1 k a b c d).trans (h.1 k a b c d), fun k a => (g.2.1 k a).trans (h.2.1 k a), g.2.2.trans h.2.2⟩
theorem pm_c_u {T : zt_T} {s : Nat} {V : pv_V} {Z Z' : zm_S} (h : pm_c T s V Z Z') : pm_u Z Z' := ⟨fun k _ b c _ => h.2.2.2.2.1 k b c, fun k a => h.2.2.2.2.2.1 k (by omega), h.2.2.2.2.2.2.1⟩
theorem pm_w_u {Z Z' : zm_S} (h : pm_w Z Z') : pm_u Z Z' := ⟨fun k a _ _ _ => h.1 k a, fun k a => h.2.1 k (by omega) (by omega) (by omega) (by omega) (by omega), h.2.2⟩
theorem pm_rec_u {Z Z' : zm_S} {n : Nat} (h : pm_rec Z Z' n) : pm_u Z Z' := ⟨fun k _ _ _ a => h.2.1 k a, fun k a => h.2.2.1 k (by omega) (by omega), h.2.2.2.1⟩
theorem pm_u_tx {Z Z' : zm_S} (h : pm_u Z Z') : pm_tx Z Z' := ⟨h.1 18 (by decide) (by decide) (by decide) (by decide), fun k q => h.2.1 k (by omega)⟩
def pr_push (H : List pv_V) (V : pv_V) : List pv_V := (if H.length = 40 then H.drop 1 else H) ++ [V]
theorem pr_push_len (H : List pv_V) (V : pv_V) (h : H.length ≤ 40) : (pr_push H V).length = min 40 (H.length + 1) := by
  unfold pr_push
  rw [List.length_append]
  split
  · rw [List.length_drop]; show H.length - 1 + 1 = _; omega
  · show H.length + 1 = _; omega
/-- what stands behind a change of the village that is kept -/
theorem pr_change {T : zt_T} {M M' : cs_S} {Z Z1 Z' : zm_S} {s : Nat} {V V' : pv_V} {H : List pv_V} {at_ : Nat} (h : pr_R0 T M Z s V H at_) (ho' : pv_ok (zt_n T) V')
    (c1 : pc_V M' 0 V') (c2 : M'.1 (10 + 0) 8 = zt_f T 7) (c3 : pc_V M' (2 + at_) V) (c4 : M'.1 (10 + (2 + at_)) 8 = zt_f T 7) (c5 : M'.1 0 5 = pj ((min 40 (H.length + 1) : Nat) : Int)) (c6 : M'.1 0 6 = pj (((at_ + 1) % 40 : Nat) : Int)) (c7 : pc_u (2 + at_) M M')
    (m1 : pv_row (Z1.2.1 48) V') (m2 : Z1.2.1 47 = Z.2.1 47) (m3 : Z1.2.1 54 = Z.2.1 54) (m4 : pm_u Z Z1) (m5 : pm_rec Z1 Z' H.length) : pr_R T M' Z' := by
  obtain ⟨h1, h2, h3, h4, h5, h6, ⟨k1, k2, k3, k4, k5, k6⟩, h8, h9, h10, h11, h12, h13⟩ := h
  have hu : pm_u Z Z' := pm_u_trans m4 (pm_rec_u m5)
  refine ⟨s, V', pr_push H V, (at_ + 1) % 40, h1, pm_T_tx (pm_u_tx hu) h2, ho', c1, c2, pv_row_congr ho' m5.2.2.2.2.1 m1, ?_, ?_, ?_, ?_, ?_, ?_, (congrFun (c7.2 0 16 (by omega) (by omega) (by omega)) 0).trans h13⟩
  · refine ⟨by rw [pr_push_len H V k1]; omega, Nat.mod_lt _ (by omega), by rw [pr_push_len H V k1]; exact c5, c6, by rw [pr_push_len H V k1]; exact m5.1, fun j W e => ?_⟩
    rw [pr_push_len H V k1]
    unfold pr_push at e
    by_cases h40 : H.length = 40
    · rw [if_pos h40, List.getElem?_append, List.length_drop] at e
      split at e
      · rw [List.getElem?_drop] at e
        obtain ⟨w1, w2, w3, w4⟩ := k6 _ _ e
        have hlt : j < 39 := by omega
        have hix : ((at_ + 1) % 40 + 40 - min 40 (H.length + 1) + j) % 40 = (at_ + 40 - H.length + (1 + j)) % 40 := by omega
        have hne : (at_ + 40 - H.length + (1 + j)) % 40 ≠ at_ := by omega
        rw [hix]
        refine ⟨w1, pc_V_u (by omega) (by omega) (by omega) c7 w2, (c7.1 _ _ (by omega) (by omega) (by omega) (by omega)).trans w3, ?_⟩
        refine pv_row_congr w1 (fun x hx => ?_) w4
        show Z'.2.1 54 (33 * j + x) = Z.2.1 54 (33 * (1 + j) + x)
        rw [m5.2.2.2.2.2.2 h40 _ (by omega), if_neg (by omega), m3]; exact congrArg _ (by omega)
      · have hj : j = 39 := by
          have := (List.getElem?_eq_some_iff.1 e).1
          simp at this
          omega
        subst hj
        have hW : W = V := by
          rw [show 39 - (H.length - 1) = 0 by omega] at e
          injection e with e
          exact e.symm
        subst hW
        have hix : ((at_ + 1) % 40 + 40 - min 40 (H.length + 1) + 39) % 40 = at_ := by omega
        rw [hix]
        refine ⟨h3, c3, c4, pv_row_congr h3 (fun x hx => ?_) h6⟩
        show Z'.2.1 54 (33 * 39 + x) = Z.2.1 47 x
        rw [m5.2.2.2.2.2.2 h40 _ (by omega), if_pos (by omega), m2]; exact congrArg _ (by omega)
    · rw [if_neg h40, List.getElem?_append] at e
      split at e
      · obtain ⟨w1, w2, w3, w4⟩ := k6 _ _ e
        have hix : ((at_ + 1) % 40 + 40 - min 40 (H.length + 1) + j) % 40 = (at_ + 40 - H.length + j) % 40 := by omega
        have hne : (at_ + 40 - H.length + j) % 40 ≠ at_ := by omega
        rw [hix]
        refine ⟨w1, pc_V_u (by omega) (by omega) (by omega) c7 w2, (c7.1 _ _ (by omega) (by omega) (by omega) (by omega)).trans w3, ?_⟩
        refine pv_row_congr w1 (fun x hx => ?_) w4
        show Z'.2.1 54 (33 * j + x) = Z.2.1 54 (33 * j + x)
        rw [m5.2.2.2.2.2.1 (by omega), if_neg (by omega), m3]
      · have hj : j = H.length := by
          have := (List.getElem?_eq_some_iff.1 e).1
          simp at this
          omega
        subst hj
        have hW : W = V := by
          rw [show H.length - H.length = 0 by omega] at e
          injection e with e
          exact e.symm
        subst hW
        have hix : ((at_ + 1) % 40 + 40 - min 40 (H.length + 1) + H.length) % 40 = at_ := by omega
        rw [hix]
        refine ⟨h3, c3, c4, pv_row_congr h3 (fun x hx => ?_) h6⟩
        show Z'.2.1 54 (33 * H.length + x) = Z.2.1 47 x
        rw [m5.2.2.2.2.2.1 (by omega), if_pos (by omega), m2]; exact congrArg _ (by omega)
  · intro k hk
    obtain ⟨q1, q2⟩ := h8 k hk
    have e1 : M'.2 0 13 = M.2 0 13 := c7.2 _ _ (by omega) (by omega) (by omega)
    rw [e1, hu.2.1 69 (by omega)]
    refine ⟨q1, q2.imp id (fun q => ⟨q.1, ?_⟩)⟩
    obtain ⟨W, w1, w2, w3, w4⟩ := q.2
    refine ⟨W, w1, pc_V_u (by omega) (by omega) (by omega) c7 w2, (c7.1 _ _ (by omega) (by omega) (by omega) (by omega)).trans w3, ?_⟩
    rw [hu.2.1 70 (by omega)]; exact w4
  · obtain ⟨t, t1, t2, t3, t4⟩ := h9
    refine ⟨t, t1, (c7.1 _ _ (by omega) (by omega) (by omega) (by omega)).trans t2, (hu.1 63 (by decide) (by decide) (by decide) (by decide)).trans t3, fun j hj => ?_⟩
    rw [c7.2 0 22 (by omega) (by omega) (by omega), c7.2 0 23 (by omega) (by omega) (by omega), c7.2 0 24 (by omega) (by omega) (by omega), hu.2.1 64 (by omega), hu.2.1 65 (by omega), hu.2.1 66 (by omega)]
    exact t4 j hj
  · obtain ⟨p, p1, p2, p3, p4⟩ := h10
    refine ⟨p, p1, (c7.1 _ _ (by omega) (by omega) (by omega) (by omega)).trans p2, (hu.1 2 (by decide) (by decide) (by decide) (by decide)).trans p3, fun j hj => ?_⟩
    rw [c7.2 2 1 (by omega) (by omega) (by omega), hu.2.1 1 (by omega)]
    exact p4 j hj
  · rw [c7.1 0 4 (by omega) (by omega) (by omega) (by omega), hu.1 17 (by decide) (by decide) (by decide) (by decide)]; exact h11
  · unfold pr_K; rw [hu.2.2]; exact h12
/-! splice, unsplice, haul, years -/
theorem pc_kp_w {v : Nat} {M M' : cs_S} (h : pc_kp v M M') (hv : v ≠ 0) {V : pv_V} (g : pc_V M 0 V) : pc_V M' 0 V := by
  obtain ⟨g1, g2, g3, g4, g5⟩ := g
  refine ⟨fun k hk => ?_, ?_, fun k x e => ?_, ?_, ?_⟩
  · rw [h.2 _ _ (by omega), h.2 _ _ (by omega), h.2 _ _ (by omega), h.2 _ _ (by omega)]; exact g1 k hk
  · rw [h.1 _ _ (by omega) (by omega)]; exact g2
  · rw [h.2 _ _ (by omega)]; exact g3 k x e
  · rw [h.1 _ _ (by omega) (by omega)]; exact g4
  · rw [h.1 _ _ (by omega) (by omega)]; exact g5
theorem pm_c_47 {T : zt_T} {s : Nat} {V : pv_V} {Z Z1 : zm_S} (hc : pm_c T s V Z Z1) : Z1.2.1 47 = Z.2.1 47 ∧ Z1.2.1 54 = Z.2.1 54 ∧ Z1.1 53 = Z.1 53 := ⟨hc.2.2.2.2.2.1 47 (by decide), hc.2.2.2.2.2.1 54 (by decide), hc.2.2.2.2.1 53 (by decide) (by decide)⟩
/-- the row behind a splice -/
theorem pm_spl {T : zt_T} {Z : zm_S} {V : pv_V} (hT : pt_ok T) (hV : pv_row (Z.2.1 48) V) (ho : pv_ok (zt_n T) V) {x : Nat} (hx : x < zt_n T) (h1 : ¬ 0 < pv_p V x) (h2 : 0 < pv_h V x) (Z' : zm_S)
    (hZ : ∀ y, Z'.2.1 48 y = if y = 24 then pj ((pv_r V).length + 1 : Nat) else if y = 25 + (pv_r V).length then pj x else if y = x then pj 0 else if y = 18 + x then pv_g V x + 1 else if y = 12 + x then pj (pt_s T x) else if y = 6 + x then pj (pv_h V x) else Z.2.1 48 y) : pv_row (Z'.2.1 48) (pv_spl T V x) := by
  have hn := hT.1
  have hok := pv_spl_ok hT ho hx h1 h2
  have hl : (pv_r V).length + 1 ≤ zt_n T := by
    have := pv_len hok
    rw [show pv_r (pv_spl T V x) = pv_r V ++ [x] from rfl, List.length_append] at this
    exact this
  obtain ⟨g1, g2, g3, g4, g5⟩ := hV
  refine ⟨fun h hh => ⟨?_, ?_, ?_, ?_⟩, ?_, fun k y e => ?_, ?_, ?_⟩
  · rw [hZ, if_neg (by omega), if_neg (by omega)]
    show _ = pj (if h = x then 0 else pv_h V h)
    by_cases e : h = x
    · rw [if_pos e, if_pos e]
    · rw [if_neg e, if_neg e, if_neg (by omega), if_neg (by omega), if_neg (by omega)]; exact (g1 h hh).1
  · rw [hZ, if_neg (by omega), if_neg (by omega), if_neg (by omega), if_neg (by omega), if_neg (by omega)]
    show _ = pj (if h = x then pv_h V x else pv_p V h)
    by_cases e : h = x
    · rw [if_pos (by omega), if_pos e]
    · rw [if_neg (by omega), if_neg e]; exact (g1 h hh).2.1
  · rw [hZ, if_neg (by omega), if_neg (by omega), if_neg (by omega), if_neg (by omega)]
    show _ = pj (if h = x then pt_s T x else pv_s V h)
    by_cases e : h = x
    · rw [if_pos (by omega), if_pos e]
    · rw [if_neg (by omega), if_neg e, if_neg (by omega)]; exact (g1 h hh).2.2.1
  · rw [hZ, if_neg (by omega), if_neg (by omega), if_neg (by omega)]
    show _ = if h = x then pv_g V x + 1 else pv_g V h
    by_cases e : h = x
    · rw [if_pos (by omega), if_pos e]
    · rw [if_neg (by omega), if_neg e, if_neg (by omega), if_neg (by omega)]; exact (g1 h hh).2.2.2
  · rw [hZ, if_pos rfl]
    show _ = pj ((pv_r V ++ [x]).length : Nat)
    rw [List.length_append]; rfl
  · rw [hZ, if_neg (by omega)]
    rcases pv_app_get (show (pv_r V ++ [x])[k]? = some y from e) with ⟨q1, q2⟩ | ⟨q1, q2⟩
    · rw [if_neg (by omega), if_neg (by omega), if_neg (by omega), if_neg (by omega), if_neg (by omega)]; exact g3 k y q2
    · rw [if_pos (by omega), q2]
  · rw [hZ, if_neg (by omega), if_neg (by omega), if_neg (by omega), if_neg (by omega), if_neg (by omega), if_neg (by omega)]; exact g4
  · rw [hZ, if_neg (by omega), if_neg (by omega), if_neg (by omega), if_neg (by omega), if_neg (by omega), if_neg (by omega)]; exact g5
theorem pq_splice {T : zt_T} {M : cs_S} {Z : zm_S} {s : Nat} {V : pv_V} {H : List pv_V} {at_ : Nat} (h : pr_R0 T M Z s V H at_) (a : Int32) :
    pw (gh_splice T M a) (fun p => pw (gm_splice Z a) (fun q => p.1 = q.1 ∧ pr_R T p.2 q.2)) := by
  obtain ⟨hT, hm, ho, hV, hsd, hrow, ⟨k1, k2, k3, k4, k5, k6⟩, -⟩ := id h
  have hn := hT.1
  obtain ⟨Z1, eZ, hc⟩ := pm_copies hm ho hrow
  have hk1 := pm_c_k hc
  have hcu := pm_c_u hc
  have hc47 := pm_c_47 hc
  obtain ⟨hm1, hr1, -⟩ := hc
  by_cases hh : 0 ≤ a.toInt ∧ a.toInt < zt_n T
  · obtain ⟨x, rfl, hx⟩ := pj_house hh
    have hx6 : x < 6 := by omega
    obtain ⟨c0, c1, c2, c3⟩ := hV.1 x hx6
    obtain ⟨d0, d1, d2, d3⟩ := hr1.1 x hx6
    have hb := ho.2.1 x hx6
    by_cases h1 : 0 < pv_p V x
    · unfold gh_splice gm_splice
      rw [pc_isHouse M hT, decide_eq_true hh, eZ, Option.bind_some, Option.bind_some, if_pos rfl, pc_has hV ho x hx6, decide_eq_true h1, Option.bind_some, if_pos rfl, pm_isHouse hT hm1, decide_eq_true hh, Option.bind_some, if_pos rfl, pm_has hr1 ho x hx6, decide_eq_true h1, Option.bind_some, if_pos rfl, pw_some, pw_some]
      exact ⟨rfl, s, V, H, at_, pr_R_k (pc_k_rfl M) hk1 h⟩
    · by_cases h2 : pv_h V x = 0
      · unfold gh_splice gm_splice
        rw [pc_isHouse M hT, decide_eq_true hh, eZ, Option.bind_some, Option.bind_some, if_pos rfl, pc_has hV ho x hx6, decide_eq_false h1, Option.bind_some, if_neg (by decide), pm_isHouse hT hm1, decide_eq_true hh, Option.bind_some, if_pos rfl, pm_has hr1 ho x hx6, decide_eq_false h1, Option.bind_some, if_neg (by decide)]
        rw [pj_ald (by omega) (by omega), pj_ald (by omega) (by omega), Int.toNat_natCast, c0, d0, Option.bind_some, Option.bind_some, h2, if_pos (show pj 0 = 0 from rfl), if_pos (show pj 0 = 0 from rfl), pw_some, pw_some]
        exact ⟨rfl, s, V, H, at_, pr_R_k (pc_k_rfl M) hk1 h⟩
      · have hok := pv_spl_ok hT ho hx h1 (by omega)
        have hl : (pv_r V).length + 1 ≤ zt_n T := by
          have := pv_len hok
          rw [show pv_r (pv_spl T V x) = pv_r V ++ [x] from rfl, List.length_append] at this
          exact this
        obtain ⟨M1, eM1, v1, s1, f1, f2, kp⟩ := pc_keeps (T := T) k1 k2 k3 k4 hV ho
        have hV1 := pc_kp_w kp (by omega) hV
        obtain ⟨M2, eM2, v2, o2, s2⟩ := pc_spl hT hV1 ho hx h1 (by omega)
        have hne0 : ¬ pj (pv_h V x) = pj 0 := fun q => h2 ((pj_eq (by omega) (by omega)).1 q)
        have e6 : (6 : Int) + (x : Int) = ((6 + x : Nat) : Int) := by omega
        have e12 : (12 : Int) + (x : Int) = ((12 + x : Nat) : Int) := by omega
        have e18 : (18 : Int) + (x : Int) = ((18 + x : Nat) : Int) := by omega
        have e24 := hr1.2.1
        have e25 : (25 : Int) + ((pv_r V).length : Int) = ((25 + (pv_r V).length : Nat) : Int) := by omega
        have up : ∀ (f : Nat → Int32) (v : Int32) (m h : Nat), m < 33 → upd f (pj (m : Nat)).toNatClampNeg v h = if h = m then v else f h := fun f v m h hm => by rw [pj_nat (by omega), Int.toNat_natCast, pj_upd]
        have hfs : ∀ y v, gm_strongFirst (zm_sA Z1 48 y v) (pj x) = some (pj (pt_s T x)) := fun y v => by
          have := pm_first hm1 hn hx
          unfold gm_strongFirst at this ⊢
          rw [pm_sA1, pm_sAn (by decide)]; exact this
        have r18 : ∀ u v w, (zm_sA (zm_sA Z1 48 (pj ((6 + x : Nat) : Int)) u) 48 (pj ((12 + x : Nat) : Int)) v).2.1 48 (18 + x) = w → pv_g V x = w := fun u v w q => by
          rw [pm_sAs, up _ _ _ _ (by omega), if_neg (by omega), pm_sAs, up _ _ _ _ (by omega), if_neg (by omega), d3] at q; exact q
        have r18' : ∀ u v, (zm_sA (zm_sA Z1 48 (pj ((6 + x : Nat) : Int)) u) 48 (pj ((12 + x : Nat) : Int)) v).2.1 48 (18 + x) = pv_g V x := fun u v => (r18 u v _ rfl).symm
        have r24 : ∀ u v w z, (zm_sA (zm_sA (zm_sA (zm_sA Z1 48 (pj ((6 + x : Nat) : Int)) u) 48 (pj ((12 + x : Nat) : Int)) v) 48 (pj ((18 + x : Nat) : Int)) w) 48 (pj (x : Nat)) z).2.1 48 24 = pj (pv_r V).length := fun u v w z => by
          rw [pm_sAs, up _ _ _ _ (by omega), if_neg (by omega), pm_sAs, up _ _ _ _ (by omega), if_neg (by omega), pm_sAs, up _ _ _ _ (by omega), if_neg (by omega), pm_sAs, up _ _ _ _ (by omega), if_neg (by omega)]; exact e24
        have r24' : ∀ u v w z t, (zm_sA (zm_sA (zm_sA (zm_sA (zm_sA Z1 48 (pj ((6 + x : Nat) : Int)) u) 48 (pj ((12 + x : Nat) : Int)) v) 48 (pj ((18 + x : Nat) : Int)) w) 48 (pj (x : Nat)) z) 48 (pj ((25 + (pv_r V).length : Nat) : Int)) t).2.1 48 24 = pj (pv_r V).length := fun u v w z t => by
          rw [pm_sAs, up _ _ _ _ (by omega), if_neg (by omega)]; exact r24 u v w z
        have hZ : ∀ y, (zm_sA (zm_sA (zm_sA (zm_sA (zm_sA (zm_sA Z1 48 (pj ((6 + x : Nat) : Int)) (pj (pv_h V x))) 48 (pj ((12 + x : Nat) : Int)) (pj (pt_s T x))) 48 (pj ((18 + x : Nat) : Int)) (pv_g V x + pj 1)) 48 (pj (x : Nat)) (pj 0)) 48 (pj ((25 + (pv_r V).length : Nat) : Int)) (pj (x : Nat))) 48 (pj 24) (pj (((pv_r V).length : Int) + 1))).2.1 48 y
            = if y = 24 then pj ((pv_r V).length + 1 : Nat) else if y = 25 + (pv_r V).length then pj x else if y = x then pj 0 else if y = 18 + x then pv_g V x + 1 else if y = 12 + x then pj (pt_s T x) else if y = 6 + x then pj (pv_h V x) else Z1.2.1 48 y := by
          intro y
          rw [pm_sAs, show pj 24 = pj ((24 : Nat) : Int) from rfl, up _ _ _ _ (by omega), pm_sAs, up _ _ _ _ (by omega), pm_sAs, up _ _ _ _ (by omega), pm_sAs, up _ _ _ _ (by omega), pm_sAs, up _ _ _ _ (by omega), pm_sAs, up _ _ _ _ (by omega)]
          rfl
        have hrow' := pm_spl hT hr1 ho hx h1 (by omega) _ hZ
        have hw6 : pm_w Z1 (zm_sA (zm_sA (zm_sA (zm_sA (zm_sA (zm_sA Z1 48 (pj ((6 + x : Nat) : Int)) (pj (pv_h V x))) 48 (pj ((12 + x : Nat) : Int)) (pj (pt_s T x))) 48 (pj ((18 + x : Nat) : Int)) (pv_g V x + pj 1)) 48 (pj (x : Nat)) (pj 0)) 48 (pj ((25 + (pv_r V).length : Nat) : Int)) (pj (x : Nat))) 48 (pj 24) (pj (((pv_r V).length : Int) + 1))) :=
          pm_w_trans (pm_w_A _ _) (pm_w_trans (pm_w_A _ _) (pm_w_trans (pm_w_A _ _) (pm_w_trans (pm_w_A _ _) (pm_w_trans (pm_w_A _ _) (pm_w_A _ _)))))
        unfold gh_splice gm_splice
        rw [pc_isHouse M hT, decide_eq_true hh, eZ, Option.bind_some, Option.bind_some, if_pos rfl, pc_has hV ho x hx6, decide_eq_false h1, Option.bind_some, if_neg (by decide), pm_isHouse hT hm1, decide_eq_true hh, Option.bind_some, if_pos rfl, pm_has hr1 ho x hx6, decide_eq_false h1, Option.bind_some, if_neg (by decide)]
        simp (disch := omega) only [pj_lit, pj_add, pj_sub, pj_neg, pj_mul, pj_lt, pj_eq, pj_nat, pj_ald, pj_ast, pj_ix, pw_bind, pw_ite, pw_some, pw_none, pw_let, Option.bind_some, Int.toNat_natCast, Sum.elim_inl, Sum.elim_inr, Int.cast_ofNat_Int, Int.reduceLT, Int.reduceLE, Int.reduceEq, Int.reduceAdd, Int.reduceSub, Int.reduceMul, Int.reduceNeg, Int.reduceToNat, Nat.reduceAdd, Nat.reduceSub, Nat.reduceMul, Nat.reduceEqDiff, Nat.reduceLT, reduceIte, reduceCtorEq, true_and, and_true, forall_const, not_true_eq_false, not_false_eq_true, false_implies, implies_true, c0, hne0, eM1, eM2, pc_rope v2 hok, d0, e6, hfs, e12, e18, r18', r24, e25, r24']
        generalize zm_sA (zm_sA (zm_sA (zm_sA (zm_sA (zm_sA Z1 48 (pj ((6 + x : Nat) : Int)) (pj (pv_h V x))) 48 (pj ((12 + x : Nat) : Int)) (pj (pt_s T x))) 48 (pj ((18 + x : Nat) : Int)) (pv_g V x + pj 1)) 48 (pj (x : Nat)) (pj 0)) 48 (pj ((25 + (pv_r V).length : Nat) : Int)) (pj (x : Nat))) 48 (pj 24) (pj (((pv_r V).length : Int) + 1)) = Z2 at hrow' hw6
        have h53 : Z2.1 53 = pj H.length := ((hw6.1 53 (by decide)).trans hc47.2.2).trans k5
        obtain ⟨Z3, e3, hrec⟩ := pm_records k1 h53
        have hr3 : pv_row (Z3.2.1 48) (pv_spl T V x) := by rw [hrec.2.2.1 48 (by decide) (by decide)]; exact hrow'
        simp (disch := omega) only [pj_lit, pj_add, pj_sub, pj_neg, pj_mul, pj_lt, pj_eq, pj_nat, pj_ald, pj_ast, pj_ix, pw_bind, pw_ite, pw_some, pw_none, pw_let, Option.bind_some, Int.toNat_natCast, Sum.elim_inl, Sum.elim_inr, Int.cast_ofNat_Int, Int.reduceLT, Int.reduceLE, Int.reduceEq, Int.reduceAdd, Int.reduceSub, Int.reduceMul, Int.reduceNeg, Int.reduceToNat, Nat.reduceAdd, Nat.reduceSub, Nat.reduceMul, Nat.reduceEqDiff, Nat.reduceLT, reduceIte, reduceCtorEq, true_and, and_true, forall_const, not_true_eq_false, not_false_eq_true, false_implies, implies_true, e3, pm_rope hr3 hok]
        refine pr_change h hok v2 (s2.trans ((kp.1 _ _ (by omega) (by omega)).trans hsd)) (pc_V_w (by omega) (by omega) (pc_o_w o2) v1) ((o2.1 _ _ (by omega)).trans (s1.trans hsd)) ((o2.1 _ _ (by omega)).trans f1) ((o2.1 _ _ (by omega)).trans f2) (pc_u_trans (pc_kp_u kp) (pc_w0_u (pc_o_w o2))) hrow' ?_ ?_ (pm_u_trans hcu (pm_w_u hw6)) hrec
        · rw [hw6.2.1 47 (by decide) (by decide) (by decide) (by decide) (by decide)]; exact hc47.1
        · rw [hw6.2.1 54 (by decide) (by decide) (by decide) (by decide) (by decide)]; exact hc47.2.1
  · unfold gh_splice gm_splice
    rw [pc_isHouse M hT, decide_eq_false hh, eZ, Option.bind_some, Option.bind_some, if_neg (by decide), pw_some, pm_isHouse hT hm1, decide_eq_false hh, Option.bind_some, if_neg (by decide), pw_some]
    exact ⟨rfl, s, V, H, at_, pr_R_k (pc_k_rfl M) hk1 h⟩
