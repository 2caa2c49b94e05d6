set_option maxRecDepth 100000
/-! reading: what the tokens of a tape are -/
theorem pw_meas {τ ρ : Type} {b : τ → Option (τ ⊕ ρ)} {Q : ρ → Prop} (I : τ → Prop) (μ : τ → Nat) (step : ∀ t, I t → pw (b t) (Sum.elim (fun t' => I t' ∧ μ t' < μ t) Q)) : ∀ fuel t, I t → μ t < fuel → pw (zs_loop fuel b t) Q
  | 0, t, _, h => absurd h (Nat.not_lt_zero _)
  | n + 1, t, hI, h => by
    show pw ((b t).bind (fun s => Sum.elim (fun t' => zs_loop n b t') some s)) Q
    refine pw_seq (step t hI) (fun s hs => ?_)
    cases s with
    | inl t' => exact pw_meas I μ step n t' hs.1 (by have := hs.2; omega)
    | inr r => exact (pw_some _ _).2 hs
abbrev pz_T : Type := Nat × Nat × Nat × Nat
def pz_c (b : Nat → Int) (p k : Nat) : Int := if k < p then b k else 0
def pz_dig (b : Nat → Int) (p k : Nat) : Bool := decide (48 ≤ pz_c b p k) && decide (pz_c b p k ≤ 57)
def pz_ltr (b : Nat → Int) (p k : Nat) : Bool := decide (97 ≤ pz_c b p k) && decide (pz_c b p k ≤ 122)
def pz_blk (b : Nat → Int) (p k : Nat) : Bool := decide (pz_c b p k = 32 ∨ pz_c b p k = 9 ∨ pz_c b p k = 10 ∨ pz_c b p k = 13)
def pz_end (q : Nat → Bool) : Nat → Nat → Nat
  | 0, k => k
  | n + 1, k => if q k = true then pz_end q n (k + 1) else k
def pz_sg (c : Int) : Nat := if c = 59 then 4 else if c = 61 then 5 else if c = 40 then 6 else if c = 41 then 7 else if c = 43 then 8 else if c = 45 then 9 else if c = 42 then 10 else if c = 47 then 15 else if c = 60 then 13 else 3
def pz_sl (b : Nat → Int) (k e : Nat) : List Nat := (List.range (e - k)).map fun j => (b (k + j)).toNat
def pz_wd (w : List Nat) : Option Nat := pr_words.findIdx? fun x => x == w
def pz_num (b : Nat → Int) (k : Nat) : Nat → Nat
  | 0 => 0
  | n + 1 => 10 * pz_num b k n + (b (k + n)).toNat - 48
def pz_le (b : Nat → Int) (p k : Nat) : Nat := pz_end (pz_ltr b p) (p - k) k
def pz_de (b : Nat → Int) (p k : Nat) : Nat := pz_end (pz_dig b p) (p - k) k
def pz_wk (b : Nat → Int) (k e : Nat) : Nat := match pz_wd (pz_sl b k e) with
  | some w => 20 + w
  | none => if 8 < e - k then 3 else 1
def pz_tok (b : Nat → Int) (p k : Nat) : pz_T :=
  if pz_ltr b p k = true then (pz_wk b k (pz_le b p k), k, pz_le b p k, 0)
  else if pz_dig b p k = true then (if 4 < pz_de b p k - k then 3 else 2, k, pz_de b p k, pz_num b k (pz_de b p k - k))
  else (pz_sg (pz_c b p k), k, k + 1, 0)
def pz_toks (b : Nat → Int) (p : Nat) : Nat → Nat → List pz_T
  | 0, _ => []
  | n + 1, k => if p ≤ k then [(0, p, p, 0)] else if pz_blk b p k = true then pz_toks b p n (k + 1) else if (pz_tok b p k).1 = 3 then [pz_tok b p k] else pz_tok b p k :: pz_toks b p n (pz_tok b p k).2.2.1
def pz_K (b : Nat → Int) (p : Nat) : List pz_T := pz_toks b p (p + 1) 0
theorem pz_end_sp {q : Nat → Bool} {p : Nat} (hq : ∀ k, p ≤ k → q k = false) : ∀ n k, k + n = p → k ≤ pz_end q n k ∧ pz_end q n k ≤ p ∧ (∀ j, k ≤ j → j < pz_end q n k → q j = true) ∧ q (pz_end q n k) = false
  | 0, k, h => ⟨Nat.le_refl _, by show k ≤ p; omega, fun j h1 h2 => absurd h2 (by show ¬ j < k; omega), hq k (by omega)⟩
  | n + 1, k, h => by
    unfold pz_end
    by_cases c : q k = true
    · rw [if_pos c]
      obtain ⟨a1, a2, a3, a4⟩ := pz_end_sp hq n (k + 1) (by omega)
      refine ⟨by omega, a2, fun j h1 h2 => ?_, a4⟩
      by_cases e : j = k
      · rw [e]; exact c
      · exact a3 j (by omega) h2
    · rw [if_neg c]
      exact ⟨Nat.le_refl _, by omega, fun j h1 h2 => absurd h2 (by omega), by simpa using c⟩
theorem pz_c_hi {b : Nat → Int} {p k : Nat} (h : p ≤ k) : pz_c b p k = 0 := if_neg (by omega)
theorem pz_ltr_hi {b : Nat → Int} {p k : Nat} (h : p ≤ k) : pz_ltr b p k = false := by
  unfold pz_ltr; rw [pz_c_hi h]; rfl
theorem pz_dig_hi {b : Nat → Int} {p k : Nat} (h : p ≤ k) : pz_dig b p k = false := by
  unfold pz_dig; rw [pz_c_hi h]; rfl
theorem pz_le_sp {b : Nat → Int} {p k : Nat} (h : pz_ltr b p k = true) : k < pz_le b p k ∧ pz_le b p k ≤ p ∧ (∀ j, k ≤ j → j < pz_le b p k → pz_ltr b p j = true) ∧ pz_ltr b p (pz_le b p k) = false := by
  have hk : k < p := by
    by_cases c : k < p
    · exact c
    · rw [pz_ltr_hi (by omega)] at h; cases h
  obtain ⟨a1, a2, a3, a4⟩ := pz_end_sp (q := pz_ltr b p) (p := p) (fun k h => pz_ltr_hi h) (p - k) k (by omega)
  refine ⟨?_, a2, a3, a4⟩
  unfold pz_le
  by_cases e : pz_end (pz_ltr b p) (p - k) k = k
  · rw [e] at a4; rw [a4] at h; cases h
  · omega
theorem pz_de_sp {b : Nat → Int} {p k : Nat} (h : pz_dig b p k = true) : k < pz_de b p k ∧ pz_de b p k ≤ p ∧ (∀ j, k ≤ j → j < pz_de b p k → pz_dig b p j = true) ∧ pz_dig b p (pz_de b p k) = false := by
  have hk : k < p := by
    by_cases c : k < p
    · exact c
    · rw [pz_dig_hi (by omega)] at h; cases h
  obtain ⟨a1, a2, a3, a4⟩ := pz_end_sp (q := pz_dig b p) (p := p) (fun k h => pz_dig_hi h) (p - k) k (by omega)
  refine ⟨?_, a2, a3, a4⟩
  unfold pz_de
  by_cases e : pz_end (pz_dig b p) (p - k) k = k
  · rw [e] at a4; rw [a4] at h; cases h
  · omega
theorem pz_ltr_c {b : Nat → Int} {p k : Nat} (h : pz_ltr b p k = true) : k < p ∧ 97 ≤ b k ∧ b k ≤ 122 := by
  have hk : k < p := by
    by_cases c : k < p
    · exact c
    · rw [pz_ltr_hi (by omega)] at h; cases h
  unfold pz_ltr pz_c at h
  rw [if_pos hk, Bool.and_eq_true, decide_eq_true_eq, decide_eq_true_eq] at h
  exact ⟨hk, h⟩
theorem pz_dig_c {b : Nat → Int} {p k : Nat} (h : pz_dig b p k = true) : k < p ∧ 48 ≤ b k ∧ b k ≤ 57 := by
  have hk : k < p := by
    by_cases c : k < p
    · exact c
    · rw [pz_dig_hi (by omega)] at h; cases h
  unfold pz_dig pz_c at h
  rw [if_pos hk, Bool.and_eq_true, decide_eq_true_eq, decide_eq_true_eq] at h
  exact ⟨hk, h⟩
theorem pz_tok_sp {b : Nat → Int} {p k : Nat} (hk : k < p) : (pz_tok b p k).2.1 = k ∧ k < (pz_tok b p k).2.2.1 ∧ (pz_tok b p k).2.2.1 ≤ p := by
  unfold pz_tok
  by_cases c : pz_ltr b p k = true
  · rw [if_pos c]
    have := pz_le_sp c
    exact ⟨rfl, this.1, this.2.1⟩
  · rw [if_neg c]
    by_cases d : pz_dig b p k = true
    · rw [if_pos d]
      have := pz_de_sp d
      exact ⟨rfl, this.1, this.2.1⟩
    · rw [if_neg d]
      exact ⟨rfl, Nat.lt_succ_self k, hk⟩
theorem pz_num_bd {b : Nat → Int} {k : Nat} : ∀ n, (∀ j, j < n → 48 ≤ b (k + j) ∧ b (k + j) ≤ 57) → pz_num b k n < 10 ^ n ∧ ((pz_num b k n : Nat) : Int) < 10 ^ n
  | 0, _ => ⟨by simp [pz_num], by simp [pz_num]⟩
  | n + 1, h => by
    have ih := (pz_num_bd n (fun j hj => h j (by omega))).1
    have hn := h n (by omega)
    have : pz_num b k (n + 1) < 10 ^ (n + 1) := by
      rw [Nat.pow_succ]
      unfold pz_num
      omega
    refine ⟨this, ?_⟩
    exact_mod_cast this
theorem pz_words_ok : (pr_words.all fun w => decide (w.length ≤ 7) && decide (1 ≤ w.length) && w.all fun c => decide (97 ≤ c) && decide (c ≤ 122)) = true := by decide
theorem pz_words_sp {w : List Nat} (h : w ∈ pr_words) : w.length ≤ 7 ∧ 1 ≤ w.length ∧ ∀ c ∈ w, 97 ≤ c ∧ c ≤ 122 := by
  have := List.all_eq_true.1 pz_words_ok w h
  simp only [Bool.and_eq_true, decide_eq_true_eq, List.all_eq_true] at this
  exact ⟨this.1.1, this.1.2, this.2⟩
theorem pz_words_nd : pr_words.Nodup := by decide
/-! names by their numbers -/
def pz_nk (w : List Nat) : Int := w.foldl (fun (n : Int) (c : Nat) => 27 * n + ((c : Int) - 96)) 0
theorem pz_to64 {z : Int} (h : -1000 ≤ z ∧ z ≤ 1000) : (pj z).toInt64 = Int64.ofInt z := by
  apply Int64.toInt_inj.1
  rw [Int32.toInt_toInt64, pj_toInt (by omega), Int64.toInt_ofInt_of_le (by omega) (by omega)]
theorem pz_key_aux : ∀ (w : List Nat) (a : Int), (∀ c ∈ w, 97 ≤ c ∧ c ≤ 122) → w.foldl (fun (n : Int64) (c : Nat) => 27 * n + (pj ((c : Int) - 96)).toInt64) (Int64.ofInt a) = Int64.ofInt (w.foldl (fun (n : Int) (c : Nat) => 27 * n + ((c : Int) - 96)) a)
  | [], a, _ => rfl
  | c :: w, a, h => by
    have hc := h c List.mem_cons_self
    rw [List.foldl_cons, List.foldl_cons, ← pz_key_aux w _ (fun x hx => h x (List.mem_cons_of_mem _ hx))]
    congr 1
    rw [pz_to64 (by omega), Int64.ofInt_add, Int64.ofInt_mul]
    rfl
theorem pz_key_eq {w : List Nat} (h : ∀ c ∈ w, 97 ≤ c ∧ c ≤ 122) : pr_key w = Int64.ofInt (pz_nk w) := pz_key_aux w 0 h
def pz_nr : List Nat → Int
  | [] => 0
  | c :: r => 27 * pz_nr r + ((c : Int) - 96)
theorem pz_nk_r (w : List Nat) : pz_nk w = pz_nr w.reverse := by
  unfold pz_nk
  rw [← List.foldr_reverse]
  induction w.reverse with
  | nil => rfl
  | cons c r ih => rw [List.foldr_cons, ih]; rfl
theorem pz_nr_bd : ∀ (r : List Nat), (∀ c ∈ r, 97 ≤ c ∧ c ≤ 122) → 0 ≤ pz_nr r ∧ pz_nr r < 27 ^ r.length
  | [], _ => by decide
  | c :: r, h => by
    have ih := pz_nr_bd r (fun x hx => h x (List.mem_cons_of_mem _ hx))
    have hc := h c List.mem_cons_self
    rw [List.length_cons, Int.pow_succ]
    unfold pz_nr
    omega
theorem pz_nr_inj : ∀ (r q : List Nat), (∀ c ∈ r, 97 ≤ c ∧ c ≤ 122) → (∀ c ∈ q, 97 ≤ c ∧ c ≤ 122) → pz_nr r = pz_nr q → r = q
  | [], [], _, _, _ => rfl
  | [], c :: q, _, h, e => by
    have hc := h c List.mem_cons_self
    have := (pz_nr_bd q (fun x hx => h x (List.mem_cons_of_mem _ hx))).1
    unfold pz_nr at e
    omega
  | c :: r, [], h, _, e => by
    have hc := h c List.mem_cons_self
    have := (pz_nr_bd r (fun x hx => h x (List.mem_cons_of_mem _ hx))).1
    unfold pz_nr at e
    omega
  | c :: r, d :: q, h, g, e => by
    have hc := h c List.mem_cons_self
    have hd := g d List.mem_cons_self
    have e2 : pz_nr r = pz_nr q ∧ c = d := by
      unfold pz_nr at e
      omega
    rw [pz_nr_inj r q (fun x hx => h x (List.mem_cons_of_mem _ hx)) (fun x hx => g x (List.mem_cons_of_mem _ hx)) e2.1, e2.2]
theorem pz_key_inj {w u : List Nat} (hw : ∀ c ∈ w, 97 ≤ c ∧ c ≤ 122) (hu : ∀ c ∈ u, 97 ≤ c ∧ c ≤ 122) (lw : w.length ≤ 8) (lu : u.length ≤ 8) : pr_key w = pr_key u ↔ w = u := by
  constructor
  · intro e
    rw [pz_key_eq hw, pz_key_eq hu, pz_nk_r, pz_nk_r] at e
    have bw := pz_nr_bd w.reverse (fun c hc => hw c (List.mem_reverse.1 hc))
    have bu := pz_nr_bd u.reverse (fun c hc => hu c (List.mem_reverse.1 hc))
    have p8 : (27 : Int) ^ 8 = 282429536481 := by decide
    have m1 : (27 : Int) ^ w.reverse.length ≤ 27 ^ 8 := by
      have : (27 : Nat) ^ w.reverse.length ≤ 27 ^ 8 := Nat.pow_le_pow_right (by omega) (by rw [List.length_reverse]; exact lw)
      exact_mod_cast this
    have m2 : (27 : Int) ^ u.reverse.length ≤ 27 ^ 8 := by
      have : (27 : Nat) ^ u.reverse.length ≤ 27 ^ 8 := Nat.pow_le_pow_right (by omega) (by rw [List.length_reverse]; exact lu)
      exact_mod_cast this
    have e := congrArg Int64.toInt e
    rw [Int64.toInt_ofInt_of_le (by omega) (by omega), Int64.toInt_ofInt_of_le (by omega) (by omega)] at e
    have := pz_nr_inj _ _ (fun c hc => hw c (List.mem_reverse.1 hc)) (fun c hc => hu c (List.mem_reverse.1 hc)) e
    exact List.reverse_inj.1 this
  · intro e; rw [e]
/-! the tokens by the model -/
theorem pz_255 : ∀ v, v < 256 → pj ((v : Nat) - 128 : Int) &&& pj 255 = pj ((((v : Nat) : Int) - 128) % 256) := by decide +kernel
def pz_m (b : Nat → Int) (p k : Nat) : Int := if k < p then b k % 256 else 0
def pm_by (b : Nat → Int) (p : Nat) (Z : zm_S) : Prop := p ≤ 2000 ∧ Z.1 4 = pj p ∧ ∀ k, k < p → Z.2.1 3 k = pj (b k) ∧ -128 ≤ b k ∧ b k < 128
theorem pm_byteAt {b : Nat → Int} {p : Nat} {Z : zm_S} (h : pm_by b p Z) (k : Nat) (hk : k < 5000) : gm_byteAt Z (pj k) = some (pj (pz_m b p k)) := by
  obtain ⟨h1, h2, h3⟩ := h
  unfold gm_byteAt pz_m
  rw [h2]
  by_cases c : k < p
  · obtain ⟨c1, c2, c3⟩ := h3 k c
    have hlt : (k : Int) < (p : Nat) := by omega
    have := pz_255 (b k + 128).toNat (by omega)
    rw [show (((b k + 128).toNat : Nat) : Int) - 128 = b k by omega] at this
    simp (disch := omega) only [pj_lit, pj_add, pj_sub, pj_neg, pj_mul, pj_lt, pj_eq, pj_nat, pj_ald, pj_ast, pj_ix, pw_bind, pw_ite, pw_some, pw_none, pw_let, Option.bind_some, Int.toNat_natCast, Sum.elim_inl, Sum.elim_inr, Int.cast_ofNat_Int, Int.reduceLT, Int.reduceLE, Int.reduceEq, Int.reduceAdd, Int.reduceSub, Int.reduceMul, Int.reduceNeg, Int.reduceToNat, Nat.reduceAdd, Nat.reduceSub, Nat.reduceMul, Nat.reduceEqDiff, Nat.reduceLT, reduceIte, reduceCtorEq, true_and, and_true, forall_const, not_true_eq_false, not_false_eq_true, false_implies, implies_true, hlt, c1, this, if_pos c]
  · have hlt : ¬ (k : Int) < (p : Nat) := by omega
    simp (disch := omega) only [pj_lit, pj_add, pj_sub, pj_neg, pj_mul, pj_lt, pj_eq, pj_nat, pj_ald, pj_ast, pj_ix, pw_bind, pw_ite, pw_some, pw_none, pw_let, Option.bind_some, Int.toNat_natCast, Sum.elim_inl, Sum.elim_inr, Int.cast_ofNat_Int, Int.reduceLT, Int.reduceLE, Int.reduceEq, Int.reduceAdd, Int.reduceSub, Int.reduceMul, Int.reduceNeg, Int.reduceToNat, Nat.reduceAdd, Nat.reduceSub, Nat.reduceMul, Nat.reduceEqDiff, Nat.reduceLT, reduceIte, reduceCtorEq, true_and, and_true, forall_const, not_true_eq_false, not_false_eq_true, false_implies, implies_true, hlt, if_neg c]
theorem pz_m_bd {b : Nat → Int} {p : Nat} {Z : zm_S} (h : pm_by b p Z) (k : Nat) : 0 ≤ pz_m b p k ∧ pz_m b p k < 256 := by
  unfold pz_m
  split <;> omega
theorem pz_m_ltr {b : Nat → Int} {p : Nat} {Z : zm_S} (h : pm_by b p Z) (k : Nat) : pz_ltr b p k = (decide (97 ≤ pz_m b p k) && decide (pz_m b p k ≤ 122)) := by
  unfold pz_ltr pz_c pz_m
  by_cases c : k < p
  · have := h.2.2 k c
    rw [if_pos c, if_pos c]
    have h1 : (97 ≤ b k ∧ b k ≤ 122) ↔ (97 ≤ b k % 256 ∧ b k % 256 ≤ 122) := by omega
    by_cases d : 97 ≤ b k ∧ b k ≤ 122
    · have d2 := h1.1 d
      rw [decide_eq_true d.1, decide_eq_true d.2, decide_eq_true d2.1, decide_eq_true d2.2]
    · have d2 : ¬ (97 ≤ b k % 256 ∧ b k % 256 ≤ 122) := fun q => d (h1.2 q)
      rw [← Bool.decide_and, ← Bool.decide_and, decide_eq_false d, decide_eq_false d2]
  · rw [if_neg c, if_neg c]
theorem pz_m_dig {b : Nat → Int} {p : Nat} {Z : zm_S} (h : pm_by b p Z) (k : Nat) : pz_dig b p k = (decide (48 ≤ pz_m b p k) && decide (pz_m b p k ≤ 57)) := by
  unfold pz_dig pz_c pz_m
  by_cases c : k < p
  · have := h.2.2 k c
    rw [if_pos c, if_pos c]
    have h1 : (48 ≤ b k ∧ b k ≤ 57) ↔ (48 ≤ b k % 256 ∧ b k % 256 ≤ 57) := by omega
    by_cases d : 48 ≤ b k ∧ b k ≤ 57
    · have d2 := h1.1 d
      rw [decide_eq_true d.1, decide_eq_true d.2, decide_eq_true d2.1, decide_eq_true d2.2]
    · have d2 : ¬ (48 ≤ b k % 256 ∧ b k % 256 ≤ 57) := fun q => d (h1.2 q)
      rw [← Bool.decide_and, ← Bool.decide_and, decide_eq_false d, decide_eq_false d2]
  · rw [if_neg c, if_neg c]
theorem pm_isLetter {b : Nat → Int} {p : Nat} {Z : zm_S} (h : pm_by b p Z) (k : Nat) : gm_isLetter (pj (pz_m b p k)) = some (pz_ltr b p k) := by
  have hb := pz_m_bd h k
  rw [pz_m_ltr h]
  generalize pz_m b p k = c at hb
  unfold gm_isLetter
  simp (disch := omega) only [pj_lit, pj_add, pj_sub, pj_neg, pj_mul, pj_lt, pj_eq, pj_nat, pj_ald, pj_ast, pj_ix, pw_bind, pw_ite, pw_some, pw_none, pw_let, Option.bind_some, Int.toNat_natCast, Sum.elim_inl, Sum.elim_inr, Int.cast_ofNat_Int, Int.reduceLT, Int.reduceLE, Int.reduceEq, Int.reduceAdd, Int.reduceSub, Int.reduceMul, Int.reduceNeg, Int.reduceToNat, Nat.reduceAdd, Nat.reduceSub, Nat.reduceMul, Nat.reduceEqDiff, Nat.reduceLT, reduceIte, reduceCtorEq, true_and, and_true, forall_const, not_true_eq_false, not_false_eq_true, false_implies, implies_true]
  by_cases c1 : c < 97
  · rw [if_pos c1, decide_eq_false (by omega)]; rfl
  · rw [if_neg c1, decide_eq_true (by omega)]
    by_cases c2 : 122 < c
    · rw [if_pos c2, decide_eq_false (by omega)]; rfl
    · rw [if_neg c2, decide_eq_true (by omega)]; rfl
theorem pm_isDigit {b : Nat → Int} {p : Nat} {Z : zm_S} (h : pm_by b p Z) (k : Nat) : gm_isDigit (pj (pz_m b p k)) = some (pz_dig b p k) := by
  have hb := pz_m_bd h k
  rw [pz_m_dig h]
  generalize pz_m b p k = c at hb
  unfold gm_isDigit
  simp (disch := omega) only [pj_lit, pj_add, pj_sub, pj_neg, pj_mul, pj_lt, pj_eq, pj_nat, pj_ald, pj_ast, pj_ix, pw_bind, pw_ite, pw_some, pw_none, pw_let, Option.bind_some, Int.toNat_natCast, Sum.elim_inl, Sum.elim_inr, Int.cast_ofNat_Int, Int.reduceLT, Int.reduceLE, Int.reduceEq, Int.reduceAdd, Int.reduceSub, Int.reduceMul, Int.reduceNeg, Int.reduceToNat, Nat.reduceAdd, Nat.reduceSub, Nat.reduceMul, Nat.reduceEqDiff, Nat.reduceLT, reduceIte, reduceCtorEq, true_and, and_true, forall_const, not_true_eq_false, not_false_eq_true, false_implies, implies_true]
  by_cases c1 : c < 48
  · rw [if_pos c1, decide_eq_false (by omega)]; rfl
  · rw [if_neg c1, decide_eq_true (by omega)]
    by_cases c2 : 57 < c
    · rw [if_pos c2, decide_eq_false (by omega)]; rfl
    · rw [if_neg c2, decide_eq_true (by omega)]; rfl
/-- all but the tokens -/
def pm_cu (Z Z' : zm_S) : Prop := (∀ k, k ≠ 10 → Z'.1 k = Z.1 k) ∧ (∀ k, k ≠ 5 → k ≠ 6 → k ≠ 7 → Z'.2.1 k = Z.2.1 k) ∧ ∀ k, k ≠ 8 → Z'.2.2 k = Z.2.2 k
theorem pm_cu_rfl (Z : zm_S) : pm_cu Z Z := ⟨fun _ _ => rfl, fun _ _ _ _ => rfl, fun _ _ => rfl⟩
theorem pm_cu_trans {A B C : zm_S} (h : pm_cu A B) (g : pm_cu B C) : pm_cu A C := ⟨fun k a => (g.1 k a).trans (h.1 k a), fun k a b c => (g.2.1 k a b c).trans (h.2.1 k a b c), fun k a => (g.2.2 k a).trans (h.2.2 k a)⟩
theorem pm_by_cu {b : Nat → Int} {p : Nat} {Z Z' : zm_S} (h : pm_cu Z Z') (g : pm_by b p Z) : pm_by b p Z' := by
  refine ⟨g.1, (h.1 4 (by omega)).trans g.2.1, ?_⟩
  rw [h.2.1 3 (by omega) (by omega) (by omega)]
  exact g.2.2
/-- a token is laid -/
theorem pm_token {Z : zm_S} {n : Nat} (hn : n < 403) (h : Z.1 10 = pj n) (x1 x2 x3 : Int32) (l : Int64) :
    pw (gm_token Z x1 x2 x3 l) (fun Z' => pm_cu Z Z' ∧ Z'.1 10 = pj ((n + 1 : Nat) : Int) ∧ ∀ j, Z'.2.1 5 j = (if j = n then x1 else Z.2.1 5 j) ∧ Z'.2.1 6 j = (if j = n then x2 else Z.2.1 6 j) ∧ Z'.2.1 7 j = (if j = n then x3 else Z.2.1 7 j) ∧ Z'.2.2 8 j = (if j = n then l else Z.2.2 8 j)) := by
  unfold gm_token
  have e1 : ∀ (A : zm_S) k x, (zm_sA A k (pj (n : Nat)) x).1 = A.1 := fun _ _ _ => rfl
  have e2 : ∀ (A : zm_S) x, (zm_sL A 8 (pj (n : Nat)) x).1 = A.1 := fun _ _ => rfl
  simp (disch := omega) only [pj_lit, pj_add, pj_sub, pj_neg, pj_mul, pj_lt, pj_eq, pj_nat, pj_ald, pj_ast, pj_ix, pw_bind, pw_ite, pw_some, pw_none, pw_let, Option.bind_some, Int.toNat_natCast, Sum.elim_inl, Sum.elim_inr, Int.cast_ofNat_Int, Int.reduceLT, Int.reduceLE, Int.reduceEq, Int.reduceAdd, Int.reduceSub, Int.reduceMul, Int.reduceNeg, Int.reduceToNat, Nat.reduceAdd, Nat.reduceSub, Nat.reduceMul, Nat.reduceEqDiff, Nat.reduceLT, reduceIte, reduceCtorEq, true_and, and_true, forall_const, not_true_eq_false, not_false_eq_true, false_implies, implies_true, h, e1, e2]
  refine ⟨⟨fun k hk => ?_, fun k a b c => ?_, fun k a => ?_⟩, ?_, fun j => ⟨?_, ?_, ?_, ?_⟩⟩
  · show (if k = 10 then _ else Z.1 k) = _
    rw [if_neg hk]
  · show (zm_sA (zm_sA (zm_sA Z 5 (pj (n : Nat)) x1) 6 (pj (n : Nat)) x2) 7 (pj (n : Nat)) x3).2.1 k = _
    rw [pm_sAn c, pm_sAn b, pm_sAn a]
  · show (if k = 8 then _ else Z.2.2 k) = _
    rw [if_neg a]
  · show (if 10 = 10 then pj ((n : Int) + 1) else Z.1 10) = _
    rw [if_pos rfl]; rfl
  · show (zm_sA (zm_sA (zm_sA Z 5 (pj (n : Nat)) x1) 6 (pj (n : Nat)) x2) 7 (pj (n : Nat)) x3).2.1 5 j = _
    rw [pm_sAn (by omega), pm_sAn (by omega), pm_sA, if_pos rfl, pj_nat (by omega), Int.toNat_natCast, pj_upd]
  · show (zm_sA (zm_sA (zm_sA Z 5 (pj (n : Nat)) x1) 6 (pj (n : Nat)) x2) 7 (pj (n : Nat)) x3).2.1 6 j = _
    rw [pm_sAn (by omega), pm_sA, if_pos rfl, pj_nat (by omega), Int.toNat_natCast, pj_upd, pm_sAn (by omega)]
  · show (zm_sA (zm_sA (zm_sA Z 5 (pj (n : Nat)) x1) 6 (pj (n : Nat)) x2) 7 (pj (n : Nat)) x3).2.1 7 j = _
    rw [pm_sA, if_pos rfl, pj_nat (by omega), Int.toNat_natCast, pj_upd, pm_sAn (by omega), pm_sAn (by omega)]
  · show (if 8 = 8 then vp_updL (Z.2.2 8) (pj (n : Nat)).toNatClampNeg l else Z.2.2 8) j = _
    rw [if_pos rfl, pj_nat (by omega), Int.toNat_natCast]
    rfl
/-- the letters of a name -/
theorem pz_sl_len (b : Nat → Int) (k e : Nat) : (pz_sl b k e).length = e - k := by
  unfold pz_sl; rw [List.length_map, List.length_range]
theorem pz_sl_ok {b : Nat → Int} {p k e : Nat} (h : ∀ j, k ≤ j → j < e → pz_ltr b p j = true) : ∀ c ∈ pz_sl b k e, 97 ≤ c ∧ c ≤ 122 := by
  intro c hc
  unfold pz_sl at hc
  obtain ⟨j, hj, rfl⟩ := List.mem_map.1 hc
  have hj := List.mem_range.1 hj
  have := pz_ltr_c (h (k + j) (by omega) (by omega))
  omega
theorem pz_sl_snoc (b : Nat → Int) (k j : Nat) : pz_sl b k (k + (j + 1)) = pz_sl b k (k + j) ++ [(b (k + j)).toNat] := by
  unfold pz_sl
  rw [show k + (j + 1) - k = j + 1 by omega, show k + j - k = j by omega, List.range_succ, List.map_append]
  rfl
theorem pr_key_snoc (w : List Nat) (c : Nat) : pr_key (w ++ [c]) = 27 * pr_key w + (pj ((c : Int) - 96)).toInt64 := by
  unfold pr_key
  rw [List.foldl_append]
  rfl
theorem pm_cutLetters {b : Nat → Int} {p k : Nat} {Z : zm_S} (h : pm_by b p Z) (hl : pz_ltr b p k = true) :
    zs_loop 5000 (gm_cut_L85 (pj k, Z)) (0, 0) = some (pj ((pz_le b p k - k : Nat) : Int), pr_key (pz_sl b k (k + min (pz_le b p k - k) 8))) := by
  obtain ⟨a1, a2, a3, a4⟩ := pz_le_sp hl
  have hp := h.1
  generalize he : pz_le b p k - k = n
  have hke : pz_le b p k = k + n := by omega
  rw [hke] at a1 a2 a3 a4
  have z0 : (pj 0, (0 : Int64)) = (pj ((0 : Nat) : Int), pr_key (pz_sl b k (k + min 0 8))) := by
    rw [Nat.zero_min, Nat.add_zero]
    unfold pz_sl
    rw [Nat.sub_self]; rfl
  rw [pj_0, z0]
  refine pw_forE n (fun j => (pj (j : Nat), pr_key (pz_sl b k (k + min j 8)))) 5000 (by omega) ?_ ?_
  · intro j hj
    have hL := a3 (k + j) (by omega) (by omega)
    have hc := pz_ltr_c hL
    have hm : pz_m b p (k + j) = b (k + j) := by unfold pz_m; rw [if_pos hc.1]; omega
    have e1 : (k : Int) + (j : Int) = ((k + j : Nat) : Int) := by omega
    unfold gm_cut_L85
    simp (disch := omega) only [pj_lit, pj_add, pj_sub, pj_neg, pj_mul, pj_lt, pj_eq, pj_nat, pj_ald, pj_ast, pj_ix, pw_bind, pw_ite, pw_some, pw_none, pw_let, Option.bind_some, Int.toNat_natCast, Sum.elim_inl, Sum.elim_inr, Int.cast_ofNat_Int, Int.reduceLT, Int.reduceLE, Int.reduceEq, Int.reduceAdd, Int.reduceSub, Int.reduceMul, Int.reduceNeg, Int.reduceToNat, Nat.reduceAdd, Nat.reduceSub, Nat.reduceMul, Nat.reduceEqDiff, Nat.reduceLT, reduceIte, reduceCtorEq, true_and, and_true, forall_const, not_true_eq_false, not_false_eq_true, false_implies, implies_true, e1, pm_byteAt h (k + j) (by omega), pm_isLetter h (k + j), hL]
    by_cases c : j < 8
    · have hlt : (j : Int) < 8 := by omega
      rw [if_pos hlt, show min (j + 1) 8 = j + 1 by omega, show min j 8 = j by omega, pz_sl_snoc, pr_key_snoc, hm]
      unfold gm_appends
      have hne : ¬ b (k + j) = 0 := by omega
      have hz : b (k + j) - 97 + 1 = (((b (k + j)).toNat : Nat) : Int) - 96 := by omega
      simp (disch := omega) only [pj_lit, pj_add, pj_sub, pj_neg, pj_mul, pj_lt, pj_eq, pj_nat, pj_ald, pj_ast, pj_ix, pw_bind, pw_ite, pw_some, pw_none, pw_let, Option.bind_some, Int.toNat_natCast, Sum.elim_inl, Sum.elim_inr, Int.cast_ofNat_Int, Int.reduceLT, Int.reduceLE, Int.reduceEq, Int.reduceAdd, Int.reduceSub, Int.reduceMul, Int.reduceNeg, Int.reduceToNat, Nat.reduceAdd, Nat.reduceSub, Nat.reduceMul, Nat.reduceEqDiff, Nat.reduceLT, reduceIte, reduceCtorEq, true_and, and_true, forall_const, not_true_eq_false, not_false_eq_true, false_implies, implies_true, hne, hz]
      rfl
    · have hlt : ¬ (j : Int) < 8 := by omega
      rw [if_neg hlt, show min (j + 1) 8 = 8 by omega, show min j 8 = 8 by omega]
      rfl
  · have e1 : (k : Int) + (n : Int) = ((k + n : Nat) : Int) := by omega
    unfold gm_cut_L85
    simp (disch := omega) only [pj_lit, pj_add, pj_sub, pj_neg, pj_mul, pj_lt, pj_eq, pj_nat, pj_ald, pj_ast, pj_ix, pw_bind, pw_ite, pw_some, pw_none, pw_let, Option.bind_some, Int.toNat_natCast, Sum.elim_inl, Sum.elim_inr, Int.cast_ofNat_Int, Int.reduceLT, Int.reduceLE, Int.reduceEq, Int.reduceAdd, Int.reduceSub, Int.reduceMul, Int.reduceNeg, Int.reduceToNat, Nat.reduceAdd, Nat.reduceSub, Nat.reduceMul, Nat.reduceEqDiff, Nat.reduceLT, reduceIte, reduceCtorEq, true_and, and_true, forall_const, not_true_eq_false, not_false_eq_true, false_implies, implies_true, e1, pm_byteAt h (k + n) (by omega), pm_isLetter h (k + n), a4, Bool.false_eq_true]
theorem pm_cutDigits {b : Nat → Int} {p k : Nat} {Z : zm_S} (h : pm_by b p Z) (hl : pz_dig b p k = true) :
    zs_loop 5000 (gm_cut_L208 (pj k, Z)) (0, 0) = some (pj ((pz_de b p k - k : Nat) : Int), pj (pz_num b k (min (pz_de b p k - k) 4) : Nat)) := by
  obtain ⟨a1, a2, a3, a4⟩ := pz_de_sp hl
  have hp := h.1
  generalize he : pz_de b p k - k = n
  have hke : pz_de b p k = k + n := by omega
  rw [hke] at a1 a2 a3 a4
  refine pw_forE n (fun j => (pj (j : Nat), pj (pz_num b k (min j 4) : Nat))) 5000 (by omega) ?_ ?_
  · intro j hj
    have hL := a3 (k + j) (by omega) (by omega)
    have hc := pz_dig_c hL
    have hm : pz_m b p (k + j) = b (k + j) := by unfold pz_m; rw [if_pos hc.1]; omega
    have e1 : (k : Int) + (j : Int) = ((k + j : Nat) : Int) := by omega
    unfold gm_cut_L208
    simp (disch := omega) only [pj_lit, pj_add, pj_sub, pj_neg, pj_mul, pj_lt, pj_eq, pj_nat, pj_ald, pj_ast, pj_ix, pw_bind, pw_ite, pw_some, pw_none, pw_let, Option.bind_some, Int.toNat_natCast, Sum.elim_inl, Sum.elim_inr, Int.cast_ofNat_Int, Int.reduceLT, Int.reduceLE, Int.reduceEq, Int.reduceAdd, Int.reduceSub, Int.reduceMul, Int.reduceNeg, Int.reduceToNat, Nat.reduceAdd, Nat.reduceSub, Nat.reduceMul, Nat.reduceEqDiff, Nat.reduceLT, reduceIte, reduceCtorEq, true_and, and_true, forall_const, not_true_eq_false, not_false_eq_true, false_implies, implies_true, e1, pm_byteAt h (k + j) (by omega), pm_isDigit h (k + j), hL]
    by_cases c : j < 4
    · have hlt : (j : Int) < 4 := by omega
      rw [if_pos hlt, show min (j + 1) 4 = j + 1 by omega, show min j 4 = j by omega, hm]
      have hz : 10 * ((pz_num b k j : Nat) : Int) + b (k + j) - 48 = ((pz_num b k (j + 1) : Nat) : Int) := by
        have : pz_num b k (j + 1) = 10 * pz_num b k j + (b (k + j)).toNat - 48 := rfl
        omega
      rw [hz, Option.bind_some]
      rfl
    · have hlt : ¬ (j : Int) < 4 := by omega
      rw [if_neg hlt, show min (j + 1) 4 = 4 by omega, show min j 4 = 4 by omega]
      rfl
  · have e1 : (k : Int) + (n : Int) = ((k + n : Nat) : Int) := by omega
    unfold gm_cut_L208
    simp (disch := omega) only [pj_lit, pj_add, pj_sub, pj_neg, pj_mul, pj_lt, pj_eq, pj_nat, pj_ald, pj_ast, pj_ix, pw_bind, pw_ite, pw_some, pw_none, pw_let, Option.bind_some, Int.toNat_natCast, Sum.elim_inl, Sum.elim_inr, Int.cast_ofNat_Int, Int.reduceLT, Int.reduceLE, Int.reduceEq, Int.reduceAdd, Int.reduceSub, Int.reduceMul, Int.reduceNeg, Int.reduceToNat, Nat.reduceAdd, Nat.reduceSub, Nat.reduceMul, Nat.reduceEqDiff, Nat.reduceLT, reduceIte, reduceCtorEq, true_and, and_true, forall_const, not_true_eq_false, not_false_eq_true, false_implies, implies_true, e1, pm_byteAt h (k + n) (by omega), pm_isDigit h (k + n), a4, Bool.false_eq_true]
/-- the word of a name -/
theorem pz_wd_some {w : List Nat} {j : Nat} (h : pz_wd w = some j) : pr_words[j]? = some w := by
  unfold pz_wd at h
  rw [List.findIdx?_eq_some_iff_getElem] at h
  obtain ⟨h1, h2, -⟩ := h
  rw [List.getElem?_eq_getElem h1]
  simpa using h2
theorem pz_wd_none {w : List Nat} (h : pz_wd w = none) : w ∉ pr_words := by
  unfold pz_wd at h
  rw [List.findIdx?_eq_none_iff] at h
  intro hm
  have := h w hm
  simp at this
theorem pm_cutWord {b : Nat → Int} {p k : Nat} {Z Z0 : zm_S} (hK : pr_K Z) (hl : pz_ltr b p k = true) (h8 : pz_le b p k - k ≤ 8) (x : Int32) :
    zs_loop 5000 (gm_cut_L146 (x, Z) (pj ((pz_le b p k - k : Nat) : Int), pr_key (pz_sl b k (k + min (pz_le b p k - k) 8)))) (1, 0) = some (pj (pz_wk b k (pz_le b p k) : Nat)) := by
  obtain ⟨a1, a2, a3, a4⟩ := pz_le_sp hl
  have hke : k + min (pz_le b p k - k) 8 = pz_le b p k := by omega
  rw [hke]
  have hw := pz_sl_ok (e := pz_le b p k) a3
  have hlen := pz_sl_len b k (pz_le b p k)
  unfold pz_wk
  rw [if_neg (show ¬ 8 < pz_le b p k - k by omega)]
  generalize pz_sl b k (pz_le b p k) = w at hw hlen
  have hkey : ∀ j u, pr_words[j]? = some u → (Z.2.2 9 j = pr_key w ↔ u = w) := fun j u hu => by
    obtain ⟨b1, b2, b3⟩ := pz_words_sp (List.mem_of_getElem? hu)
    rw [hK j u hu]
    exact pz_key_inj b3 hw (by omega) (by omega)
  have hlen22 : pr_words.length = 22 := rfl
  have e0 : ((1 : Int32), (0 : Int32)) = (pj (match pz_wd w with | some j => if j < 0 then ((20 + j : Nat) : Int) else 1 | none => 1), pj ((0 : Nat) : Int)) := by
    cases pz_wd w with
    | none => rfl
    | some j => rfl
  have hfin : pj ((match pz_wd w with | some w => 20 + w | none => 1 : Nat) : Int) = pj (match pz_wd w with | some j => if j < 22 then ((20 + j : Nat) : Int) else 1 | none => 1) := by
    cases hd : pz_wd w with
    | none => rfl
    | some j =>
      have := (List.getElem?_eq_some_iff.1 (pz_wd_some hd)).1
      dsimp only
      rw [if_pos (by omega)]
  refine Eq.trans ?_ (congrArg some hfin.symm)
  rw [e0]
  refine pw_forE 22 (fun i => (pj (match pz_wd w with | some j => if j < i then ((20 + j : Nat) : Int) else 1 | none => 1), pj (i : Nat))) 5000 (by omega) ?_ ?_
  · intro i hi
    have hlt : (i : Int) < 22 := by omega
    have hu : pr_words[i]? = some pr_words[i] := List.getElem?_eq_getElem (by omega)
    have hk := hkey i _ hu
    unfold gm_cut_L146
    have hvl : zs_ald 22 (Z.2.2 9) (pj ((i : Nat) : Int)) = some (Z.2.2 9 i) := by rw [pj_ald (by omega) (by omega), Int.toNat_natCast]
    simp (disch := omega) only [pj_lit, pj_add, pj_sub, pj_neg, pj_mul, pj_lt, pj_eq, pj_nat, pj_ald, pj_ast, pj_ix, pw_bind, pw_ite, pw_some, pw_none, pw_let, Option.bind_some, Int.toNat_natCast, Sum.elim_inl, Sum.elim_inr, Int.cast_ofNat_Int, Int.reduceLT, Int.reduceLE, Int.reduceEq, Int.reduceAdd, Int.reduceSub, Int.reduceMul, Int.reduceNeg, Int.reduceToNat, Nat.reduceAdd, Nat.reduceSub, Nat.reduceMul, Nat.reduceEqDiff, Nat.reduceLT, reduceIte, reduceCtorEq, true_and, and_true, forall_const, not_true_eq_false, not_false_eq_true, false_implies, implies_true, hlt, hvl]
    by_cases c : Z.2.2 9 i = pr_key w
    · rw [if_pos c]
      have hw2 := hk.1 c
      have hd : pz_wd w = some i := by
        cases hd : pz_wd w with
        | none => exact absurd (hw2 ▸ List.mem_of_getElem? hu) (pz_wd_none hd)
        | some j =>
          have h1 := pz_wd_some hd
          have hj := (List.getElem?_eq_some_iff.1 h1).1
          have : j = i := by
            have h2 : pr_words[j]? = pr_words[i]? := by rw [h1, hu, hw2]
            exact (List.getElem?_inj hj pz_words_nd).1 h2
          rw [this]
      rw [hd]
      dsimp only
      rw [if_pos (Nat.lt_succ_self i)]
      rfl
    · rw [if_neg c]
      have : ∀ j, pz_wd w = some j → j ≠ i := fun j hd e => by
        have h1 := pz_wd_some hd
        rw [e, hu] at h1
        injection h1 with h1
        exact c (hk.2 h1)
      cases hd : pz_wd w with
      | none => rfl
      | some j =>
        have := this j hd
        dsimp only
        by_cases q : j < i
        · rw [if_pos q, if_pos (by omega)]; rfl
        · rw [if_neg q, if_neg (by omega)]; rfl
  · unfold gm_cut_L146
    simp (disch := omega) only [pj_lit, pj_add, pj_sub, pj_neg, pj_mul, pj_lt, pj_eq, pj_nat, pj_ald, pj_ast, pj_ix, pw_bind, pw_ite, pw_some, pw_none, pw_let, Option.bind_some, Int.toNat_natCast, Sum.elim_inl, Sum.elim_inr, Int.cast_ofNat_Int, Int.reduceLT, Int.reduceLE, Int.reduceEq, Int.reduceAdd, Int.reduceSub, Int.reduceMul, Int.reduceNeg, Int.reduceToNat, Nat.reduceAdd, Nat.reduceSub, Nat.reduceMul, Nat.reduceEqDiff, Nat.reduceLT, reduceIte, reduceCtorEq, true_and, and_true, forall_const, not_true_eq_false, not_false_eq_true, false_implies, implies_true, Int.lt_irrefl]
/-! all tokens by the model -/
def pz_mt (b : Nat → Int) (Z : zm_S) (j : Nat) (q : pz_T) : Prop := Z.2.1 5 j = pj q.1 ∧ Z.2.1 6 j = pj q.2.1 ∧ (q.1 = 2 → Z.2.1 7 j = pj q.2.2.2) ∧ (q.1 = 1 → Z.2.2 8 j = pr_key (pz_sl b q.2.1 q.2.2.1))
def pz_M (b : Nat → Int) (K : List pz_T) (Z : zm_S) : Prop := ∀ j q, K[j]? = some q → j ≤ 400 → pz_mt b Z j q
def pz_J (b : Nat → Int) (p : Nat) (K : List pz_T) (Z : zm_S) (i n : Nat) (Z' : zm_S) : Prop :=
  i ≤ p ∧ n ≤ 401 ∧ Z'.1 10 = pj n ∧ pm_cu Z Z' ∧ ((∃ pre f, K = pre ++ pz_toks b p f i ∧ pre.length = n ∧ p + 1 ≤ i + f ∧ ∀ j q, pre[j]? = some q → pz_mt b Z' j q) ∨ (K.length ≤ n ∧ pz_M b K Z'))
theorem pz_app_get {α : Type} {l : List α} {a q : α} {j : Nat} (h : (l ++ [a])[j]? = some q) : (j < l.length ∧ l[j]? = some q) ∨ (j = l.length ∧ q = a) := by
  rw [List.getElem?_append] at h
  by_cases c : j < l.length
  · rw [if_pos c] at h; exact Or.inl ⟨c, h⟩
  · rw [if_neg c] at h
    have := (List.getElem?_eq_some_iff.1 h).1
    rw [List.length_singleton] at this
    have e : j = l.length := by omega
    rw [e, Nat.sub_self] at h
    injection h with h
    exact Or.inr ⟨e, h.symm⟩
theorem pz_J_tok {b : Nat → Int} {p : Nat} {K : List pz_T} {Z Z' Z2 : zm_S} {i n : Nat} (h : pz_J b p K Z i n Z') (hi : i < p) (hbl : pz_blk b p i = false) (hn : n ≤ 400) {x1 x2 x3 : Int32} {l : Int64} (hcu : pm_cu Z' Z2) (h10 : Z2.1 10 = pj ((n + 1 : Nat) : Int)) (hc : ∀ j, Z2.2.1 5 j = (if j = n then x1 else Z'.2.1 5 j) ∧ Z2.2.1 6 j = (if j = n then x2 else Z'.2.1 6 j) ∧ Z2.2.1 7 j = (if j = n then x3 else Z'.2.1 7 j) ∧ Z2.2.2 8 j = (if j = n then l else Z'.2.2 8 j))
    (hx1 : x1 = pj (pz_tok b p i).1) (hx2 : x2 = pj i) (hx3 : (pz_tok b p i).1 = 2 → x3 = pj (pz_tok b p i).2.2.2) (hl : (pz_tok b p i).1 = 1 → l = pr_key (pz_sl b i (pz_tok b p i).2.2.1)) : pz_J b p K Z (pz_tok b p i).2.2.1 (n + 1) Z2 := by
  obtain ⟨g1, g2, g3, g4, g5⟩ := h
  obtain ⟨s1, s2, s3⟩ := pz_tok_sp (b := b) hi
  have hold : ∀ j q, j ≠ n → pz_mt b Z' j q → pz_mt b Z2 j q := fun j q hj hq => by
    obtain ⟨c1, c2, c3, c4⟩ := hc j
    rw [if_neg hj] at c1 c2 c3 c4
    exact ⟨c1.trans hq.1, c2.trans hq.2.1, fun e => c3.trans (hq.2.2.1 e), fun e => c4.trans (hq.2.2.2 e)⟩
  refine ⟨s3, by omega, h10, pm_cu_trans g4 hcu, ?_⟩
  rcases g5 with ⟨pre, f, e1, e2, e3, e4⟩ | ⟨e1, e2⟩
  · have hnew : pz_mt b Z2 n (pz_tok b p i) := by
      obtain ⟨c1, c2, c3, c4⟩ := hc n
      rw [if_pos rfl] at c1 c2 c3 c4
      refine ⟨c1.trans hx1, c2.trans (by rw [hx2, s1]), fun e => c3.trans (hx3 e), fun e => c4.trans (by rw [hl e, s1])⟩
    have hall : ∀ j q, (pre ++ [pz_tok b p i])[j]? = some q → pz_mt b Z2 j q := fun j q hj => by
      rcases pz_app_get hj with ⟨q1, q2⟩ | ⟨q1, q2⟩
      · exact hold j q (by omega) (e4 j q q2)
      · rw [q2, q1, e2]; exact hnew
    obtain ⟨f, rfl⟩ : ∃ g, f = g + 1 := ⟨f - 1, by omega⟩
    have e5 : pz_toks b p (f + 1) i = if (pz_tok b p i).1 = 3 then [pz_tok b p i] else pz_tok b p i :: pz_toks b p f (pz_tok b p i).2.2.1 := by
      show (if p ≤ i then _ else if pz_blk b p i = true then _ else if (pz_tok b p i).1 = 3 then [pz_tok b p i] else pz_tok b p i :: pz_toks b p f (pz_tok b p i).2.2.1) = _
      rw [if_neg (by omega), if_neg (by rw [hbl]; decide)]
    by_cases c : (pz_tok b p i).1 = 3
    · rw [if_pos c] at e5
      rw [e5] at e1
      refine Or.inr ⟨by rw [e1, List.length_append, e2]; exact Nat.le_refl _, fun j q hj _ => hall j q (by rw [← e1]; exact hj)⟩
    · rw [if_neg c] at e5
      rw [e5] at e1
      refine Or.inl ⟨pre ++ [pz_tok b p i], f, by rw [e1, List.append_assoc]; rfl, by rw [List.length_append, e2]; rfl, by omega, hall⟩
  · refine Or.inr ⟨by omega, fun j q hj h4 => hold j q ?_ (e2 j q hj h4)⟩
    have := (List.getElem?_eq_some_iff.1 hj).1
    omega
theorem pz_J_blk {b : Nat → Int} {p : Nat} {K : List pz_T} {Z Z' : zm_S} {i n : Nat} (h : pz_J b p K Z i n Z') (hi : i < p) (hbl : pz_blk b p i = true) : pz_J b p K Z (i + 1) n Z' := by
  obtain ⟨g1, g2, g3, g4, g5⟩ := h
  refine ⟨hi, g2, g3, g4, ?_⟩
  rcases g5 with ⟨pre, f, e1, e2, e3, e4⟩ | g5
  · obtain ⟨f, rfl⟩ : ∃ g, f = g + 1 := ⟨f - 1, by omega⟩
    have e5 : pz_toks b p (f + 1) i = pz_toks b p f (i + 1) := by
      show (if p ≤ i then _ else if pz_blk b p i = true then pz_toks b p f (i + 1) else _) = _
      rw [if_neg (by omega), if_pos hbl]
    rw [e5] at e1
    exact Or.inl ⟨pre, f, e1, e2, by omega, e4⟩
  · exact Or.inr g5
theorem pz_sg_m {b : Nat → Int} {p : Nat} {Z : zm_S} (h : pm_by b p Z) (k : Nat) : pz_sg (pz_m b p k) = pz_sg (pz_c b p k) := by
  unfold pz_m pz_c
  by_cases c : k < p
  · have := h.2.2 k c
    rw [if_pos c, if_pos c]
    by_cases d : 0 ≤ b k
    · rw [show b k % 256 = b k by omega]
    · unfold pz_sg
      rw [if_neg (by omega), if_neg (by omega), if_neg (by omega), if_neg (by omega), if_neg (by omega), if_neg (by omega), if_neg (by omega), if_neg (by omega), if_neg (by omega), if_neg (by omega), if_neg (by omega), if_neg (by omega), if_neg (by omega), if_neg (by omega), if_neg (by omega), if_neg (by omega), if_neg (by omega), if_neg (by omega)]
  · rw [if_neg c, if_neg c]
theorem pz_blk_m {b : Nat → Int} {p : Nat} {Z : zm_S} (h : pm_by b p Z) (k : Nat) : pz_blk b p k = true ↔ (pz_m b p k = 9 ∨ pz_m b p k = 10 ∨ pz_m b p k = 13 ∨ pz_m b p k = 32) := by
  unfold pz_blk pz_m pz_c
  rw [decide_eq_true_eq]
  by_cases c : k < p
  · have := h.2.2 k c
    rw [if_pos c, if_pos c]
    omega
  · rw [if_neg c, if_neg c]
    omega
theorem pm_sign {Z : zm_S} {n : Nat} (hn : n < 403) (h : Z.1 10 = pj n) (i : Int32) {c : Int} (hc : 0 ≤ c ∧ c < 256) (d : Int32) :
    pw (gm_sign Z i (pj c) d) (fun r => r.1 = 1 ∧ pm_cu Z r.2 ∧ r.2.1 10 = pj ((n + 1 : Nat) : Int) ∧ ∀ j, r.2.2.1 5 j = (if j = n then pj (pz_sg c : Nat) else Z.2.1 5 j) ∧ r.2.2.1 6 j = (if j = n then i else Z.2.1 6 j) ∧ r.2.2.1 7 j = (if j = n then 0 else Z.2.1 7 j) ∧ r.2.2.2 8 j = (if j = n then 0 else Z.2.2 8 j)) := by
  have fin : ∀ x : Int32, x = pj (pz_sg c : Nat) → pw ((gm_token Z x i 0 0).bind fun M7 => some ((1 : Int32), M7)) (fun r => r.1 = 1 ∧ pm_cu Z r.2 ∧ r.2.1 10 = pj ((n + 1 : Nat) : Int) ∧ ∀ j, r.2.2.1 5 j = (if j = n then pj (pz_sg c : Nat) else Z.2.1 5 j) ∧ r.2.2.1 6 j = (if j = n then i else Z.2.1 6 j) ∧ r.2.2.1 7 j = (if j = n then 0 else Z.2.1 7 j) ∧ r.2.2.2 8 j = (if j = n then 0 else Z.2.2 8 j)) := by
    intro x hx
    subst hx
    exact pw_seq (pm_token hn h _ _ _ _) (fun Z' h' => (pw_some _ _).2 ⟨rfl, h'⟩)
  have key : (∃ x, ((if pj c = 59 then some (4 : Int32) else (if pj c = 61 then some 5 else (if pj c = 40 then some 6 else (if pj c = 41 then some 7 else some 3)))).bind fun (p1 : Int32) =>
      (if pj c = 43 then some (8 : Int32) else some p1).bind fun (p2 : Int32) => (if pj c = 45 then some (9 : Int32) else some p2).bind fun (p3 : Int32) => (if pj c = 42 then some (10 : Int32) else some p3).bind fun (p4 : Int32) =>
      (if pj c = 47 then some (15 : Int32) else some p4).bind fun (p5 : Int32) => (if pj c = 60 then some (13 : Int32) else some p5)) = some x ∧ x = pj (pz_sg c : Nat)) := by
    unfold pz_sg
    by_cases c1 : c = 59
    · subst c1; exact ⟨_, rfl, rfl⟩
    by_cases c2 : c = 61
    · subst c2; exact ⟨_, rfl, rfl⟩
    by_cases c3 : c = 40
    · subst c3; exact ⟨_, rfl, rfl⟩
    by_cases c4 : c = 41
    · subst c4; exact ⟨_, rfl, rfl⟩
    by_cases c5 : c = 43
    · subst c5; exact ⟨_, rfl, rfl⟩
    by_cases c6 : c = 45
    · subst c6; exact ⟨_, rfl, rfl⟩
    by_cases c7 : c = 42
    · subst c7; exact ⟨_, rfl, rfl⟩
    by_cases c8 : c = 47
    · subst c8; exact ⟨_, rfl, rfl⟩
    by_cases c9 : c = 60
    · subst c9; exact ⟨_, rfl, rfl⟩
    simp (disch := omega) only [pj_lit, pj_add, pj_sub, pj_neg, pj_mul, pj_lt, pj_eq, pj_nat, pj_ald, pj_ast, pj_ix, pw_bind, pw_ite, pw_some, pw_none, pw_let, Option.bind_some, Int.toNat_natCast, Sum.elim_inl, Sum.elim_inr, Int.cast_ofNat_Int, Int.reduceLT, Int.reduceLE, Int.reduceEq, Int.reduceAdd, Int.reduceSub, Int.reduceMul, Int.reduceNeg, Int.reduceToNat, Nat.reduceAdd, Nat.reduceSub, Nat.reduceMul, Nat.reduceEqDiff, Nat.reduceLT, reduceIte, reduceCtorEq, true_and, and_true, forall_const, not_true_eq_false, not_false_eq_true, false_implies, implies_true, if_neg c1, if_neg c2, if_neg c3, if_neg c4, if_neg c5, if_neg c6, if_neg c7, if_neg c8, if_neg c9]
    exact ⟨_, rfl, rfl⟩
  obtain ⟨x, e1, e2⟩ := key
  unfold gm_sign
  have := fin x e2
  obtain ⟨r, r1, r2⟩ := this
  refine ⟨r, ?_, r2⟩
  rw [← r1]
  obtain ⟨p1, f1, e1⟩ := zs_bsome e1
  obtain ⟨p2, f2, e1⟩ := zs_bsome e1
  obtain ⟨p3, f3, e1⟩ := zs_bsome e1
  obtain ⟨p4, f4, e1⟩ := zs_bsome e1
  obtain ⟨p5, f5, e1⟩ := zs_bsome e1
  rw [f1, Option.bind_some, f2, Option.bind_some, f3, Option.bind_some, f4, Option.bind_some, f5, Option.bind_some, e1, Option.bind_some]
theorem pz_cutAll {b : Nat → Int} {p : Nat} {Z : zm_S} (h : pm_by b p Z) (hK : pr_K Z) : pw (gm_cut Z) (fun Z' => pm_cu Z Z' ∧ pz_M b (pz_K b p) Z') := by
  have hp := h.1
  unfold gm_cut
  rw [Option.bind_some]
  have hcu0 : pm_cu Z (zm_sF Z 10 0) := ⟨fun k hk => if_neg hk, fun _ _ _ _ => rfl, fun _ _ => rfl⟩
  have hend : ∀ {n : Nat} {Z1 : zm_S}, pz_J b p (pz_K b p) Z p n Z1 → n ≤ 400 → pw ((gm_token Z1 0 (Z1.1 4) 0 0).bind fun M33 => some M33) (fun Z' => pm_cu Z Z' ∧ pz_M b (pz_K b p) Z') := by
    intro n Z1 hJ hn
    obtain ⟨g1, g2, g3, g4, g5⟩ := hJ
    refine pw_seq (pm_token (by omega) g3 _ _ _ _) (fun Z2 h2 => (pw_some _ _).2 ?_)
    obtain ⟨k1, k2, k3⟩ := h2
    refine ⟨pm_cu_trans g4 k1, ?_⟩
    have hold : ∀ j q, j ≠ n → pz_mt b Z1 j q → pz_mt b Z2 j q := fun j q hj hq => by
      obtain ⟨c1, c2, c3, c4⟩ := k3 j
      rw [if_neg hj] at c1 c2 c3 c4
      exact ⟨c1.trans hq.1, c2.trans hq.2.1, fun e => c3.trans (hq.2.2.1 e), fun e => c4.trans (hq.2.2.2 e)⟩
    rcases g5 with ⟨pre, f, e1, e2, e3, e4⟩ | ⟨e1, e2⟩
    · obtain ⟨f, rfl⟩ : ∃ g, f = g + 1 := ⟨f - 1, by omega⟩
      have e5 : pz_toks b p (f + 1) p = [(0, p, p, 0)] := by
        show (if p ≤ p then [(0, p, p, 0)] else _) = _
        rw [if_pos (Nat.le_refl _)]
      rw [e5] at e1
      intro j q hj _
      rw [e1] at hj
      rcases pz_app_get hj with ⟨q1, q2⟩ | ⟨q1, q2⟩
      · exact hold j q (by omega) (e4 j q q2)
      · rw [e2] at q1
        subst q1 q2
        obtain ⟨c1, c2, c3, c4⟩ := k3 j
        rw [if_pos rfl] at c1 c2 c3 c4
        refine ⟨c1, c2.trans ((g4.1 4 (by omega)).trans h.2.1), fun e => (by cases e), fun e => (by cases e)⟩
    · intro j q hj h4
      refine hold j q ?_ (e2 j q hj h4)
      have := (List.getElem?_eq_some_iff.1 hj).1
      omega
  have hbig : ∀ {i n : Nat} {Z1 : zm_S}, pz_J b p (pz_K b p) Z i n Z1 → n = 401 → pm_cu Z Z1 ∧ pz_M b (pz_K b p) Z1 := by
    intro i n Z1 hJ hn
    obtain ⟨g1, g2, g3, g4, g5⟩ := hJ
    refine ⟨g4, ?_⟩
    rcases g5 with ⟨pre, f, e1, e2, e3, e4⟩ | ⟨e1, e2⟩
    · intro j q hj h4
      rw [e1, List.getElem?_append, if_pos (by omega)] at hj
      exact e4 j q hj
    · exact e2
  refine pw_seq (Q := fun r => Sum.elim (fun Z1 => ∃ n, pz_J b p (pz_K b p) Z p n Z1 ∧ n ≤ 400) (fun Z1 => pm_cu Z Z1 ∧ pz_M b (pz_K b p) Z1) r) ?_ (fun r hr => ?_)
  · refine pw_meas (fun t : Int32 × zm_S => ∃ i n Z1, t = (pj (i : Nat), Z1) ∧ pz_J b p (pz_K b p) Z i n Z1) (fun t => p - t.1.toNatClampNeg) ?_ 5000 _ ⟨0, 0, zm_sF Z 10 0, rfl, Nat.zero_le _, by omega, by show (if 10 = 10 then (0 : Int32) else Z.1 10) = _; rw [if_pos rfl]; rfl, hcu0, Or.inl ⟨[], p + 1, rfl, rfl, by omega, fun j q hj => (by cases hj)⟩⟩ (by dsimp only; omega)
    rintro t ⟨i, n, Z1, rfl, hJ⟩
    obtain ⟨g1, g2, g3, g4, g5⟩ := id hJ
    have hby := pm_by_cu g4 h
    have e4 := hby.2.1
    have hK1 : pr_K Z1 := fun j w hw => by rw [g4.2.2 9 (by omega)]; exact hK j w hw
    have hmu : ∀ i' : Nat, i' ≤ 2000 → i < i' → i' ≤ p → p - (pj (i' : Nat)).toNatClampNeg < p - (pj (i : Nat)).toNatClampNeg := fun i' h1 h2 h3 => by
      rw [pj_nat (by omega), pj_nat (by omega), Int.toNat_natCast, Int.toNat_natCast]; omega
    unfold gm_cut_L7
    by_cases c : n = 401
    · have hlt : (400 : Int) < (n : Nat) := by omega
      rw [show (400 : Int32) = pj 400 from rfl, g3, if_pos ((pj_lt (by omega) (by omega)).2 hlt)]
      exact (pw_some _ _).2 (hbig hJ c)
    · have hlt : ¬ (400 : Int) < (n : Nat) := by omega
      by_cases hip : i < p
      · have hip' : (i : Int) < (p : Nat) := by omega
        have hmb := pz_m_bd hby i
        have hbk := pz_blk_m hby i
        have hblk : pz_blk b p i = true → pw (some (Sum.inl (pj (((i + 1 : Nat) : Int)), Z1))) (Sum.elim (fun t' : Int32 × zm_S => (∃ i n Z1, t' = (pj (i : Nat), Z1) ∧ pz_J b p (pz_K b p) Z i n Z1) ∧ p - t'.1.toNatClampNeg < p - (pj (i : Nat), Z1).1.toNatClampNeg) (fun r : zm_S ⊕ zm_S => Sum.elim (fun Z1 => ∃ n, pz_J b p (pz_K b p) Z p n Z1 ∧ n ≤ 400) (fun Z1 => pm_cu Z Z1 ∧ pz_M b (pz_K b p) Z1) r)) := fun q => (pw_some _ _).2 ⟨⟨i + 1, n, Z1, rfl, pz_J_blk hJ hip q⟩, hmu (i + 1) (by omega) (by omega) (by omega)⟩
        have hstep : ∀ {Z2 : zm_S} {x1 x2 x3 : Int32} {l : Int64}, pz_blk b p i = false → (pm_cu Z1 Z2 ∧ Z2.1 10 = pj ((n + 1 : Nat) : Int) ∧ ∀ j, Z2.2.1 5 j = (if j = n then x1 else Z1.2.1 5 j) ∧ Z2.2.1 6 j = (if j = n then x2 else Z1.2.1 6 j) ∧ Z2.2.1 7 j = (if j = n then x3 else Z1.2.1 7 j) ∧ Z2.2.2 8 j = (if j = n then l else Z1.2.2 8 j)) → x1 = pj (pz_tok b p i).1 → x2 = pj i → ((pz_tok b p i).1 = 2 → x3 = pj (pz_tok b p i).2.2.2) → ((pz_tok b p i).1 = 1 → l = pr_key (pz_sl b i (pz_tok b p i).2.2.1)) →
            (∃ i' n Z1, ((pj (((pz_tok b p i).2.2.1 : Nat) : Int), Z2) : Int32 × zm_S) = (pj (i' : Nat), Z1) ∧ pz_J b p (pz_K b p) Z i' n Z1) ∧ p - (pz_tok b p i).2.2.1 < p - i := by
          intro Z2 x1 x2 x3 l hb2 hz hx1 hx2 hx3 hl
          obtain ⟨s1, s2, s3⟩ := pz_tok_sp (b := b) hip
          exact ⟨⟨_, n + 1, Z2, rfl, pz_J_tok hJ hip hb2 (by omega) hz.1 hz.2.1 hz.2.2 hx1 hx2 hx3 hl⟩, by omega⟩
        have hmc : ∀ v : Int, 0 ≤ v → v < 256 → (pj (pz_m b p i) = pj v ↔ pz_m b p i = v) := fun v h1 h2 => pj_eq (by omega) (by omega)
        rw [show (400 : Int32) = pj 400 from rfl, g3, if_neg (by rw [pj_lt (by omega) (by omega)]; exact hlt), pm_byteAt hby i (by omega), Option.bind_some, e4, if_pos (by rw [pj_lt (by omega) (by omega)]; exact hip')]
        rw [pw_let]
        rw [show (9 : Int32) = pj 9 from rfl, show (10 : Int32) = pj 10 from rfl, show (13 : Int32) = pj 13 from rfl, show (32 : Int32) = pj 32 from rfl]
        have e1 : pj (i : Nat) + 1 = pj (((i + 1 : Nat) : Int)) := by rw [pj_1, pj_add]; rfl
        by_cases d1 : pz_m b p i = 9
        · rw [if_pos ((hmc 9 (by omega) (by omega)).2 d1), Option.bind_some, e1]
          exact hblk (hbk.2 (Or.inl d1))
        rw [if_neg (fun q => d1 ((hmc 9 (by omega) (by omega)).1 q))]
        by_cases d2 : pz_m b p i = 10
        · rw [if_pos ((hmc 10 (by omega) (by omega)).2 d2), Option.bind_some, e1]
          exact hblk (hbk.2 (Or.inr (Or.inl d2)))
        rw [if_neg (fun q => d2 ((hmc 10 (by omega) (by omega)).1 q))]
        by_cases d3 : pz_m b p i = 13
        · rw [if_pos ((hmc 13 (by omega) (by omega)).2 d3), Option.bind_some, e1]
          exact hblk (hbk.2 (Or.inr (Or.inr (Or.inl d3))))
        rw [if_neg (fun q => d3 ((hmc 13 (by omega) (by omega)).1 q))]
        by_cases d4 : pz_m b p i = 32
        · rw [if_pos ((hmc 32 (by omega) (by omega)).2 d4), Option.bind_some, e1]
          exact hblk (hbk.2 (Or.inr (Or.inr (Or.inr d4))))
        rw [if_neg (fun q => d4 ((hmc 32 (by omega) (by omega)).1 q))]
        have hnb : pz_blk b p i = false := by
          cases q : pz_blk b p i with
          | false => rfl
          | true => have := hbk.1 q; omega
        rw [pm_isLetter hby i, Option.bind_some]
        by_cases hl : pz_ltr b p i = true
        · rw [if_pos hl, pm_cutLetters hby hl]
          obtain ⟨l1, l2, l3, l4⟩ := pz_le_sp hl
          have htok : pz_tok b p i = (pz_wk b i (pz_le b p i), i, pz_le b p i, 0) := by unfold pz_tok; rw [if_pos hl]
          rw [htok] at hstep
          have hadd : pj (i : Nat) + pj ((pz_le b p i - i : Nat) : Int) = pj ((pz_le b p i : Nat) : Int) := by
            rw [pj_add]; congr 1; omega
          by_cases h8 : 8 < pz_le b p i - i
          · have hwk : pz_wk b i (pz_le b p i) = 3 := by
              unfold pz_wk
              cases hd : pz_wd (pz_sl b i (pz_le b p i)) with
              | none => dsimp only; rw [if_pos h8]
              | some j =>
                have := (pz_words_sp (List.mem_of_getElem? (pz_wd_some hd))).1
                rw [pz_sl_len] at this
                omega
            have h8' : (8 : Int) < ((pz_le b p i - i : Nat) : Int) := by omega
            rw [hwk] at hstep
            simp (disch := omega) only [pj_lit, pj_add, pj_sub, pj_neg, pj_mul, pj_lt, pj_eq, pj_nat, pj_ald, pj_ast, pj_ix, pw_bind, pw_ite, pw_some, pw_none, pw_let, Option.bind_some, Int.toNat_natCast, Sum.elim_inl, Sum.elim_inr, Int.cast_ofNat_Int, Int.reduceLT, Int.reduceLE, Int.reduceEq, Int.reduceAdd, Int.reduceSub, Int.reduceMul, Int.reduceNeg, Int.reduceToNat, Nat.reduceAdd, Nat.reduceSub, Nat.reduceMul, Nat.reduceEqDiff, Nat.reduceLT, reduceIte, reduceCtorEq, true_and, and_true, forall_const, not_true_eq_false, not_false_eq_true, false_implies, implies_true, h8', hadd]
            refine pw_mono (pm_token (by omega) g3 _ _ _ _) (fun Z2 h2 => ?_)
            exact (hstep hnb h2 rfl rfl (fun e => (by cases e)) (fun e => (by cases e)))
          · have h8' : ¬ (8 : Int) < ((pz_le b p i - i : Nat) : Int) := by omega
            have hcw := pm_cutWord (Z := Z1) (Z0 := Z1) hK1 hl (by omega) (pj (i : Nat))
            rw [show (1 : Int32) = pj 1 from rfl, show (0 : Int32) = pj 0 from rfl] at hcw
            simp (disch := omega) only [pj_lit, pj_add, pj_sub, pj_neg, pj_mul, pj_lt, pj_eq, pj_nat, pj_ald, pj_ast, pj_ix, pw_bind, pw_ite, pw_some, pw_none, pw_let, Option.bind_some, Int.toNat_natCast, Sum.elim_inl, Sum.elim_inr, Int.cast_ofNat_Int, Int.reduceLT, Int.reduceLE, Int.reduceEq, Int.reduceAdd, Int.reduceSub, Int.reduceMul, Int.reduceNeg, Int.reduceToNat, Nat.reduceAdd, Nat.reduceSub, Nat.reduceMul, Nat.reduceEqDiff, Nat.reduceLT, reduceIte, reduceCtorEq, true_and, and_true, forall_const, not_true_eq_false, not_false_eq_true, false_implies, implies_true, h8', hadd, hcw]
            refine pw_mono (pm_token (by omega) g3 _ _ _ _) (fun Z2 h2 => ?_)
            refine (hstep hnb h2 rfl rfl (fun e => ?_) (fun e => ?_))
            · exfalso
              have e : pz_wk b i (pz_le b p i) = 2 := e
              unfold pz_wk at e
              cases hd : pz_wd (pz_sl b i (pz_le b p i)) with
              | none => rw [hd] at e; dsimp only at e; split at e <;> omega
              | some j => rw [hd] at e; dsimp only at e; omega
            · rw [show i + min (pz_le b p i - i) 8 = pz_le b p i by omega]
        · rw [if_neg hl, pm_isDigit hby i, Option.bind_some]
          by_cases hd : pz_dig b p i = true
          · rw [if_pos hd, pm_cutDigits hby hd]
            obtain ⟨l1, l2, l3, l4⟩ := pz_de_sp hd
            have htok : pz_tok b p i = (if 4 < pz_de b p i - i then 3 else 2, i, pz_de b p i, pz_num b i (pz_de b p i - i)) := by unfold pz_tok; rw [if_neg hl, if_pos hd]
            rw [htok] at hstep
            have hadd : pj (i : Nat) + pj ((pz_de b p i - i : Nat) : Int) = pj ((pz_de b p i : Nat) : Int) := by
              rw [pj_add]; congr 1; omega
            by_cases h4 : 4 < pz_de b p i - i
            · have h4' : (4 : Int) < ((pz_de b p i - i : Nat) : Int) := by omega
              rw [if_pos h4] at hstep
              simp (disch := omega) only [pj_lit, pj_add, pj_sub, pj_neg, pj_mul, pj_lt, pj_eq, pj_nat, pj_ald, pj_ast, pj_ix, pw_bind, pw_ite, pw_some, pw_none, pw_let, Option.bind_some, Int.toNat_natCast, Sum.elim_inl, Sum.elim_inr, Int.cast_ofNat_Int, Int.reduceLT, Int.reduceLE, Int.reduceEq, Int.reduceAdd, Int.reduceSub, Int.reduceMul, Int.reduceNeg, Int.reduceToNat, Nat.reduceAdd, Nat.reduceSub, Nat.reduceMul, Nat.reduceEqDiff, Nat.reduceLT, reduceIte, reduceCtorEq, true_and, and_true, forall_const, not_true_eq_false, not_false_eq_true, false_implies, implies_true, h4', hadd]
              refine pw_mono (pm_token (by omega) g3 _ _ _ _) (fun Z2 h2 => ?_)
              exact (hstep hnb h2 rfl rfl (fun e => (by cases e)) (fun e => (by cases e)))
            · have h4' : ¬ (4 : Int) < ((pz_de b p i - i : Nat) : Int) := by omega
              rw [if_neg h4] at hstep
              simp (disch := omega) only [pj_lit, pj_add, pj_sub, pj_neg, pj_mul, pj_lt, pj_eq, pj_nat, pj_ald, pj_ast, pj_ix, pw_bind, pw_ite, pw_some, pw_none, pw_let, Option.bind_some, Int.toNat_natCast, Sum.elim_inl, Sum.elim_inr, Int.cast_ofNat_Int, Int.reduceLT, Int.reduceLE, Int.reduceEq, Int.reduceAdd, Int.reduceSub, Int.reduceMul, Int.reduceNeg, Int.reduceToNat, Nat.reduceAdd, Nat.reduceSub, Nat.reduceMul, Nat.reduceEqDiff, Nat.reduceLT, reduceIte, reduceCtorEq, true_and, and_true, forall_const, not_true_eq_false, not_false_eq_true, false_implies, implies_true, h4', hadd]
              refine pw_mono (pm_token (by omega) g3 _ _ _ _) (fun Z2 h2 => ?_)
              refine (hstep hnb h2 rfl rfl (fun e => ?_) (fun e => (by cases e)))
              rw [show min (pz_de b p i - i) 4 = pz_de b p i - i by omega]
          · have htok : pz_tok b p i = (pz_sg (pz_c b p i), i, i + 1, 0) := by unfold pz_tok; rw [if_neg hl, if_neg hd]
            rw [if_neg hd, e1, pm_byteAt hby (i + 1) (by omega), Option.bind_some]
            obtain ⟨r, r1, r2, r3⟩ := pm_sign (by omega) g3 (pj (i : Nat)) hmb (pj (pz_m b p (i + 1)))
            rw [r1, Option.bind_some, r2, Option.bind_some, Option.bind_some, e1]
            rw [htok] at hstep
            rw [pz_sg_m hby] at r3
            refine (pw_some _ _).2 ⟨(hstep hnb r3 rfl rfl (fun e => ?_) (fun e => ?_)).1, hmu (i + 1) (by omega) (by omega) (by omega)⟩
            · exfalso
              have e : pz_sg (pz_c b p i) = 2 := e
              unfold pz_sg at e
              repeat' split at e
              all_goals omega
            · exfalso
              have e : pz_sg (pz_c b p i) = 1 := e
              unfold pz_sg at e
              repeat' split at e
              all_goals omega
      · have hip' : ¬ (i : Int) < (p : Nat) := by omega
        simp (disch := omega) only [pj_lit, pj_add, pj_sub, pj_neg, pj_mul, pj_lt, pj_eq, pj_nat, pj_ald, pj_ast, pj_ix, pw_bind, pw_ite, pw_some, pw_none, pw_let, Option.bind_some, Int.toNat_natCast, Sum.elim_inl, Sum.elim_inr, Int.cast_ofNat_Int, Int.reduceLT, Int.reduceLE, Int.reduceEq, Int.reduceAdd, Int.reduceSub, Int.reduceMul, Int.reduceNeg, Int.reduceToNat, Nat.reduceAdd, Nat.reduceSub, Nat.reduceMul, Nat.reduceEqDiff, Nat.reduceLT, reduceIte, reduceCtorEq, true_and, and_true, forall_const, not_true_eq_false, not_false_eq_true, false_implies, implies_true, g3, hlt, pm_byteAt hby i (by omega), e4, hip']
        have : i = p := by omega
        subst this
        exact ⟨n, hJ, by omega⟩
  · cases r with
    | inl Z1 =>
      obtain ⟨n, h1, h2⟩ := hr
      exact hend h1 h2
    | inr Z1 => exact (pw_some _ _).2 hr
