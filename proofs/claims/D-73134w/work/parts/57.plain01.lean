set_option maxRecDepth 100000
/-! numbers: an int as an integer -/
def pj (z : Int) : Int32 := Int32.ofInt z
def pj_B (z : Int) : Prop := -2147483648 ≤ z ∧ z < 2147483648
theorem pj_toInt {z : Int} (h : -2147483648 ≤ z ∧ z < 2147483648) : (pj z).toInt = z := Int32.toInt_ofInt_of_le h.1 h.2
theorem pj_of (x : Int32) : pj x.toInt = x := Int32.ofInt_toInt x
theorem pj_add (a b : Int) : pj a + pj b = pj (a + b) := (Int32.ofInt_add a b).symm
theorem pj_sub (a b : Int) : pj a - pj b = pj (a - b) := (Int32.ofInt_sub a b).symm
theorem pj_mul (a b : Int) : pj a * pj b = pj (a * b) := (Int32.ofInt_mul a b).symm
theorem pj_neg (a : Int) : -pj a = pj (-a) := (Int32.ofInt_neg a).symm
theorem pj_lit (n : Nat) : (OfNat.ofNat n : Int32) = pj (OfNat.ofNat n) := Int32.ofInt_eq_ofNat.symm
theorem pj_0 : (0 : Int32) = pj 0 := rfl
theorem pj_1 : (1 : Int32) = pj 1 := rfl
theorem pj_nI (n : Nat) : nI n = pj n := Int32.ofInt_eq_ofNat.symm
theorem pj_lt {a b : Int} (ha : -2147483648 ≤ a ∧ a < 2147483648) (hb : -2147483648 ≤ b ∧ b < 2147483648) : pj a < pj b ↔ a < b := by
  rw [Int32.lt_iff_toInt_lt, pj_toInt ha, pj_toInt hb]
theorem pj_eq {a b : Int} (ha : -2147483648 ≤ a ∧ a < 2147483648) (hb : -2147483648 ≤ b ∧ b < 2147483648) : pj a = pj b ↔ a = b := by
  rw [← Int32.toInt_inj, pj_toInt ha, pj_toInt hb]
theorem pj_nat {z : Int} (h : -2147483648 ≤ z ∧ z < 2147483648) : (pj z).toNatClampNeg = z.toNat := by
  show (pj z).toInt.toNat = _
  rw [pj_toInt h]
theorem pj_natC (x : Int32) : x.toNatClampNeg = x.toInt.toNat := rfl
theorem pj_in {z : Int} {n : Nat} (h : 0 ≤ z ∧ z < n) (hn : n < 2147483648) : zs_in (pj z) n = true := by
  have hb : -2147483648 ≤ z ∧ z < 2147483648 := ⟨by omega, by omega⟩
  unfold zs_in
  rw [pj_nat hb]
  simp only [Bool.and_eq_true, decide_eq_true_eq]
  refine ⟨?_, by omega⟩
  rw [pj_0, pj_lt hb ⟨by omega, by omega⟩]
  omega
theorem pj_ald {τ : Type} {n : Nat} {F : Nat → τ} {z : Int} (h : 0 ≤ z ∧ z < n) (hn : n < 2147483648) : zs_ald n F (pj z) = some (F z.toNat) := by
  unfold zs_ald
  rw [if_pos (pj_in h hn), pj_nat ⟨by omega, by omega⟩]
theorem pj_ast {τ : Type} {n : Nat} {x : τ} {z : Int} (h : 0 ≤ z ∧ z < n) (hn : n < 2147483648) : zs_ast n (pj z) x = some x := by
  unfold zs_ast
  rw [if_pos (pj_in h hn)]
theorem pj_ix {n : Nat} {z : Int} (h : 0 ≤ z ∧ z < n) (hn : n < 2147483648) : zs_ix n (pj z) = some z.toNat := by
  unfold zs_ix
  rw [if_pos (pj_in h hn), pj_nat ⟨by omega, by omega⟩]
theorem pj_max (a b : Int) (ha : -2147483648 ≤ a ∧ a < 2147483648) (hb : -2147483648 ≤ b ∧ b < 2147483648) : zs_max (pj a) (pj b) = pj (max a b) := by
  unfold zs_max
  by_cases h : a < b
  · rw [if_pos ((pj_lt ha hb).2 h), Int.max_eq_right (by omega)]
  · rw [if_neg (fun q => h ((pj_lt ha hb).1 q)), Int.max_eq_left (by omega)]
theorem pj_min (a b : Int) (ha : -2147483648 ≤ a ∧ a < 2147483648) (hb : -2147483648 ≤ b ∧ b < 2147483648) : zs_min (pj a) (pj b) = pj (min a b) := by
  unfold zs_min
  by_cases h : b < a
  · rw [if_pos ((pj_lt hb ha).2 h), Int.min_eq_right (by omega)]
  · rw [if_neg (fun q => h ((pj_lt hb ha).1 q)), Int.min_eq_left (by omega)]
theorem pj_bd (x : Int32) : -2147483648 ≤ x.toInt ∧ x.toInt < 2147483648 := ⟨Int32.le_toInt x, Int32.toInt_lt x⟩
theorem pj_tdiv {a b : Int} (ha : -2147483648 ≤ a ∧ a < 2147483648) (hb : -2147483648 ≤ b ∧ b < 2147483648) : pj a / pj b = pj (a.tdiv b) := by
  have e1 : Int32.minValue.toInt = -2147483648 := by decide
  have e2 : Int32.maxValue.toInt = 2147483647 := by decide
  exact (Int32.ofInt_tdiv (by omega) (by omega) (by omega) (by omega)).symm
/-! a program that ends and what then holds -/
def pw {α : Type} (o : Option α) (Q : α → Prop) : Prop := ∃ a, o = some a ∧ Q a
theorem pw_some {α : Type} (a : α) (Q : α → Prop) : pw (some a) Q ↔ Q a := ⟨fun ⟨_, e, q⟩ => by cases e; exact q, fun q => ⟨a, rfl, q⟩⟩
theorem pw_none {α : Type} (Q : α → Prop) : pw none Q ↔ False := ⟨fun ⟨_, e, _⟩ => (by cases e), fun q => q.elim⟩
theorem pw_bind {α β : Type} (x : Option α) (f : α → Option β) (Q : β → Prop) : pw (x.bind f) Q ↔ pw x (fun a => pw (f a) Q) := by
  cases x with
  | none => exact ⟨fun ⟨_, e, _⟩ => (by cases e), fun ⟨_, e, _⟩ => (by cases e)⟩
  | some a => exact (pw_some a (fun a => pw (f a) Q)).symm
theorem pw_ite {α : Type} (c : Prop) [Decidable c] (x y : Option α) (Q : α → Prop) : pw (if c then x else y) Q ↔ (c → pw x Q) ∧ (¬ c → pw y Q) := by
  by_cases h : c
  · rw [if_pos h]; exact ⟨fun q => ⟨fun _ => q, fun n => absurd h n⟩, fun q => q.1 h⟩
  · rw [if_neg h]; exact ⟨fun q => ⟨fun n => absurd n h, fun _ => q⟩, fun q => q.2 h⟩
theorem pw_mono {α : Type} {o : Option α} {Q R : α → Prop} (h : pw o Q) (g : ∀ a, Q a → R a) : pw o R := let ⟨a, e, q⟩ := h; ⟨a, e, g a q⟩
theorem pw_seq {α β : Type} {x : Option α} {f : α → Option β} {Q : α → Prop} {R : β → Prop} (h : pw x Q) (g : ∀ a, Q a → pw (f a) R) : pw (x.bind f) R := (pw_bind x f R).2 (pw_mono h g)
theorem pw_eq {α : Type} {o : Option α} {a : α} {Q : α → Prop} (h : o = some a) (q : Q a) : pw o Q := ⟨a, h, q⟩
theorem pw_let {A B : Type} (F : A) (G : A → B) : zs_let F G = G F := rfl
theorem pw_for {τ ρ : Type} {b : τ → Option (τ ⊕ ρ)} {Q : ρ → Prop} (N : Nat) (I : Nat → τ → Prop) (fuel : Nat) (hN : N < fuel)
    (step : ∀ k t, k < N → I k t → pw (b t) (Sum.elim (I (k + 1)) Q)) (last : ∀ t, I N t → pw (b t) (Sum.elim (fun _ => False) Q)) :
    ∀ t, I 0 t → pw (zs_loop fuel b t) Q := by
  have key : ∀ j k, k + j = N → ∀ f, j < f → ∀ t, I k t → pw (zs_loop f b t) Q := by
    intro j
    induction j with
    | zero =>
      intro k hk f hf t hI
      cases f with
      | zero => omega
      | succ f =>
        have hk : k = N := by omega
        subst hk
        refine pw_seq (last t hI) (fun s hs => ?_)
        cases s with
        | inl t' => exact hs.elim
        | inr r => exact (pw_some r Q).2 hs
    | succ j ih =>
      intro k hk f hf t hI
      cases f with
      | zero => omega
      | succ f =>
        refine pw_seq (step k t (by omega) hI) (fun s hs => ?_)
        cases s with
        | inl t' => exact ih (k + 1) (by omega) f (by omega) t' hs
        | inr r => exact (pw_some r Q).2 hs
  exact fun t hI => key N 0 (by omega) fuel hN t hI
/-- a loop that only reads, in closed form -/
theorem pw_forE {τ ρ : Type} {b : τ → Option (τ ⊕ ρ)} {r : ρ} (N : Nat) (s : Nat → τ) (fuel : Nat) (hN : N < fuel)
    (step : ∀ k, k < N → b (s k) = some (Sum.inl (s (k + 1)))) (last : b (s N) = some (Sum.inr r)) : zs_loop fuel b (s 0) = some r := by
  have h := pw_for (b := b) (Q := fun x => x = r) N (fun k t => t = s k) fuel hN (fun k t hk ht => by subst ht; exact pw_eq (step k hk) rfl) (fun t ht => by subst ht; exact pw_eq last rfl) (s 0) rfl
  obtain ⟨a, e, rfl⟩ := h
  exact e
/-! terms and laws: the model's pile against the term's meaning -/
/-- how the model's state may differ behind an asked law -/
def pm_e (Z Z' : zm_S) : Prop := (∀ k, k ≠ 46 → Z'.1 k = Z.1 k) ∧ (∀ k, k ≠ 44 → k ≠ 45 → Z'.2.1 k = Z.2.1 k) ∧ Z'.2.2 = Z.2.2
theorem pm_e_rfl (Z : zm_S) : pm_e Z Z := ⟨fun _ _ => rfl, fun _ _ _ => rfl, rfl⟩
theorem pm_e_trans {A B C : zm_S} (h : pm_e A B) (g : pm_e B C) : pm_e A C := ⟨fun k q => (g.1 k q).trans (h.1 k q), fun k q r => (g.2.1 k q r).trans (h.2.1 k q r), g.2.2.trans h.2.2⟩
theorem pm_e_A {Z : zm_S} {k : Nat} (i x : Int32) (h : k = 44 ∨ k = 45) : pm_e Z (zm_sA Z k i x) := by
  refine ⟨fun _ _ => rfl, fun j q r => ?_, rfl⟩
  show (if j = k then _ else _) = _
  rw [if_neg (by omega)]
theorem pm_e_F {Z : zm_S} (x : Int32) : pm_e Z (zm_sF Z 46 x) := ⟨fun j q => if_neg q, fun _ _ _ => rfl, rfl⟩
theorem pj_upd (f : Nat → Int32) (k : Nat) (x : Int32) (j : Nat) : upd f k x j = if j = k then x else f j := rfl
theorem pm_sA (Z : zm_S) (k : Nat) (i x : Int32) (j : Nat) : (zm_sA Z k i x).2.1 j = if j = k then upd (Z.2.1 k) i.toNatClampNeg x else Z.2.1 j := rfl
theorem pm_sA1 (Z : zm_S) (k : Nat) (i x : Int32) : (zm_sA Z k i x).1 = Z.1 := rfl
theorem pm_sF2 (Z : zm_S) (k : Nat) (x : Int32) : (zm_sF Z k x).2 = Z.2 := rfl
theorem pm_sF1 (Z : zm_S) (k : Nat) (x : Int32) (j : Nat) : (zm_sF Z k x).1 j = if j = k then x else Z.1 j := rfl
/-- heights -/
def pl_hs (o : Option Nat) (q : Nat × Int32) : Option Nat := o.bind fun n => if q.1 < 2 then some (n + 1) else if 2 ≤ n then some (n - 1) else none
def pl_ht (c : zl_C) : Option Nat := c.foldl pl_hs (some 0)
def pl_wf (c : zl_C) : Prop := pl_ht c = some 1 ∧ c.length ≤ 400 ∧ ∀ q ∈ c, q.1 ≤ 5 ∧ (q.1 = 1 → 0 ≤ q.2.toInt ∧ q.2.toInt < 9)
def pl_cd (Z : zm_S) (a : Nat) (c : zl_C) : Prop := a + c.length ≤ 840 ∧ ∀ j q, c[j]? = some q → Z.2.1 40 (a + j) = pj q.1 ∧ (q.1 < 2 → Z.2.1 41 (a + j) = q.2)
theorem pl_none : ∀ c : zl_C, c.foldl pl_hs none = none
  | [] => rfl
  | _ :: c => pl_none c
theorem pl_brk_mono (v : Nat → Int32) : ∀ (c : zl_C) (s : List Int32), (zl_run v c (s, true)).2 = true
  | [], s => rfl
  | q :: c, s => by
    have h : (zl_st v (s, true) q).2 = true := by
      unfold zl_st
      split
      · rfl
      · split
        · rfl
        · cases s with
          | nil => rfl
          | cons y r => cases r <;> rfl
    show (zl_run v c (zl_st v (s, true) q)).2 = true
    have e : zl_st v (s, true) q = ((zl_st v (s, true) q).1, true) := Prod.ext rfl h
    rw [e]
    exact pl_brk_mono v c _
theorem pl_run_take (v : Nat → Int32) (c : zl_C) (k : Nat) (q : Nat × Int32) (h : c[k]? = some q) (s : List Int32 × Bool) : zl_run v (c.take (k + 1)) s = zl_st v (zl_run v (c.take k) s) q := by
  unfold zl_run
  rw [List.take_add_one, h, List.foldl_append]
  rfl
theorem pl_ht_take (c : zl_C) (k : Nat) (q : Nat × Int32) (h : c[k]? = some q) : pl_ht (c.take (k + 1)) = pl_hs (pl_ht (c.take k)) q := by
  unfold pl_ht
  rw [List.take_add_one, h, List.foldl_append]
  rfl
theorem pl_ht_pre (c : zl_C) (k : Nat) {n : Nat} (h : pl_ht c = some n) : ∃ m, pl_ht (c.take k) = some m := by
  cases e : pl_ht (c.take k) with
  | some m => exact ⟨m, rfl⟩
  | none =>
    have : pl_ht c = (c.drop k).foldl pl_hs (pl_ht (c.take k)) := by
      unfold pl_ht
      rw [← List.foldl_append, List.take_append_drop]
    rw [e, pl_none] at this
    rw [this] at h
    cases h
theorem pl_run_drop (v : Nat → Int32) (c : zl_C) (k : Nat) (s : List Int32 × Bool) : zl_run v c s = zl_run v (c.drop k) (zl_run v (c.take k) s) := by
  unfold zl_run
  rw [← List.foldl_append, List.take_append_drop]
def pl_pile (f : Nat → Int32) (s : List Int32) : Prop := ∀ m, m < s.length → s.reverse[m]? = some (f m)
theorem pl_pile_push {f : Nat → Int32} {s : List Int32} (x : Int32) (h : pl_pile f s) : pl_pile (upd f s.length x) (x :: s) := by
  intro m hm
  rw [List.reverse_cons, List.getElem?_append]
  rw [List.length_cons] at hm
  rw [List.length_reverse]
  by_cases h1 : m < s.length
  · rw [if_pos h1, h m h1, pj_upd, if_neg (by omega)]
  · have : m = s.length := by omega
    subst this
    rw [if_neg h1, Nat.sub_self, pj_upd, if_pos rfl]
    rfl
theorem pl_pile_pop {f : Nat → Int32} {s : List Int32} {x : Int32} (h : pl_pile f (x :: s)) : f s.length = x ∧ pl_pile f s := by
  refine ⟨?_, fun m hm => ?_⟩
  · have := h s.length (by rw [List.length_cons]; omega)
    rw [List.reverse_cons, List.getElem?_append, List.length_reverse, if_neg (by omega), Nat.sub_self] at this
    injection this with e
    exact e.symm
  · have := h m (by rw [List.length_cons]; omega)
    rw [List.reverse_cons, List.getElem?_append, List.length_reverse, if_pos hm] at this
    exact this
theorem pl_pile_upd {f : Nat → Int32} {s : List Int32} {k : Nat} (x : Int32) (hk : s.length ≤ k) (h : pl_pile f s) : pl_pile (upd f k x) s := by
  intro m hm
  rw [h m hm, pj_upd, if_neg (by omega)]
/-- behind k parts of a term's code -/
def pl_I (Z : zm_S) (v : Nat → Int32) (a : Nat) (c : zl_C) (k : Nat) (t : Int32 × Int32 × zm_S) : Prop :=
  ∃ s Z', t = (pj s.length, pj (a + k : Nat), Z') ∧ pm_e Z Z' ∧ (∀ j, j < 9 → Z'.2.1 44 j = v j) ∧ Z'.1 46 = Z.1 46 ∧ zl_run v (c.take k) ([], false) = (s, false) ∧ pl_ht (c.take k) = some s.length ∧ s.length ≤ k ∧ pl_pile (Z'.2.1 45) s
theorem pl_I_push {Z Z' : zm_S} {v : Nat → Int32} {a k : Nat} {c : zl_C} {s r : List Int32} {x : Int32} {n m : Int} (h1 : pm_e Z Z') (h2 : ∀ j, j < 9 → Z'.2.1 44 j = v j) (h3 : Z'.1 46 = Z.1 46) (h6 : s.length ≤ k + 1) (hb : k < 400)
    (hn : n = s.length) (hm : m = (a + (k + 1) : Nat)) (hs : s.length = r.length + 1) (h7 : pl_pile (upd (Z'.2.1 45) r.length x) s)
    (h4 : zl_run v (c.take (k + 1)) ([], false) = (s, false)) (h5 : pl_ht (c.take (k + 1)) = some s.length) :
    pl_I Z v a c (k + 1) (pj n, pj m, zm_sA Z' 45 (pj (r.length : Nat)) x) := by
  subst hn hm
  refine ⟨s, _, rfl, pm_e_trans h1 (pm_e_A _ _ (Or.inr rfl)), h2, h3, h4, h5, h6, ?_⟩
  rw [pm_sA, if_pos rfl, pj_nat ⟨by omega, by omega⟩, Int.toNat_natCast]
  exact h7
def pl_Q (Z : zm_S) (v : Nat → Int32) (c : zl_C) : zm_S ⊕ (Int32 × zm_S) → Prop := Sum.elim (fun Z' => pm_e Z Z' ∧ (∀ j, j < 9 → Z'.2.1 44 j = v j) ∧ zl_brk v c = false ∧ Z'.1 46 = Z.1 46 ∧ Z'.2.1 45 0 = zl_val v c)
    (fun p => pm_e Z p.2 ∧ (∀ j, j < 9 → p.2.2.1 44 j = v j) ∧ zl_brk v c = true ∧ p.2.1 46 = 1)
theorem pl_step {Z : zm_S} {v : Nat → Int32} {a : Nat} {c : zl_C} (hw : pl_wf c) (hc : pl_cd Z a c) (k : Nat) (t : Int32 × Int32 × zm_S) (hk : k < c.length) (hI : pl_I Z v a c k t) :
    pw (gm_termOf_L5 (pj (a + c.length : Nat)) t) (Sum.elim (pl_I Z v a c (k + 1)) (pl_Q Z v c)) := by
  obtain ⟨hw1, hw2, hw3⟩ := hw
  obtain ⟨hc1, hc2⟩ := hc
  obtain ⟨s, Z', rfl, h1, h2, h3, h4, h5, h6, h7⟩ := hI
  have hq : c[k]? = some c[k] := List.getElem?_eq_getElem hk
  generalize c[k] = q at hq
  have hq3 := hw3 q (List.mem_of_getElem? hq)
  have hq2 := hc2 k q hq
  have e40 : Z'.2.1 40 (a + k) = pj q.1 := (congrFun (h1.2.1 40 (by decide) (by decide)) _).trans hq2.1
  have e41 : q.1 < 2 → Z'.2.1 41 (a + k) = q.2 := fun h => (congrFun (h1.2.1 41 (by decide) (by decide)) _).trans (hq2.2 h)
  have hlt2 : ((a + k : Nat) : Int) < ((a + c.length : Nat) : Int) := by omega
  obtain ⟨kq, vq⟩ := q
  dsimp only at *
  have hht := pl_ht_take c k _ hq
  rw [h5] at hht
  have hrun := pl_run_take v c k _ hq ([], false)
  rw [h4] at hrun
  unfold gm_termOf_L5
  dsimp only
  rcases (show kq = 0 ∨ kq = 1 ∨ 2 ≤ kq by omega) with rfl | rfl | hge
  · have e41' := e41 (by omega)
    simp (disch := omega) only [pj_lit, pj_add, pj_sub, pj_neg, pj_mul, pj_lt, pj_eq, pj_nat, pj_ald, pj_ast, pj_ix, pw_bind, pw_ite, pw_some, pw_none, pw_let, Option.bind_some, Int.toNat_natCast, Sum.elim_inl, Sum.elim_inr, Int.cast_ofNat_Int, Int.reduceLT, Int.reduceLE, Int.reduceEq, Int.reduceAdd, Int.reduceSub, Int.reduceMul, Int.reduceNeg, Int.reduceToNat, Nat.reduceAdd, Nat.reduceSub, Nat.reduceMul, Nat.reduceEqDiff, Nat.reduceLT, reduceIte, reduceCtorEq, true_and, and_true, forall_const, not_true_eq_false, not_false_eq_true, false_implies, implies_true, e40, hlt2, e41']
    exact pl_I_push (s := vq :: s) (r := s) h1 h2 h3 (by rw [List.length_cons]; omega) (by omega) (by rw [List.length_cons]; omega) (by omega) rfl (pl_pile_push _ h7) hrun hht
  · have e41' := e41 (by omega)
    have hb := hq3.2 rfl
    rw [← pj_of vq] at e41'
    simp (disch := omega) only [pj_lit, pj_add, pj_sub, pj_neg, pj_mul, pj_lt, pj_eq, pj_nat, pj_ald, pj_ast, pj_ix, pw_bind, pw_ite, pw_some, pw_none, pw_let, Option.bind_some, Int.toNat_natCast, Sum.elim_inl, Sum.elim_inr, Int.cast_ofNat_Int, Int.reduceLT, Int.reduceLE, Int.reduceEq, Int.reduceAdd, Int.reduceSub, Int.reduceMul, Int.reduceNeg, Int.reduceToNat, Nat.reduceAdd, Nat.reduceSub, Nat.reduceMul, Nat.reduceEqDiff, Nat.reduceLT, reduceIte, reduceCtorEq, true_and, and_true, forall_const, not_true_eq_false, not_false_eq_true, false_implies, implies_true, e40, hlt2, e41', h2 _ (show vq.toInt.toNat < 9 by omega)]
    exact pl_I_push (s := v vq.toNatClampNeg :: s) (r := s) h1 h2 h3 (by rw [List.length_cons]; omega) (by omega) (by rw [List.length_cons]; omega) (by omega) rfl (pl_pile_push _ h7) hrun hht
  · obtain ⟨m, hm⟩ := pl_ht_pre c (k + 1) hw1
    rw [hm] at hht
    have hht' : some m = if kq < 2 then some (s.length + 1) else if 2 ≤ s.length then some (s.length - 1) else none := hht
    rw [if_neg (by omega)] at hht'
    have h2s : 2 ≤ s.length := by
      by_cases h : 2 ≤ s.length
      · exact h
      · rw [if_neg h] at hht'; cases hht'
    rw [if_pos h2s] at hht'
    match s, h2s, h4, h5, h6, h7, hht', hrun with
    | y :: x :: r, h2s, h4, h5, h6, h7, hht', hrun =>
    have p1 := pl_pile_pop h7
    have p2 := pl_pile_pop p1.2
    have px : Z'.2.1 45 r.length = x := p2.1
    have py : Z'.2.1 45 (r.length + 1) = y := p1.1
    rw [List.length_cons, List.length_cons] at h6 hht'
    have hst : zl_st v (y :: x :: r, false) (kq, vq) = (zl_bin kq x y :: r, decide (kq = 5 ∧ y = 0)) := by
      unfold zl_st
      rw [if_neg (by show ¬ kq = 0; omega), if_neg (by show ¬ kq = 1; omega)]
      rfl
    rw [hst] at hrun
    have l1 : (((y :: x :: r).length : Nat) : Int) + -1 = ((r.length + 1 : Nat) : Int) := by rw [List.length_cons, List.length_cons]; omega
    have l2 : ((r.length + 1 : Nat) : Int) - 1 = ((r.length : Nat) : Int) := by omega
    have hge' : ¬ ((kq : Int) < 2) := by omega
    have hm2 : pl_ht (c.take (k + 1)) = some (zl_bin kq x y :: r).length := by rw [hm, hht', List.length_cons]; congr 1
    have fin : ∀ w, w = zl_bin kq x y → ¬ (kq = 5 ∧ y = 0) → pl_I Z v a c (k + 1) (pj ((r.length + 1 : Nat) : Int), pj (((a + k : Nat) : Int) + 1), zm_sA Z' 45 (pj (r.length : Nat)) w) := by
      intro w hw' hn
      subst hw'
      rw [decide_eq_false hn] at hrun
      exact pl_I_push (s := zl_bin kq x y :: r) (r := r) h1 h2 h3 (by rw [List.length_cons]; omega) (by omega) (by rw [List.length_cons]) (by omega) rfl (pl_pile_push _ p2.2) hrun hm2
    simp (disch := omega) only [pj_lit, pj_add, pj_sub, pj_neg, pj_mul, pj_lt, pj_eq, pj_nat, pj_ald, pj_ast, pj_ix, pw_bind, pw_ite, pw_some, pw_none, pw_let, Option.bind_some, Int.toNat_natCast, Sum.elim_inl, Sum.elim_inr, Int.cast_ofNat_Int, Int.reduceLT, Int.reduceLE, Int.reduceEq, Int.reduceAdd, Int.reduceSub, Int.reduceMul, Int.reduceNeg, Int.reduceToNat, Nat.reduceAdd, Nat.reduceSub, Nat.reduceMul, Nat.reduceEqDiff, Nat.reduceLT, reduceIte, reduceCtorEq, true_and, and_true, forall_const, not_true_eq_false, not_false_eq_true, false_implies, implies_true, e40, hlt2, l1, l2, hge', px, py]
    rcases (show kq = 2 ∨ kq = 3 ∨ kq = 4 ∨ kq = 5 by omega) with rfl | rfl | rfl | rfl
    · simp (disch := omega) only [pj_lit, pj_add, pj_sub, pj_neg, pj_mul, pj_lt, pj_eq, pj_nat, pj_ald, pj_ast, pj_ix, pw_bind, pw_ite, pw_some, pw_none, pw_let, Option.bind_some, Int.toNat_natCast, Sum.elim_inl, Sum.elim_inr, Int.cast_ofNat_Int, Int.reduceLT, Int.reduceLE, Int.reduceEq, Int.reduceAdd, Int.reduceSub, Int.reduceMul, Int.reduceNeg, Int.reduceToNat, Nat.reduceAdd, Nat.reduceSub, Nat.reduceMul, Nat.reduceEqDiff, Nat.reduceLT, reduceIte, reduceCtorEq, true_and, and_true, forall_const, not_true_eq_false, not_false_eq_true, false_implies, implies_true]
      exact fin _ rfl (by omega)
    · simp (disch := omega) only [pj_lit, pj_add, pj_sub, pj_neg, pj_mul, pj_lt, pj_eq, pj_nat, pj_ald, pj_ast, pj_ix, pw_bind, pw_ite, pw_some, pw_none, pw_let, Option.bind_some, Int.toNat_natCast, Sum.elim_inl, Sum.elim_inr, Int.cast_ofNat_Int, Int.reduceLT, Int.reduceLE, Int.reduceEq, Int.reduceAdd, Int.reduceSub, Int.reduceMul, Int.reduceNeg, Int.reduceToNat, Nat.reduceAdd, Nat.reduceSub, Nat.reduceMul, Nat.reduceEqDiff, Nat.reduceLT, reduceIte, reduceCtorEq, true_and, and_true, forall_const, not_true_eq_false, not_false_eq_true, false_implies, implies_true]
      exact fin _ rfl (by omega)
    · simp (disch := omega) only [pj_lit, pj_add, pj_sub, pj_neg, pj_mul, pj_lt, pj_eq, pj_nat, pj_ald, pj_ast, pj_ix, pw_bind, pw_ite, pw_some, pw_none, pw_let, Option.bind_some, Int.toNat_natCast, Sum.elim_inl, Sum.elim_inr, Int.cast_ofNat_Int, Int.reduceLT, Int.reduceLE, Int.reduceEq, Int.reduceAdd, Int.reduceSub, Int.reduceMul, Int.reduceNeg, Int.reduceToNat, Nat.reduceAdd, Nat.reduceSub, Nat.reduceMul, Nat.reduceEqDiff, Nat.reduceLT, reduceIte, reduceCtorEq, true_and, and_true, forall_const, not_true_eq_false, not_false_eq_true, false_implies, implies_true]
      exact fin _ rfl (by omega)
    · by_cases hy : y = 0
      · simp (disch := omega) only [pj_lit, pj_add, pj_sub, pj_neg, pj_mul, pj_lt, pj_eq, pj_nat, pj_ald, pj_ast, pj_ix, pw_bind, pw_ite, pw_some, pw_none, pw_let, Option.bind_some, Int.toNat_natCast, Sum.elim_inl, Sum.elim_inr, Int.cast_ofNat_Int, Int.reduceLT, Int.reduceLE, Int.reduceEq, Int.reduceAdd, Int.reduceSub, Int.reduceMul, Int.reduceNeg, Int.reduceToNat, Nat.reduceAdd, Nat.reduceSub, Nat.reduceMul, Nat.reduceEqDiff, Nat.reduceLT, reduceIte, reduceCtorEq, true_and, and_true, forall_const, not_true_eq_false, not_false_eq_true, false_implies, implies_true, hy]
        refine ⟨pm_e_trans h1 (pm_e_F _), h2, ?_, rfl⟩
        unfold zl_brk
        rw [pl_run_drop v c (k + 1), hrun, decide_eq_true ⟨rfl, hy⟩]
        exact pl_brk_mono v _ _
      · have hd : zs_div x y = some (x / y) := if_neg hy
        have hy' : ¬ y = pj 0 := hy
        simp (disch := omega) only [pj_lit, pj_add, pj_sub, pj_neg, pj_mul, pj_lt, pj_eq, pj_nat, pj_ald, pj_ast, pj_ix, pw_bind, pw_ite, pw_some, pw_none, pw_let, Option.bind_some, Int.toNat_natCast, Sum.elim_inl, Sum.elim_inr, Int.cast_ofNat_Int, Int.reduceLT, Int.reduceLE, Int.reduceEq, Int.reduceAdd, Int.reduceSub, Int.reduceMul, Int.reduceNeg, Int.reduceToNat, Nat.reduceAdd, Nat.reduceSub, Nat.reduceMul, Nat.reduceEqDiff, Nat.reduceLT, reduceIte, reduceCtorEq, true_and, and_true, forall_const, not_true_eq_false, not_false_eq_true, false_implies, implies_true, hy', hd]
        refine fin _ ?_ (fun q => hy q.2)
        show _ = if y = 0 then _ else _
        rw [if_neg hy]
theorem pl_term {Z : zm_S} {v : Nat → Int32} {a : Nat} {c : zl_C} (hv : ∀ j, j < 9 → Z.2.1 44 j = v j) (hw : pl_wf c) (hc : pl_cd Z a c) :
    pw (gm_termOf Z (pj a) (pj (a + c.length : Nat))) (fun p => pm_e Z p.2 ∧ (∀ j, j < 9 → p.2.2.1 44 j = v j) ∧ (zl_brk v c = true → p.2.1 46 = 1) ∧ (zl_brk v c = false → p.2.1 46 = Z.1 46 ∧ p.1 = zl_val v c)) := by
  unfold gm_termOf
  refine pw_seq (Q := pl_Q Z v c) ?_ ?_
  · refine pw_for c.length (pl_I Z v a c) 5000 (by have := hw.2.1; omega) (pl_step hw hc) ?_ _ ?_
    · rintro t ⟨s, Z', rfl, h1, h2, h3, h4, h5, h6, h7⟩
      unfold gm_termOf_L5
      have hb1 := hw.2.1
      have hb2 := hc.1
      have hn : ¬ (((a + c.length : Nat) : Int) < ((a + c.length : Nat) : Int)) := by omega
      dsimp only
      simp (disch := omega) only [pj_lit, pj_add, pj_sub, pj_neg, pj_mul, pj_lt, pj_eq, pj_nat, pj_ald, pj_ast, pj_ix, pw_bind, pw_ite, pw_some, pw_none, pw_let, Option.bind_some, Int.toNat_natCast, Sum.elim_inl, Sum.elim_inr, Int.cast_ofNat_Int, Int.reduceLT, Int.reduceLE, Int.reduceEq, Int.reduceAdd, Int.reduceSub, Int.reduceMul, Int.reduceNeg, Int.reduceToNat, Nat.reduceAdd, Nat.reduceSub, Nat.reduceMul, Nat.reduceEqDiff, Nat.reduceLT, reduceIte, reduceCtorEq, true_and, and_true, forall_const, not_true_eq_false, not_false_eq_true, false_implies, implies_true, hn]
      rw [List.take_length] at h4 h5
      rw [hw.1] at h5
      injection h5 with h5
      match s, h5, h4, h7 with
      | [x], _, h4, h7 =>
      have p1 := (pl_pile_pop h7).1
      refine ⟨h1, h2, ?_, h3, ?_⟩
      · unfold zl_brk; rw [h4]
      · unfold zl_val; rw [h4]; exact p1
    · exact ⟨[], Z, rfl, pm_e_rfl Z, hv, rfl, rfl, rfl, Nat.le_refl _, fun m hm => absurd hm (Nat.not_lt_zero m)⟩
  · intro s hs
    cases s with
    | inl Z' =>
      obtain ⟨h1, h2, h3, h4, h5⟩ := hs
      simp (disch := omega) only [pj_lit, pj_add, pj_sub, pj_neg, pj_mul, pj_lt, pj_eq, pj_nat, pj_ald, pj_ast, pj_ix, pw_bind, pw_ite, pw_some, pw_none, pw_let, Option.bind_some, Int.toNat_natCast, Sum.elim_inl, Sum.elim_inr, Int.cast_ofNat_Int, Int.reduceLT, Int.reduceLE, Int.reduceEq, Int.reduceAdd, Int.reduceSub, Int.reduceMul, Int.reduceNeg, Int.reduceToNat, Nat.reduceAdd, Nat.reduceSub, Nat.reduceMul, Nat.reduceEqDiff, Nat.reduceLT, reduceIte, reduceCtorEq, true_and, and_true, forall_const, not_true_eq_false, not_false_eq_true, false_implies, implies_true]
      exact ⟨h1, h2, fun q => absurd (h3.symm.trans q) (by decide), fun _ => ⟨h4, h5⟩⟩
    | inr p =>
      obtain ⟨h1, h2, h3, h4⟩ := hs
      simp (disch := omega) only [pj_lit, pj_add, pj_sub, pj_neg, pj_mul, pj_lt, pj_eq, pj_nat, pj_ald, pj_ast, pj_ix, pw_bind, pw_ite, pw_some, pw_none, pw_let, Option.bind_some, Int.toNat_natCast, Sum.elim_inl, Sum.elim_inr, Int.cast_ofNat_Int, Int.reduceLT, Int.reduceLE, Int.reduceEq, Int.reduceAdd, Int.reduceSub, Int.reduceMul, Int.reduceNeg, Int.reduceToNat, Nat.reduceAdd, Nat.reduceSub, Nat.reduceMul, Nat.reduceEqDiff, Nat.reduceLT, reduceIte, reduceCtorEq, true_and, and_true, forall_const, not_true_eq_false, not_false_eq_true, false_implies, implies_true]
      exact ⟨h1, h2, fun _ => h4, fun q => absurd (h3.symm.trans q) (by decide)⟩
/-! a law in the model's branches -/
def pl_br (Z : zm_S) (b : Nat) (q : zl_C × zl_C × zl_C) : Prop := ∃ a : Nat, Z.2.1 34 b = 1 ∧ Z.2.1 35 b = pj a ∧ Z.2.1 36 b = pj (a + q.1.length : Nat) ∧ Z.2.1 37 b = pj (a + q.1.length + q.2.1.length : Nat) ∧ Z.2.1 38 b = pj (a + q.1.length + q.2.1.length + q.2.2.length : Nat) ∧
  pl_cd Z a q.1 ∧ pl_cd Z (a + q.1.length) q.2.1 ∧ pl_cd Z (a + q.1.length + q.2.1.length) q.2.2 ∧ (b < 130 → a + q.1.length + q.2.1.length + q.2.2.length ≤ 420) ∧ (130 ≤ b → 420 ≤ a)
def pl_el (Z : zm_S) (b : Nat) (e : zl_C) : Prop := ∃ a : Nat, Z.2.1 34 b = 0 ∧ Z.2.1 37 b = pj a ∧ Z.2.1 38 b = pj (a + e.length : Nat) ∧ pl_cd Z a e ∧ (b < 130 → a + e.length ≤ 420) ∧ (130 ≤ b → 420 ≤ a)
def pl_okL (L : zl_L) : Prop := L.1.length ≤ 4 ∧ (∀ q ∈ L.1, pl_wf q.1 ∧ pl_wf q.2.1 ∧ pl_wf q.2.2) ∧ pl_wf L.2
def pl_lw (Z : zm_S) (s k : Nat) : Option zl_L → Prop
  | none => Z.2.1 31 (4 * s + k) = Z.2.1 32 (4 * s + k)
  | some L => ∃ f : Nat, (f + L.1.length < 260 ∧ 130 * s ≤ f ∧ f + L.1.length < 130 * (s + 1)) ∧ Z.2.1 31 (4 * s + k) = pj f ∧ Z.2.1 32 (4 * s + k) = pj (f + L.1.length + 1 : Nat) ∧ (∀ j q, L.1[j]? = some q → pl_br Z (f + j) q) ∧ pl_el Z (f + L.1.length) L.2 ∧ pl_okL L
theorem pl_cd_e {Z Z' : zm_S} (h : pm_e Z Z') {a : Nat} {c : zl_C} (g : pl_cd Z a c) : pl_cd Z' a c :=
  ⟨g.1, fun j q e => by rw [h.2.1 40 (by decide) (by decide), h.2.1 41 (by decide) (by decide)]; exact g.2 j q e⟩
theorem pl_br_e {Z Z' : zm_S} (h : pm_e Z Z') {b : Nat} {q : zl_C × zl_C × zl_C} (g : pl_br Z b q) : pl_br Z' b q := by
  obtain ⟨a, g1, g2, g3, g4, g5, g6, g7, g8⟩ := g
  exact ⟨a, (congrFun (h.2.1 34 (by decide) (by decide)) _).trans g1, (congrFun (h.2.1 35 (by decide) (by decide)) _).trans g2, (congrFun (h.2.1 36 (by decide) (by decide)) _).trans g3, (congrFun (h.2.1 37 (by decide) (by decide)) _).trans g4, (congrFun (h.2.1 38 (by decide) (by decide)) _).trans g5, pl_cd_e h g6, pl_cd_e h g7, pl_cd_e h g8.1, g8.2⟩
theorem pl_el_e {Z Z' : zm_S} (h : pm_e Z Z') {b : Nat} {e : zl_C} (g : pl_el Z b e) : pl_el Z' b e := by
  obtain ⟨a, g1, g4, g5, g6⟩ := g
  exact ⟨a, (congrFun (h.2.1 34 (by decide) (by decide)) _).trans g1, (congrFun (h.2.1 37 (by decide) (by decide)) _).trans g4, (congrFun (h.2.1 38 (by decide) (by decide)) _).trans g5, pl_cd_e h g6.1, g6.2⟩
theorem pl_fin_true (v : Nat → Int32) (c : zl_C) : gl_fin v c true = (0, true) := rfl
theorem pl_go_true (v : Nat → Int32) (e : zl_C) : ∀ qs, (gl_go v e qs true).1 = 0
  | [] => rfl
  | q :: qs => by
    unfold gl_go
    by_cases h : zl_val v q.1 < zl_val v q.2.1
    · rw [if_pos h]; rfl
    · rw [if_neg h]; exact pl_go_true v e qs
theorem pl_go_cons (v : Nat → Int32) (e : zl_C) (q : zl_C × zl_C × zl_C) (qs : List (zl_C × zl_C × zl_C)) (b : Bool) : gl_go v e (q :: qs) b = if zl_val v q.1 < zl_val v q.2.1 then gl_fin v q.2.2 (b || zl_brk v q.1 || zl_brk v q.2.1) else gl_go v e qs (b || zl_brk v q.1 || zl_brk v q.2.1) := rfl
theorem pl_term2 {Z : zm_S} {v : Nat → Int32} {a b : Nat} {c : zl_C} (hb : b = a + c.length) (hv : ∀ j, j < 9 → Z.2.1 44 j = v j) (hw : pl_wf c) (hc : pl_cd Z a c) {Q : Int32 × zm_S → Prop}
    (h : ∀ p : Int32 × zm_S, pm_e Z p.2 → (∀ j, j < 9 → p.2.2.1 44 j = v j) → (zl_brk v c = true → p.2.1 46 = 1) → (zl_brk v c = false → p.2.1 46 = Z.1 46 ∧ p.1 = zl_val v c) → Q p) : pw (gm_termOf Z (pj a) (pj b)) Q := by
  subst hb
  exact pw_mono (pl_term hv hw hc) (fun p hp => h p hp.1 hp.2.1 hp.2.2.1 hp.2.2.2)
def pl_J (Z : zm_S) (L : zl_L) (f k : Nat) (t : Int32 × zm_S) : Prop := ∃ Z', t = (pj (f + k : Nat), Z') ∧ pm_e Z Z' ∧ (∀ j, j < 9 → Z'.2.1 44 j = Z.2.1 44 j) ∧ Z'.1 46 = 0 ∧ gl_go (Z.2.1 44) L.2 L.1 false = gl_go (Z.2.1 44) L.2 (L.1.drop k) false
def pl_K (Z : zm_S) (L : zl_L) (f : Nat) : (Int32 × zm_S) ⊕ (Int32 × zm_S) → Prop := Sum.elim
  (fun p => ∃ b a c, p.1 = pj (b : Nat) ∧ b < 260 ∧ pm_e Z p.2 ∧ (∀ j, j < 9 → p.2.2.1 44 j = Z.2.1 44 j) ∧ p.2.1 46 = 0 ∧ pl_wf c ∧ pl_cd p.2 a c ∧ p.2.2.1 37 b = pj (a : Nat) ∧ p.2.2.1 38 b = pj (a + c.length : Nat) ∧ (gl_go (Z.2.1 44) L.2 L.1 false).1 = (gl_fin (Z.2.1 44) c false).1)
  (fun p => p.1 = 0 ∧ pm_e Z p.2 ∧ (gl_go (Z.2.1 44) L.2 L.1 false).1 = 0)
theorem pl_law_step {Z : zm_S} {L : zl_L} {f x1 : Nat} (hx : x1 < 8) (hf : f + L.1.length < 260) (h32 : Z.2.1 32 x1 = pj (f + L.1.length + 1 : Nat)) (hbr : ∀ j q, L.1[j]? = some q → pl_br Z (f + j) q) (hok : pl_okL L) (k : Nat) (t : Int32 × zm_S) (hk : k < L.1.length) (hI : pl_J Z L f k t) :
    pw (gm_lawTells_L39 (pj x1) t) (Sum.elim (pl_J Z L f (k + 1)) (pl_K Z L f)) := by
  obtain ⟨Z', rfl, h1, h2, h3, h4⟩ := hI
  have hq : L.1[k]? = some L.1[k] := List.getElem?_eq_getElem hk
  have hdrop : L.1.drop k = L.1[k] :: L.1.drop (k + 1) := List.drop_eq_getElem_cons hk
  rw [hdrop] at h4
  generalize L.1[k] = q at hq h4
  obtain ⟨w1, w2, w3⟩ := hok.2.1 q (List.mem_of_getElem? hq)
  have hb := pl_br_e h1 (hbr k q hq)
  obtain ⟨a, g1, g2, g3, g4, g5, g6, g7, g8, -⟩ := hb
  have h32' : Z'.2.1 32 x1 = pj (f + L.1.length + 1 : Nat) := (congrFun (h1.2.1 32 (by decide) (by decide)) _).trans h32
  have hlt : ((f + k : Nat) : Int) < ((f + L.1.length + 1 : Nat) : Int) := by omega
  have bl := hok.1
  unfold gm_lawTells_L39
  dsimp only
  simp (disch := omega) only [pj_lit, pj_add, pj_sub, pj_neg, pj_mul, pj_lt, pj_eq, pj_nat, pj_ald, pj_ast, pj_ix, pw_bind, pw_ite, pw_some, pw_none, pw_let, Option.bind_some, Int.toNat_natCast, Sum.elim_inl, Sum.elim_inr, Int.cast_ofNat_Int, Int.reduceLT, Int.reduceLE, Int.reduceEq, Int.reduceAdd, Int.reduceSub, Int.reduceMul, Int.reduceNeg, Int.reduceToNat, Nat.reduceAdd, Nat.reduceSub, Nat.reduceMul, Nat.reduceEqDiff, Nat.reduceLT, reduceIte, reduceCtorEq, true_and, and_true, forall_const, not_true_eq_false, not_false_eq_true, false_implies, implies_true, h32', hlt, g1, g2, g3]
  refine pl_term2 rfl h2 w1 g6 (fun p1 e1 e2 e3 e4 => ?_)
  have g3' := (congrFun (e1.2.1 36 (by decide) (by decide)) _).trans g3
  have g4' := (congrFun (e1.2.1 37 (by decide) (by decide)) _).trans g4
  simp (disch := omega) only [pj_lit, pj_add, pj_sub, pj_neg, pj_mul, pj_lt, pj_eq, pj_nat, pj_ald, pj_ast, pj_ix, pw_bind, pw_ite, pw_some, pw_none, pw_let, Option.bind_some, Int.toNat_natCast, Sum.elim_inl, Sum.elim_inr, Int.cast_ofNat_Int, Int.reduceLT, Int.reduceLE, Int.reduceEq, Int.reduceAdd, Int.reduceSub, Int.reduceMul, Int.reduceNeg, Int.reduceToNat, Nat.reduceAdd, Nat.reduceSub, Nat.reduceMul, Nat.reduceEqDiff, Nat.reduceLT, reduceIte, reduceCtorEq, true_and, and_true, forall_const, not_true_eq_false, not_false_eq_true, false_implies, implies_true, g3', g4']
  refine pl_term2 rfl e2 w2 (pl_cd_e e1 g7) (fun p2 i1 i2 i3 i4 => ?_)
  have hZ2 : pm_e Z p2.2 := pm_e_trans h1 (pm_e_trans e1 i1)
  by_cases hbrk : (zl_brk (Z.2.1 44) q.1 || zl_brk (Z.2.1 44) q.2.1) = true
  · have hz : (gl_go (Z.2.1 44) L.2 L.1 false).1 = 0 := by
      rw [h4, pl_go_cons, Bool.false_or, hbrk]
      by_cases hlt : zl_val (Z.2.1 44) q.1 < zl_val (Z.2.1 44) q.2.1
      · rw [if_pos hlt]; rfl
      · rw [if_neg hlt]; exact pl_go_true _ _ _
    have h46 : p2.2.1 46 = 1 := by
      cases b2 : zl_brk (Z.2.1 44) q.2.1 with
      | true => exact i3 b2
      | false =>
        rw [b2, Bool.or_false] at hbrk
        rw [(i4 b2).1, e3 hbrk]
    simp (disch := omega) only [pj_lit, pj_add, pj_sub, pj_neg, pj_mul, pj_lt, pj_eq, pj_nat, pj_ald, pj_ast, pj_ix, pw_bind, pw_ite, pw_some, pw_none, pw_let, Option.bind_some, Int.toNat_natCast, Sum.elim_inl, Sum.elim_inr, Int.cast_ofNat_Int, Int.reduceLT, Int.reduceLE, Int.reduceEq, Int.reduceAdd, Int.reduceSub, Int.reduceMul, Int.reduceNeg, Int.reduceToNat, Nat.reduceAdd, Nat.reduceSub, Nat.reduceMul, Nat.reduceEqDiff, Nat.reduceLT, reduceIte, reduceCtorEq, true_and, and_true, forall_const, not_true_eq_false, not_false_eq_true, false_implies, implies_true, h46]
    exact ⟨rfl, hZ2, hz⟩
  · have hbrk' : (zl_brk (Z.2.1 44) q.1 || zl_brk (Z.2.1 44) q.2.1) = false := by cases hh : (zl_brk (Z.2.1 44) q.1 || zl_brk (Z.2.1 44) q.2.1) <;> simp_all
    obtain ⟨b1, b2⟩ := Bool.or_eq_false_iff.1 hbrk'
    have h46 : p2.2.1 46 = 0 := by rw [(i4 b2).1, (e4 b1).1, h3]
    have h46' : p2.2.1 46 = pj 0 := h46
    have v1 := (e4 b1).2
    have v2 := (i4 b2).2
    simp (disch := omega) only [pj_lit, pj_add, pj_sub, pj_neg, pj_mul, pj_lt, pj_eq, pj_nat, pj_ald, pj_ast, pj_ix, pw_bind, pw_ite, pw_some, pw_none, pw_let, Option.bind_some, Int.toNat_natCast, Sum.elim_inl, Sum.elim_inr, Int.cast_ofNat_Int, Int.reduceLT, Int.reduceLE, Int.reduceEq, Int.reduceAdd, Int.reduceSub, Int.reduceMul, Int.reduceNeg, Int.reduceToNat, Nat.reduceAdd, Nat.reduceSub, Nat.reduceMul, Nat.reduceEqDiff, Nat.reduceLT, reduceIte, reduceCtorEq, true_and, and_true, forall_const, not_true_eq_false, not_false_eq_true, false_implies, implies_true, h46', v1, v2]
    rw [pl_go_cons, Bool.false_or, hbrk'] at h4
    refine ⟨fun hlt => ?_, fun hge => ?_⟩
    · rw [if_pos hlt] at h4
      refine ⟨f + k, a + q.1.length + q.2.1.length, q.2.2, rfl, by omega, hZ2, i2, h46, w3, pl_cd_e (pm_e_trans e1 i1) g8, ?_, ?_, congrArg Prod.fst h4⟩
      · exact (congrFun ((pm_e_trans e1 i1).2.1 37 (by decide) (by decide)) _).trans g4
      · exact (congrFun ((pm_e_trans e1 i1).2.1 38 (by decide) (by decide)) _).trans g5
    · rw [if_neg hge] at h4
      exact ⟨p2.2, by congr 1, hZ2, i2, h46, h4⟩
theorem pl_tells {Z : zm_S} {s k : Nat} {L : zl_L} (hs : Z.1 18 = pj s) (hs2 : s < 2) (hk : k < 4) (h : pl_lw Z s k (some L)) (pl : Int32) :
    pw (gm_lawTells Z (pj k) pl) (fun p => pm_e Z p.2 ∧ zs_max 0 p.1 = (gl_go (Z.2.1 44) L.2 L.1 false).1) := by
  obtain ⟨f, ⟨hf, -, -⟩, h31, h32, hbr, hel, hok⟩ := h
  have bl := hok.1
  have hx : ((4 * s + k : Nat) : Int) < 8 := by omega
  have hne : ¬ ((f : Int) = ((f + L.1.length + 1 : Nat) : Int)) := by omega
  have e4 : (4 : Int) * (s : Int) + (k : Int) = ((4 * s + k : Nat) : Int) := by omega
  unfold gm_lawTells
  have h31' : (zm_sF Z 46 (pj 0)).2.1 31 (4 * s + k) = pj f := h31
  simp (disch := omega) only [pj_lit, pj_add, pj_sub, pj_neg, pj_mul, pj_lt, pj_eq, pj_nat, pj_ald, pj_ast, pj_ix, pw_bind, pw_ite, pw_some, pw_none, pw_let, Option.bind_some, Int.toNat_natCast, Sum.elim_inl, Sum.elim_inr, Int.cast_ofNat_Int, Int.reduceLT, Int.reduceLE, Int.reduceEq, Int.reduceAdd, Int.reduceSub, Int.reduceMul, Int.reduceNeg, Int.reduceToNat, Nat.reduceAdd, Nat.reduceSub, Nat.reduceMul, Nat.reduceEqDiff, Nat.reduceLT, reduceIte, reduceCtorEq, true_and, and_true, forall_const, not_true_eq_false, not_false_eq_true, false_implies, implies_true, hs, e4, h31, h32, hne, h31']
  refine pw_mono (Q := pl_K Z L f) ?_ ?_
  · have hJ0 : pl_J Z L f 0 (pj (f : Nat), zm_sF Z 46 (pj 0)) := ⟨_, rfl, pm_e_F _, fun _ _ => rfl, rfl, rfl⟩
    refine pw_for L.1.length (pl_J Z L f) 5000 (by omega) (pl_law_step (x1 := 4 * s + k) (by omega) hf h32 hbr hok) ?_ _ hJ0
    rintro t ⟨Z', rfl, g1, g2, g3, g4⟩
    obtain ⟨a, e1, e2, e3, e5, -⟩ := pl_el_e g1 hel
    have h32' : Z'.2.1 32 (4 * s + k) = pj (f + L.1.length + 1 : Nat) := (congrFun (g1.2.1 32 (by decide) (by decide)) _).trans h32
    have hlt : ((f + L.1.length : Nat) : Int) < ((f + L.1.length + 1 : Nat) : Int) := by omega
    unfold gm_lawTells_L39
    dsimp only
    have e1' : Z'.2.1 34 (f + L.1.length) = pj 0 := e1
    simp (disch := omega) only [pj_lit, pj_add, pj_sub, pj_neg, pj_mul, pj_lt, pj_eq, pj_nat, pj_ald, pj_ast, pj_ix, pw_bind, pw_ite, pw_some, pw_none, pw_let, Option.bind_some, Int.toNat_natCast, Sum.elim_inl, Sum.elim_inr, Int.cast_ofNat_Int, Int.reduceLT, Int.reduceLE, Int.reduceEq, Int.reduceAdd, Int.reduceSub, Int.reduceMul, Int.reduceNeg, Int.reduceToNat, Nat.reduceAdd, Nat.reduceSub, Nat.reduceMul, Nat.reduceEqDiff, Nat.reduceLT, reduceIte, reduceCtorEq, true_and, and_true, forall_const, not_true_eq_false, not_false_eq_true, false_implies, implies_true, h32', hlt, e1']
    rw [List.drop_length] at g4
    exact ⟨f + L.1.length, a, L.2, rfl, hf, g1, g2, g3, hok.2.2, e5, e2, e3, congrArg Prod.fst g4⟩
  · intro r hr
    cases r with
    | inr p =>
      obtain ⟨r1, r2, r3⟩ := hr
      simp (disch := omega) only [pj_lit, pj_add, pj_sub, pj_neg, pj_mul, pj_lt, pj_eq, pj_nat, pj_ald, pj_ast, pj_ix, pw_bind, pw_ite, pw_some, pw_none, pw_let, Option.bind_some, Int.toNat_natCast, Sum.elim_inl, Sum.elim_inr, Int.cast_ofNat_Int, Int.reduceLT, Int.reduceLE, Int.reduceEq, Int.reduceAdd, Int.reduceSub, Int.reduceMul, Int.reduceNeg, Int.reduceToNat, Nat.reduceAdd, Nat.reduceSub, Nat.reduceMul, Nat.reduceEqDiff, Nat.reduceLT, reduceIte, reduceCtorEq, true_and, and_true, forall_const, not_true_eq_false, not_false_eq_true, false_implies, implies_true]
      refine ⟨r2, ?_⟩
      rw [r3, r1]; rfl
    | inl p =>
      obtain ⟨b, a, c, r1, r2, r3, r4, r5, r6, r7, r8, r9, r10⟩ := hr
      simp (disch := omega) only [pj_lit, pj_add, pj_sub, pj_neg, pj_mul, pj_lt, pj_eq, pj_nat, pj_ald, pj_ast, pj_ix, pw_bind, pw_ite, pw_some, pw_none, pw_let, Option.bind_some, Int.toNat_natCast, Sum.elim_inl, Sum.elim_inr, Int.cast_ofNat_Int, Int.reduceLT, Int.reduceLE, Int.reduceEq, Int.reduceAdd, Int.reduceSub, Int.reduceMul, Int.reduceNeg, Int.reduceToNat, Nat.reduceAdd, Nat.reduceSub, Nat.reduceMul, Nat.reduceEqDiff, Nat.reduceLT, reduceIte, reduceCtorEq, true_and, and_true, forall_const, not_true_eq_false, not_false_eq_true, false_implies, implies_true, r1, r8, r9]
      refine pl_term2 rfl r4 r6 r7 (fun p1 e1 e2 e3 e4 => ?_)
      have hZ := pm_e_trans r3 e1
      unfold gl_fin at r10
      rw [Bool.false_or] at r10
      cases hb : zl_brk (Z.2.1 44) c with
      | true =>
        have e3' : p1.2.1 46 = pj 1 := e3 hb
        simp (disch := omega) only [pj_lit, pj_add, pj_sub, pj_neg, pj_mul, pj_lt, pj_eq, pj_nat, pj_ald, pj_ast, pj_ix, pw_bind, pw_ite, pw_some, pw_none, pw_let, Option.bind_some, Int.toNat_natCast, Sum.elim_inl, Sum.elim_inr, Int.cast_ofNat_Int, Int.reduceLT, Int.reduceLE, Int.reduceEq, Int.reduceAdd, Int.reduceSub, Int.reduceMul, Int.reduceNeg, Int.reduceToNat, Nat.reduceAdd, Nat.reduceSub, Nat.reduceMul, Nat.reduceEqDiff, Nat.reduceLT, reduceIte, reduceCtorEq, true_and, and_true, forall_const, not_true_eq_false, not_false_eq_true, false_implies, implies_true, e3']
        refine ⟨hZ, ?_⟩
        rw [r10, hb]; rfl
      | false =>
        have e3' : p1.2.1 46 = pj 0 := (e4 hb).1.trans r5
        simp (disch := omega) only [pj_lit, pj_add, pj_sub, pj_neg, pj_mul, pj_lt, pj_eq, pj_nat, pj_ald, pj_ast, pj_ix, pw_bind, pw_ite, pw_some, pw_none, pw_let, Option.bind_some, Int.toNat_natCast, Sum.elim_inl, Sum.elim_inr, Int.cast_ofNat_Int, Int.reduceLT, Int.reduceLE, Int.reduceEq, Int.reduceAdd, Int.reduceSub, Int.reduceMul, Int.reduceNeg, Int.reduceToNat, Nat.reduceAdd, Nat.reduceSub, Nat.reduceMul, Nat.reduceEqDiff, Nat.reduceLT, reduceIte, reduceCtorEq, true_and, and_true, forall_const, not_true_eq_false, not_false_eq_true, false_implies, implies_true, e3']
        refine ⟨hZ, ?_⟩
        rw [r10, hb, (e4 hb).2]; rfl
/-! a village as numbers, what is read off it -/
theorem pl_run_congr {v w : Nat → Int32} (h : ∀ j, j < 9 → v j = w j) : ∀ (c : zl_C), (∀ q ∈ c, q.1 ≤ 5 ∧ (q.1 = 1 → 0 ≤ q.2.toInt ∧ q.2.toInt < 9)) → ∀ s, zl_run v c s = zl_run w c s
  | [], _, s => rfl
  | q :: c, hc, s => by
    show zl_run v c (zl_st v s q) = zl_run w c (zl_st w s q)
    have e : zl_st v s q = zl_st w s q := by
      unfold zl_st
      by_cases h0 : q.1 = 0
      · rw [if_pos h0, if_pos h0]
      · rw [if_neg h0, if_neg h0]
        by_cases h1 : q.1 = 1
        · rw [if_pos h1, if_pos h1, h _ (by have := (hc q List.mem_cons_self).2 h1; rw [pj_natC]; omega)]
        · rw [if_neg h1, if_neg h1]
    rw [e]
    exact pl_run_congr h c (fun q hq => hc q (List.mem_cons_of_mem _ hq)) _
theorem pl_fin_congr {v w : Nat → Int32} (h : ∀ j, j < 9 → v j = w j) {c : zl_C} (hc : pl_wf c) (b : Bool) : gl_fin v c b = gl_fin w c b := by
  unfold gl_fin zl_brk zl_val
  rw [pl_run_congr h c hc.2.2]
theorem pl_go_congr {v w : Nat → Int32} (h : ∀ j, j < 9 → v j = w j) {e : zl_C} (he : pl_wf e) : ∀ (qs : List (zl_C × zl_C × zl_C)) (b : Bool), (∀ q ∈ qs, pl_wf q.1 ∧ pl_wf q.2.1 ∧ pl_wf q.2.2) → gl_go v e qs b = gl_go w e qs b
  | [], b, _ => pl_fin_congr h he b
  | q :: qs, b, hq => by
    obtain ⟨h1, h2, h3⟩ := hq q List.mem_cons_self
    rw [pl_go_cons, pl_go_cons]
    have e1 : zl_val v q.1 = zl_val w q.1 := by unfold zl_val; rw [pl_run_congr h _ h1.2.2]
    have e2 : zl_val v q.2.1 = zl_val w q.2.1 := by unfold zl_val; rw [pl_run_congr h _ h2.2.2]
    have e3 : zl_brk v q.1 = zl_brk w q.1 := by unfold zl_brk; rw [pl_run_congr h _ h1.2.2]
    have e4 : zl_brk v q.2.1 = zl_brk w q.2.1 := by unfold zl_brk; rw [pl_run_congr h _ h2.2.2]
    rw [e1, e2, e3, e4, pl_fin_congr h h3, pl_go_congr h he qs _ (fun q hh => hq q (List.mem_cons_of_mem _ hh))]
theorem pl_fin_nonneg (v : Nat → Int32) (c : zl_C) (b : Bool) : 0 ≤ (gl_fin v c b).1.toInt := by
  unfold gl_fin
  dsimp only
  by_cases h : (b || zl_brk v c) = true
  · rw [if_pos h]; decide
  · rw [if_neg h]
    unfold zs_max
    by_cases g : 0 < zl_val v c
    · rw [if_pos g]; have := Int32.lt_iff_toInt_lt.1 g; have e : (0 : Int32).toInt = 0 := by decide
      omega
    · rw [if_neg g]; decide
theorem pl_go_nonneg (v : Nat → Int32) (e : zl_C) : ∀ (qs : List (zl_C × zl_C × zl_C)) (b : Bool), 0 ≤ (gl_go v e qs b).1.toInt
  | [], b => pl_fin_nonneg v e b
  | q :: qs, b => by
    rw [pl_go_cons]
    by_cases h : zl_val v q.1 < zl_val v q.2.1
    · rw [if_pos h]; exact pl_fin_nonneg _ _ _
    · rw [if_neg h]; exact pl_go_nonneg v e qs _
/-- a village: of houses the hair, the plait, how strong, how often given; the rope's houses; the year, what was drawn -/
abbrev pv_V : Type := (Nat → Int) × (Nat → Int) × (Nat → Int) × (Nat → Int32) × List Nat × Int32 × Int32
def pv_h (V : pv_V) : Nat → Int := V.1
def pv_p (V : pv_V) : Nat → Int := V.2.1
def pv_s (V : pv_V) : Nat → Int := V.2.2.1
def pv_g (V : pv_V) : Nat → Int32 := V.2.2.2.1
def pv_r (V : pv_V) : List Nat := V.2.2.2.2.1
def pv_y (V : pv_V) : Int32 := V.2.2.2.2.2.1
def pv_d (V : pv_V) : Int32 := V.2.2.2.2.2.2
def pt_h (T : zt_T) (h : Nat) : Int := (zt_hi T h 1).toInt
def pt_s (T : zt_T) (h : Nat) : Int := (zt_hi T h 2).toInt
def pt_k (T : zt_T) (a b : Nat) : Int := (zt_lk T a b).toInt
def pt_f (T : zt_T) (k : Nat) : Int := (zt_f T k).toInt
def pt_ok (T : zt_T) : Prop := zt_n T ≤ 6 ∧ (∀ h, h < zt_n T → 0 ≤ pt_h T h ∧ pt_h T h ≤ 20 ∧ 1 ≤ pt_s T h ∧ pt_s T h ≤ 99) ∧ (∀ a b, a < 6 → b < 6 → 0 ≤ pt_k T a b ∧ pt_k T a b ≤ 9) ∧
  (1 ≤ pt_f T 4 ∧ pt_f T 4 ≤ 99) ∧ (0 ≤ pt_f T 5 ∧ pt_f T 5 ≤ 99) ∧ (0 ≤ pt_f T 6 ∧ pt_f T 6 ≤ 100) ∧ (∀ k L, k < 4 → zt_lw T k = some L → pl_okL L)
def pv_row (r : Nat → Int32) (V : pv_V) : Prop := (∀ h, h < 6 → r h = pj (pv_h V h) ∧ r (6 + h) = pj (pv_p V h) ∧ r (12 + h) = pj (pv_s V h) ∧ r (18 + h) = pv_g V h) ∧ r 24 = pj (pv_r V).length ∧ (∀ (k h : Nat), (pv_r V)[k]? = some h → r (25 + k) = pj h) ∧ r 31 = pv_y V ∧ r 32 = pv_d V
def pc_V (M : cs_S) (i : Nat) (V : pv_V) : Prop := (∀ h, h < 6 → M.2 (10 + i) 0 h = pj (pv_h V h) ∧ M.2 (10 + i) 1 h = pj (pv_p V h) ∧ M.2 (10 + i) 2 h = pj (pv_s V h) ∧ M.2 (10 + i) 3 h = pv_g V h) ∧ M.1 (10 + i) 5 = pj (pv_r V).length ∧ (∀ (k h : Nat), (pv_r V)[k]? = some h → M.2 (10 + i) 4 k = pj h) ∧ M.1 (10 + i) 6 = pv_y V ∧ M.1 (10 + i) 7 = pv_d V
def pv_ok (n : Nat) (V : pv_V) : Prop := n ≤ 6 ∧ (∀ h, h < 6 → 0 ≤ pv_h V h ∧ pv_h V h ≤ 99 ∧ 0 ≤ pv_p V h ∧ pv_p V h ≤ 99 ∧ 0 ≤ pv_s V h ∧ pv_s V h ≤ 99 ∧ (0 < pv_p V h ↔ h ∈ pv_r V)) ∧ (pv_r V).Nodup ∧ (∀ h ∈ pv_r V, h < n) ∧ (∀ h, n ≤ h → h < 6 → pv_h V h = 0 ∧ pv_s V h = 0 ∧ pv_g V h = 0)
theorem pv_len_aux : ∀ (n : Nat) (l : List Nat), l.Nodup → (∀ h ∈ l, h < n) → l.length ≤ n
  | 0, l, _, h => by
    cases l with
    | nil => exact Nat.le_refl _
    | cons a r => exact absurd (h a List.mem_cons_self) (Nat.not_lt_zero a)
  | n + 1, l, hn, h => by
    have h1 := pv_len_aux n (l.erase n) (hn.erase n) (fun x hx => by
      have h2 := h x (List.mem_of_mem_erase hx)
      have h3 : x ≠ n := fun e => by subst e; exact (hn.not_mem_erase) hx
      omega)
    have h2 := List.length_erase (a := n) (l := l)
    split at h2 <;> omega
theorem pv_len {n : Nat} {V : pv_V} (h : pv_ok n V) : (pv_r V).length ≤ n := pv_len_aux n _ h.2.2.1 h.2.2.2.1
def pv_st (T : zt_T) (V : pv_V) (h : Nat) : Int := if 0 < pv_p V h then pv_s V h else pt_s T h
def pv_at (V : pv_V) (h : Nat) : Int := if 0 < pv_p V h then ((pv_r V).idxOf h : Nat) else 0
def pv_env (T : zt_T) (V : pv_V) (h : Nat) (like other : Int32) : Nat → Int32
  | 0 => pj (pv_h V h)
  | 1 => pj (pv_st T V h)
  | 2 => like
  | 3 => pv_y V
  | 4 => pj (pv_at V h)
  | 5 => pj h
  | 6 => pj (pv_r V).length
  | 7 => pv_g V h
  | _ => other
def pv_lw (T : zt_T) (V : pv_V) (k h : Nat) (like other : Int32) (hi pl : Int) : Int := match zt_lw T k with
  | none => pl
  | some L => min hi (gl_go (pv_env T V h like other) L.2 L.1 false).1.toInt
def pv_grows (T : zt_T) (V : pv_V) (h : Nat) : Int := pv_lw T V 0 h 0 0 99 1
def pv_weak (T : zt_T) (V : pv_V) (h : Nat) : Int := pv_lw T V 1 h 0 0 99 1
def pv_costs (T : zt_T) (V : pv_V) (h : Nat) : Int := pv_lw T V 3 h 0 0 99 (pv_h V h)
def pv_joins (T : zt_T) (V : pv_V) (a b : Nat) (like : Int) : Int := pv_lw T V 2 a (pj like) (pj (pv_st T V b)) 999 (10 * like)
theorem pv_lw_bd (T : zt_T) (V : pv_V) (k h : Nat) (like other : Int32) {hi pl : Int} (h1 : 0 ≤ pl) (h2 : pl ≤ hi) : 0 ≤ pv_lw T V k h like other hi pl ∧ pv_lw T V k h like other hi pl ≤ hi := by
  unfold pv_lw
  split
  · exact ⟨h1, h2⟩
  · have := pl_go_nonneg (pv_env T V h like other) (by assumption : zl_L).2 (by assumption : zl_L).1 false
    omega
theorem pv_st_bd {T : zt_T} {V : pv_V} {h : Nat} (hT : pt_ok T) (hV : pv_ok (zt_n T) V) (hh : h < zt_n T) : 0 ≤ pv_st T V h ∧ pv_st T V h ≤ 99 := by
  have h1 := hT.2.1 h hh
  have h2 := hV.2.1 h (by have := hT.1; omega)
  unfold pv_st
  split <;> omega
theorem pv_at_bd {n : Nat} {V : pv_V} (h : Nat) (hV : pv_ok n V) (hh : h < 6) : 0 ≤ pv_at V h ∧ pv_at V h ≤ 6 := by
  have h2 := hV.2.1 h hh
  have h3 := pv_len hV
  have h4 := hV.1
  unfold pv_at
  split
  · have h5 := h2.2.2.2.2.2.2.1 (by assumption)
    have := List.idxOf_lt_length_of_mem h5
    omega
  · omega
/-! the component's village read and asked -/
def pc_e (M M' : cs_S) : Prop := (∀ o f, o < 110 ∨ 155 ≤ o → M'.1 o f = M.1 o f) ∧ (∀ o f, ¬ (10 ≤ o ∧ o < 55 ∧ f = 11) → M'.2 o f = M.2 o f)
theorem pc_e_rfl (M : cs_S) : pc_e M M := ⟨fun _ _ _ => rfl, fun _ _ _ => rfl⟩
theorem pc_e_trans {A B C : cs_S} (h : pc_e A B) (g : pc_e B C) : pc_e A C := ⟨fun o f q => (g.1 o f q).trans (h.1 o f q), fun o f q => (g.2 o f q).trans (h.2 o f q)⟩
theorem pc_sA1 (M : cs_S) (o k : Nat) (i x : Int32) : (cs_sA M o k i x).1 = M.1 := rfl
theorem pc_sA2 (M : cs_S) (o k : Nat) (i x : Int32) (p q : Nat) : (cs_sA M o k i x).2 p q = if p = o ∧ q = k then upd (M.2 o k) i.toNatClampNeg x else M.2 p q := rfl
theorem pc_sF2 (M : cs_S) (o k : Nat) (x : Int32) : (cs_sF M o k x).2 = M.2 := rfl
theorem pc_sF1 (M : cs_S) (o k : Nat) (x : Int32) (p q : Nat) : (cs_sF M o k x).1 p q = if p = o ∧ q = k then x else M.1 p q := rfl
theorem pc_e_A {M : cs_S} {i : Nat} (hi : i < 45) (j x : Int32) : pc_e M (cs_sA M (10 + i) 11 j x) := by
  refine ⟨fun _ _ _ => rfl, fun o f q => ?_⟩
  rw [pc_sA2, if_neg (by omega)]
theorem pc_e_F {M : cs_S} {i : Nat} (hi : i < 45) (k : Nat) (x : Int32) : pc_e M (cs_sF M (110 + i) k x) := by
  refine ⟨fun o f q => ?_, fun _ _ _ => rfl⟩
  rw [pc_sF1, if_neg (by omega)]
theorem pc_V_e {M M' : cs_S} {i : Nat} {V : pv_V} (hi : i < 45) (h : pc_e M M') (g : pc_V M i V) : pc_V M' i V := by
  obtain ⟨g1, g2, g3, g4, g5⟩ := g
  refine ⟨fun k hk => ?_, ?_, fun k x e => ?_, ?_, ?_⟩
  · rw [h.2 _ 0 (by omega), h.2 _ 1 (by omega), h.2 _ 2 (by omega), h.2 _ 3 (by omega)]; exact g1 k hk
  · rw [h.1 _ _ (by omega)]; exact g2
  · rw [h.2 _ _ (by omega)]; exact g3 k x e
  · rw [h.1 _ _ (by omega)]; exact g4
  · rw [h.1 _ _ (by omega)]; exact g5
theorem pc_has {T : zt_T} {M : cs_S} {i : Nat} {V : pv_V} {n : Nat} (hV : pc_V M i V) (ho : pv_ok n V) (h : Nat) (hh : h < 6) : gv_has T M i (pj h) = some (decide (0 < pv_p V h)) := by
  have e := (hV.1 h hh).2.1
  have b := ho.2.1 h hh
  unfold gv_has
  simp (disch := omega) only [pj_lit, pj_add, pj_sub, pj_neg, pj_mul, pj_lt, pj_eq, pj_nat, pj_ald, pj_ast, pj_ix, pw_bind, pw_ite, pw_some, pw_none, pw_let, Option.bind_some, Int.toNat_natCast, Sum.elim_inl, Sum.elim_inr, Int.cast_ofNat_Int, Int.reduceLT, Int.reduceLE, Int.reduceEq, Int.reduceAdd, Int.reduceSub, Int.reduceMul, Int.reduceNeg, Int.reduceToNat, Nat.reduceAdd, Nat.reduceSub, Nat.reduceMul, Nat.reduceEqDiff, Nat.reduceLT, reduceIte, reduceCtorEq, true_and, and_true, forall_const, not_true_eq_false, not_false_eq_true, false_implies, implies_true, e]
  by_cases q : 0 < pv_p V h
  · rw [if_pos q, decide_eq_true q]
  · rw [if_neg q, decide_eq_false q]
theorem pt_s_eq (T : zt_T) (h : Nat) : zt_hi T h 2 = pj (pt_s T h) := (pj_of _).symm
theorem pt_h_eq (T : zt_T) (h : Nat) : zt_hi T h 1 = pj (pt_h T h) := (pj_of _).symm
theorem pt_k_eq (T : zt_T) (a b : Nat) : zt_lk T a b = pj (pt_k T a b) := (pj_of _).symm
theorem pt_f_eq (T : zt_T) (k : Nat) : zt_f T k = pj (pt_f T k) := (pj_of _).symm
theorem pc_str {T : zt_T} {M : cs_S} {i : Nat} {V : pv_V} (hT : pt_ok T) (hV : pc_V M i V) (ho : pv_ok (zt_n T) V) (h : Nat) (hh : h < zt_n T) : gv_strength T M i (pj h) = some (pj (pv_st T V h)) := by
  have h6 : h < 6 := by have := hT.1; omega
  have e := (hV.1 h h6).2.2.1
  have hn := hT.1
  unfold gv_strength
  simp (disch := omega) only [pj_lit, pj_add, pj_sub, pj_neg, pj_mul, pj_lt, pj_eq, pj_nat, pj_ald, pj_ast, pj_ix, pw_bind, pw_ite, pw_some, pw_none, pw_let, Option.bind_some, Int.toNat_natCast, Sum.elim_inl, Sum.elim_inr, Int.cast_ofNat_Int, Int.reduceLT, Int.reduceLE, Int.reduceEq, Int.reduceAdd, Int.reduceSub, Int.reduceMul, Int.reduceNeg, Int.reduceToNat, Nat.reduceAdd, Nat.reduceSub, Nat.reduceMul, Nat.reduceEqDiff, Nat.reduceLT, reduceIte, reduceCtorEq, true_and, and_true, forall_const, not_true_eq_false, not_false_eq_true, false_implies, implies_true, pc_has hV ho h h6, e, decide_eq_true_eq, pt_s_eq]
  unfold pv_st
  by_cases q : 0 < pv_p V h
  · rw [if_pos q, if_pos q]
  · rw [if_neg q, if_neg q]
theorem pv_get {l : List Nat} {k : Nat} (hk : k < l.length) : l[k]? = some (l.getD k 0) := by
  rw [List.getD_eq_getElem?_getD, List.getElem?_eq_getElem hk]; rfl
/-- the place of a house in a row -/
theorem pv_idx_loop {b : Int32 → Option (Int32 ⊕ Int32)} {l : List Nat} {h : Nat} {r : Int32} (hl : l.length ≤ 6)
    (h1 : ∀ (k x : Nat), l[k]? = some x → b (pj k) = some (if x = h then Sum.inr (pj k) else Sum.inl (pj (k + 1 : Nat)))) (h2 : b (pj l.length) = some (Sum.inr r)) :
    zs_loop 5000 b 0 = some (if h ∈ l then pj (l.idxOf h : Nat) else r) := by
  refine pw_forE (l.idxOf h) (fun k => pj k) 5000 (by have := List.idxOf_le_length (a := h) (l := l); omega) ?_ ?_
  · intro k hk
    have hk2 : k < l.length := by have := List.idxOf_le_length (a := h) (l := l); omega
    rw [h1 k l[k] (List.getElem?_eq_getElem hk2), if_neg]
    intro e
    have hn : ¬ ((l[k] == h) = true) := by
      have := List.not_of_lt_findIdx (p := (· == h)) (xs := l) (i := k) hk
      exact Bool.not_eq_true _ |>.symm ▸ this
    exact hn (beq_iff_eq.2 e)
  · by_cases hm : h ∈ l
    · have hk2 := List.idxOf_lt_length_of_mem hm
      rw [h1 _ _ (List.getElem?_eq_getElem hk2), if_pos (List.getElem_idxOf hk2), if_pos hm]
    · rw [if_neg hm, List.idxOf_eq_length hm]
      exact h2
theorem pc_place {T : zt_T} {M : cs_S} {i : Nat} {V : pv_V} {n : Nat} (hV : pc_V M i V) (ho : pv_ok n V) (h : Nat) (hh : h < 6) : gv_placeOf T M i (pj h) = some (if h ∈ pv_r V then pj ((pv_r V).idxOf h : Nat) else pj (-2)) := by
  have hl := pv_len ho
  have hn := ho.1
  have e5 := hV.2.1
  unfold gv_placeOf
  rw [pv_idx_loop (l := pv_r V) (h := h) (r := pj (-2)) (by omega)]
  · simp (disch := omega) only [pj_lit, pj_add, pj_sub, pj_neg, pj_mul, pj_lt, pj_eq, pj_nat, pj_ald, pj_ast, pj_ix, pw_bind, pw_ite, pw_some, pw_none, pw_let, Option.bind_some, Int.toNat_natCast, Sum.elim_inl, Sum.elim_inr, Int.cast_ofNat_Int, Int.reduceLT, Int.reduceLE, Int.reduceEq, Int.reduceAdd, Int.reduceSub, Int.reduceMul, Int.reduceNeg, Int.reduceToNat, Nat.reduceAdd, Nat.reduceSub, Nat.reduceMul, Nat.reduceEqDiff, Nat.reduceLT, reduceIte, reduceCtorEq, true_and, and_true, forall_const, not_true_eq_false, not_false_eq_true, false_implies, implies_true]
  · intro k x hk
    have hk2 : k < (pv_r V).length := (List.getElem?_eq_some_iff.1 hk).1
    have hx := ho.2.2.2.1 x (List.mem_of_getElem? hk)
    have e4 := hV.2.2.1 k x hk
    have hk3 : (k : Int) < ((pv_r V).length : Nat) := by omega
    unfold gv_placeOf_L2
    simp (disch := omega) only [pj_lit, pj_add, pj_sub, pj_neg, pj_mul, pj_lt, pj_eq, pj_nat, pj_ald, pj_ast, pj_ix, pw_bind, pw_ite, pw_some, pw_none, pw_let, Option.bind_some, Int.toNat_natCast, Sum.elim_inl, Sum.elim_inr, Int.cast_ofNat_Int, Int.reduceLT, Int.reduceLE, Int.reduceEq, Int.reduceAdd, Int.reduceSub, Int.reduceMul, Int.reduceNeg, Int.reduceToNat, Nat.reduceAdd, Nat.reduceSub, Nat.reduceMul, Nat.reduceEqDiff, Nat.reduceLT, reduceIte, reduceCtorEq, true_and, and_true, forall_const, not_true_eq_false, not_false_eq_true, false_implies, implies_true, e5, e4, hk3]
    by_cases q : x = h
    · have q' : (x : Int) = h := by omega
      rw [if_pos q, if_pos q']
    · have q' : ¬ (x : Int) = h := by omega
      rw [if_neg q, if_neg q']; rfl
  · unfold gv_placeOf_L2
    simp (disch := omega) only [pj_lit, pj_add, pj_sub, pj_neg, pj_mul, pj_lt, pj_eq, pj_nat, pj_ald, pj_ast, pj_ix, pw_bind, pw_ite, pw_some, pw_none, pw_let, Option.bind_some, Int.toNat_natCast, Sum.elim_inl, Sum.elim_inr, Int.cast_ofNat_Int, Int.reduceLT, Int.reduceLE, Int.reduceEq, Int.reduceAdd, Int.reduceSub, Int.reduceMul, Int.reduceNeg, Int.reduceToNat, Nat.reduceAdd, Nat.reduceSub, Nat.reduceMul, Nat.reduceEqDiff, Nat.reduceLT, reduceIte, reduceCtorEq, true_and, and_true, forall_const, not_true_eq_false, not_false_eq_true, false_implies, implies_true, e5, Int.lt_irrefl]
theorem pc_at {T : zt_T} {M : cs_S} {i : Nat} {V : pv_V} {n : Nat} (hV : pc_V M i V) (ho : pv_ok n V) (h : Nat) (hh : h < 6) : ∃ x, gv_placeOf T M i (pj h) = some x ∧ zs_max 0 x = pj (pv_at V h) := by
  refine ⟨_, pc_place hV ho h hh, ?_⟩
  have b := (ho.2.1 h hh).2.2.2.2.2.2
  have hl := pv_len ho
  have hn := ho.1
  unfold pv_at
  by_cases q : h ∈ pv_r V
  · have hk := List.idxOf_lt_length_of_mem q
    rw [if_pos q, if_pos (b.2 q), pj_0, pj_max _ _ (by omega) (by omega), Int.max_eq_right (by omega)]
  · rw [if_neg q, if_neg (fun z => q (b.1 z))]; decide
theorem pc_str_sA (T : zt_T) (M : cs_S) (i : Nat) (j x a : Int32) : gv_strength T (cs_sA M (10 + i) 11 j x) i a = gv_strength T M i a := by
  unfold gv_strength gv_has
  simp only [pc_sA2, Nat.reduceEqDiff, and_false, if_false]
theorem pc_pl_sA (T : zt_T) (M : cs_S) (i : Nat) (j x a : Int32) : gv_placeOf T (cs_sA M (10 + i) 11 j x) i a = gv_placeOf T M i a := by
  unfold gv_placeOf gv_placeOf_L2
  simp only [pc_sA2, pc_sA1, Nat.reduceEqDiff, and_false, if_false]
theorem pc_of_some {T : zt_T} {k : Nat} {L : zl_L} (h : zt_lw T k = some L) (i : Nat) (M : cs_S) : gl_of T i M k = some (gl_law i M L) := by
  unfold gl_of
  rw [h]
theorem pc_sA2s (M : cs_S) (o k : Nat) (i x : Int32) : (cs_sA M o k i x).2 o k = upd (M.2 o k) i.toNatClampNeg x := if_pos ⟨rfl, rfl⟩
theorem pc_told {T : zt_T} {M : cs_S} {i : Nat} {V : pv_V} (hT : pt_ok T) (hV : pc_V M i V) (ho : pv_ok (zt_n T) V) (hi : i < 45) {k h : Nat} (hk : k < 4) (hh : h < zt_n T) {L : zl_L} (hL : zt_lw T k = some L) (like other : Int32) :
    pw (gv_told T M i (pj k) (pj h) like other) (fun p => p.1 = (gl_go (pv_env T V h like other) L.2 L.1 false).1 ∧ pc_e M p.2) := by
  have hn := hT.1
  have h6 : h < 6 := by omega
  obtain ⟨c0, c1, c2, c3⟩ := hV.1 h h6
  obtain ⟨x, hx, hx2⟩ := pc_at (T := T) hV ho h h6
  have hx2' : zs_max (pj 0) x = pj (pv_at V h) := hx2
  have e5 := hV.2.1
  have e6 := hV.2.2.2.1
  have hst := pc_str hT hV ho h hh
  unfold gv_told
  simp (disch := omega) only [pj_lit, pj_add, pj_sub, pj_neg, pj_mul, pj_lt, pj_eq, pj_nat, pj_ald, pj_ast, pj_ix, pw_bind, pw_ite, pw_some, pw_none, pw_let, Option.bind_some, Int.toNat_natCast, Sum.elim_inl, Sum.elim_inr, Int.cast_ofNat_Int, Int.reduceLT, Int.reduceLE, Int.reduceEq, Int.reduceAdd, Int.reduceSub, Int.reduceMul, Int.reduceNeg, Int.reduceToNat, Nat.reduceAdd, Nat.reduceSub, Nat.reduceMul, Nat.reduceEqDiff, Nat.reduceLT, reduceIte, reduceCtorEq, true_and, and_true, forall_const, not_true_eq_false, not_false_eq_true, false_implies, implies_true, c0, c3, e6, e5, pc_str_sA, pc_pl_sA, pc_sA1, pc_sA2, hst, hx, hx2', pc_of_some hL, Nat.reduceEqDiff, and_false, if_false]
  obtain ⟨ok1, ok2, ok3⟩ := hT.2.2.2.2.2.2 k L hk hL
  refine ⟨?_, ?_⟩
  · show (gl_go _ L.2 L.1 false).1 = _
    refine congrArg Prod.fst (pl_go_congr (w := pv_env T V h like other) ?_ ok3 L.1 false ok2)
    simp (disch := omega) only [pj_lit, pj_add, pj_sub, pj_neg, pj_mul, pj_lt, pj_eq, pj_nat, pj_ald, pj_ast, pj_ix, pw_bind, pw_ite, pw_some, pw_none, pw_let, Option.bind_some, Int.toNat_natCast, Sum.elim_inl, Sum.elim_inr, Int.cast_ofNat_Int, Int.reduceLT, Int.reduceLE, Int.reduceEq, Int.reduceAdd, Int.reduceSub, Int.reduceMul, Int.reduceNeg, Int.reduceToNat, Nat.reduceAdd, Nat.reduceSub, Nat.reduceMul, Nat.reduceEqDiff, Nat.reduceLT, reduceIte, reduceCtorEq, true_and, and_true, forall_const, not_true_eq_false, not_false_eq_true, false_implies, implies_true, pc_sA2s]
    intro j hj
    match j, hj with
    | 0, _ => rfl
    | 1, _ => rfl
    | 2, _ => rfl
    | 3, _ => rfl
    | 4, _ => rfl
    | 5, _ => rfl
    | 6, _ => rfl
    | 7, _ => rfl
    | 8, _ => rfl
  · have key : ∀ (N : cs_S) (b : Bool), pc_e M N → pc_e M (gs_br (cs_sF N (110 + i) 1 0) (110 + i) b) := by
      intro N b hN
      cases b
      · exact pc_e_trans hN (pc_e_F hi _ _)
      · exact pc_e_trans (pc_e_trans hN (pc_e_F hi _ _)) (pc_e_F hi _ _)
    refine key _ _ ?_
    repeat (first | exact pc_e_rfl M | refine pc_e_trans ?_ (pc_e_A hi _ _))
theorem pc_lw_none {T : zt_T} {k : Nat} (h : zt_lw T k = none) (V : pv_V) (x : Nat) (like other : Int32) (hi pl : Int) : pv_lw T V k x like other hi pl = pl := by unfold pv_lw; rw [h]
theorem pc_lw_some {T : zt_T} {k : Nat} {L : zl_L} (h : zt_lw T k = some L) (V : pv_V) (x : Nat) (like other : Int32) (hi pl : Int) : pv_lw T V k x like other hi pl = min hi (gl_go (pv_env T V x like other) L.2 L.1 false).1.toInt := by unfold pv_lw; rw [h]
theorem pj_minI (a : Int) (x : Int32) (ha : -2147483648 ≤ a ∧ a < 2147483648) : zs_min (pj a) x = pj (min a x.toInt) := by
  conv => lhs; rw [← pj_of x]
  exact pj_min _ _ ha (pj_bd x)
theorem pc_grows {T : zt_T} {M : cs_S} {i : Nat} {V : pv_V} (hT : pt_ok T) (hV : pc_V M i V) (ho : pv_ok (zt_n T) V) (hi : i < 45) {h : Nat} (hh : h < zt_n T) :
    pw (gv_grows T M i (pj h)) (fun p => p.1 = pj (pv_grows T V h) ∧ pc_e M p.2) := by
  unfold gv_grows pv_grows
  cases hL : zt_lw T 0 with
  | none =>
    rw [pc_lw_none hL]
    simp (disch := omega) only [pj_lit, pj_add, pj_sub, pj_neg, pj_mul, pj_lt, pj_eq, pj_nat, pj_ald, pj_ast, pj_ix, pw_bind, pw_ite, pw_some, pw_none, pw_let, Option.bind_some, Int.toNat_natCast, Sum.elim_inl, Sum.elim_inr, Int.cast_ofNat_Int, Int.reduceLT, Int.reduceLE, Int.reduceEq, Int.reduceAdd, Int.reduceSub, Int.reduceMul, Int.reduceNeg, Int.reduceToNat, Nat.reduceAdd, Nat.reduceSub, Nat.reduceMul, Nat.reduceEqDiff, Nat.reduceLT, reduceIte, reduceCtorEq, true_and, and_true, forall_const, not_true_eq_false, not_false_eq_true, false_implies, implies_true, hL, Option.isSome_none, Bool.false_eq_true]
    exact pc_e_rfl M
  | some L =>
    rw [pc_lw_some hL]
    simp (disch := omega) only [pj_lit, pj_add, pj_sub, pj_neg, pj_mul, pj_lt, pj_eq, pj_nat, pj_ald, pj_ast, pj_ix, pw_bind, pw_ite, pw_some, pw_none, pw_let, Option.bind_some, Int.toNat_natCast, Sum.elim_inl, Sum.elim_inr, Int.cast_ofNat_Int, Int.reduceLT, Int.reduceLE, Int.reduceEq, Int.reduceAdd, Int.reduceSub, Int.reduceMul, Int.reduceNeg, Int.reduceToNat, Nat.reduceAdd, Nat.reduceSub, Nat.reduceMul, Nat.reduceEqDiff, Nat.reduceLT, reduceIte, reduceCtorEq, true_and, and_true, forall_const, not_true_eq_false, not_false_eq_true, false_implies, implies_true, hL, Option.isSome_some]
    refine pw_mono (pc_told hT hV ho hi (k := 0) (by omega) hh hL 0 0) (fun p hp => ?_)
    rw [hp.1]
    exact ⟨pj_minI _ _ (by omega), hp.2⟩
theorem pc_weak {T : zt_T} {M : cs_S} {i : Nat} {V : pv_V} (hT : pt_ok T) (hV : pc_V M i V) (ho : pv_ok (zt_n T) V) (hi : i < 45) {h : Nat} (hh : h < zt_n T) :
    pw (gv_weakens T M i (pj h)) (fun p => p.1 = pj (pv_weak T V h) ∧ pc_e M p.2) := by
  unfold gv_weakens pv_weak
  cases hL : zt_lw T 1 with
  | none =>
    rw [pc_lw_none hL]
    simp (disch := omega) only [pj_lit, pj_add, pj_sub, pj_neg, pj_mul, pj_lt, pj_eq, pj_nat, pj_ald, pj_ast, pj_ix, pw_bind, pw_ite, pw_some, pw_none, pw_let, Option.bind_some, Int.toNat_natCast, Sum.elim_inl, Sum.elim_inr, Int.cast_ofNat_Int, Int.reduceLT, Int.reduceLE, Int.reduceEq, Int.reduceAdd, Int.reduceSub, Int.reduceMul, Int.reduceNeg, Int.reduceToNat, Nat.reduceAdd, Nat.reduceSub, Nat.reduceMul, Nat.reduceEqDiff, Nat.reduceLT, reduceIte, reduceCtorEq, true_and, and_true, forall_const, not_true_eq_false, not_false_eq_true, false_implies, implies_true, hL, Option.isSome_none, Bool.false_eq_true]
    exact pc_e_rfl M
  | some L =>
    rw [pc_lw_some hL]
    simp (disch := omega) only [pj_lit, pj_add, pj_sub, pj_neg, pj_mul, pj_lt, pj_eq, pj_nat, pj_ald, pj_ast, pj_ix, pw_bind, pw_ite, pw_some, pw_none, pw_let, Option.bind_some, Int.toNat_natCast, Sum.elim_inl, Sum.elim_inr, Int.cast_ofNat_Int, Int.reduceLT, Int.reduceLE, Int.reduceEq, Int.reduceAdd, Int.reduceSub, Int.reduceMul, Int.reduceNeg, Int.reduceToNat, Nat.reduceAdd, Nat.reduceSub, Nat.reduceMul, Nat.reduceEqDiff, Nat.reduceLT, reduceIte, reduceCtorEq, true_and, and_true, forall_const, not_true_eq_false, not_false_eq_true, false_implies, implies_true, hL, Option.isSome_some]
    refine pw_mono (pc_told hT hV ho hi (k := 1) (by omega) hh hL 0 0) (fun p hp => ?_)
    rw [hp.1]
    exact ⟨pj_minI _ _ (by omega), hp.2⟩
theorem pc_costs {T : zt_T} {M : cs_S} {i : Nat} {V : pv_V} (hT : pt_ok T) (hV : pc_V M i V) (ho : pv_ok (zt_n T) V) (hi : i < 45) {h : Nat} (hh : h < zt_n T) :
    pw (gv_costs T M i (pj h)) (fun p => p.1 = pj (pv_costs T V h) ∧ pc_e M p.2) := by
  have hn := hT.1
  have e := (hV.1 h (by omega)).1
  have hb := ho.2.1 h (by omega)
  unfold gv_costs pv_costs
  cases hL : zt_lw T 3 with
  | none =>
    rw [pc_lw_none hL]
    simp (disch := omega) only [pj_lit, pj_add, pj_sub, pj_neg, pj_mul, pj_lt, pj_eq, pj_nat, pj_ald, pj_ast, pj_ix, pw_bind, pw_ite, pw_some, pw_none, pw_let, Option.bind_some, Int.toNat_natCast, Sum.elim_inl, Sum.elim_inr, Int.cast_ofNat_Int, Int.reduceLT, Int.reduceLE, Int.reduceEq, Int.reduceAdd, Int.reduceSub, Int.reduceMul, Int.reduceNeg, Int.reduceToNat, Nat.reduceAdd, Nat.reduceSub, Nat.reduceMul, Nat.reduceEqDiff, Nat.reduceLT, reduceIte, reduceCtorEq, true_and, and_true, forall_const, not_true_eq_false, not_false_eq_true, false_implies, implies_true, hL, Option.isSome_none, Bool.false_eq_true, e]
    rw [pj_min _ _ (by omega) (by omega), Int.min_eq_right (by omega)]
    exact ⟨rfl, pc_e_rfl M⟩
  | some L =>
    rw [pc_lw_some hL]
    simp (disch := omega) only [pj_lit, pj_add, pj_sub, pj_neg, pj_mul, pj_lt, pj_eq, pj_nat, pj_ald, pj_ast, pj_ix, pw_bind, pw_ite, pw_some, pw_none, pw_let, Option.bind_some, Int.toNat_natCast, Sum.elim_inl, Sum.elim_inr, Int.cast_ofNat_Int, Int.reduceLT, Int.reduceLE, Int.reduceEq, Int.reduceAdd, Int.reduceSub, Int.reduceMul, Int.reduceNeg, Int.reduceToNat, Nat.reduceAdd, Nat.reduceSub, Nat.reduceMul, Nat.reduceEqDiff, Nat.reduceLT, reduceIte, reduceCtorEq, true_and, and_true, forall_const, not_true_eq_false, not_false_eq_true, false_implies, implies_true, hL, Option.isSome_some]
    refine pw_mono (pc_told hT hV ho hi (k := 3) (by omega) hh hL 0 0) (fun p hp => ?_)
    rw [hp.1]
    exact ⟨pj_minI _ _ (by omega), hp.2⟩
theorem pc_joins {T : zt_T} {M : cs_S} {i : Nat} {V : pv_V} (hT : pt_ok T) (hV : pc_V M i V) (ho : pv_ok (zt_n T) V) (hi : i < 45) {a b : Nat} (ha : a < zt_n T) (hb : b < zt_n T) (like : Int) :
    pw (gv_joins T M i (pj a) (pj b) (pj like)) (fun p => p.1 = pj (pv_joins T V a b like) ∧ pc_e M p.2) := by
  have hn := hT.1
  have hst := pc_str hT hV ho b hb
  unfold gv_joins pv_joins
  cases hL : zt_lw T 2 with
  | none =>
    rw [pc_lw_none hL]
    simp (disch := omega) only [pj_lit, pj_add, pj_sub, pj_neg, pj_mul, pj_lt, pj_eq, pj_nat, pj_ald, pj_ast, pj_ix, pw_bind, pw_ite, pw_some, pw_none, pw_let, Option.bind_some, Int.toNat_natCast, Sum.elim_inl, Sum.elim_inr, Int.cast_ofNat_Int, Int.reduceLT, Int.reduceLE, Int.reduceEq, Int.reduceAdd, Int.reduceSub, Int.reduceMul, Int.reduceNeg, Int.reduceToNat, Nat.reduceAdd, Nat.reduceSub, Nat.reduceMul, Nat.reduceEqDiff, Nat.reduceLT, reduceIte, reduceCtorEq, true_and, and_true, forall_const, not_true_eq_false, not_false_eq_true, false_implies, implies_true, hL, Option.isSome_none, Bool.false_eq_true]
    exact pc_e_rfl M
  | some L =>
    rw [pc_lw_some hL]
    simp (disch := omega) only [pj_lit, pj_add, pj_sub, pj_neg, pj_mul, pj_lt, pj_eq, pj_nat, pj_ald, pj_ast, pj_ix, pw_bind, pw_ite, pw_some, pw_none, pw_let, Option.bind_some, Int.toNat_natCast, Sum.elim_inl, Sum.elim_inr, Int.cast_ofNat_Int, Int.reduceLT, Int.reduceLE, Int.reduceEq, Int.reduceAdd, Int.reduceSub, Int.reduceMul, Int.reduceNeg, Int.reduceToNat, Nat.reduceAdd, Nat.reduceSub, Nat.reduceMul, Nat.reduceEqDiff, Nat.reduceLT, reduceIte, reduceCtorEq, true_and, and_true, forall_const, not_true_eq_false, not_false_eq_true, false_implies, implies_true, hL, Option.isSome_some, hst]
    refine pw_mono (pc_told hT hV ho hi (k := 2) (by omega) ha hL _ _) (fun p hp => ?_)
    rw [hp.1]
    exact ⟨pj_minI _ _ (by omega), hp.2⟩
theorem pc_long {T : zt_T} {M : cs_S} {i : Nat} {V : pv_V} {n : Nat} (hV : pc_V M i V) (ho : pv_ok n V) (h : Nat) (hh : h < 6) : gv_longOf T M i (pj h) = some (pj (if 0 < pv_p V h then pv_p V h else pv_h V h)) := by
  obtain ⟨c0, c1, c2, c3⟩ := hV.1 h hh
  unfold gv_longOf
  simp (disch := omega) only [pj_lit, pj_add, pj_sub, pj_neg, pj_mul, pj_lt, pj_eq, pj_nat, pj_ald, pj_ast, pj_ix, pw_bind, pw_ite, pw_some, pw_none, pw_let, Option.bind_some, Int.toNat_natCast, Sum.elim_inl, Sum.elim_inr, Int.cast_ofNat_Int, Int.reduceLT, Int.reduceLE, Int.reduceEq, Int.reduceAdd, Int.reduceSub, Int.reduceMul, Int.reduceNeg, Int.reduceToNat, Nat.reduceAdd, Nat.reduceSub, Nat.reduceMul, Nat.reduceEqDiff, Nat.reduceLT, reduceIte, reduceCtorEq, true_and, and_true, forall_const, not_true_eq_false, not_false_eq_true, false_implies, implies_true, pc_has hV ho h hh, c0, c1, decide_eq_true_eq]
  split <;> rfl
/-! the model's village read and asked -/
/-- the text's side s in the model -/
def pm_T (T : zt_T) (s : Nat) (Z : zm_S) : Prop := s < 2 ∧ Z.1 18 = pj s ∧ Z.2.1 22 s = pj (zt_n T) ∧ (∀ h, h < zt_n T → Z.2.1 23 (6 * s + h) = pj (pt_h T h) ∧ Z.2.1 24 (6 * s + h) = pj (pt_s T h)) ∧
  (∀ a b, a < 6 → b < 6 → Z.2.1 26 (36 * s + 6 * a + b) = pj (pt_k T a b)) ∧ Z.2.1 27 s = pj (pt_f T 4) ∧ Z.2.1 28 s = pj (pt_f T 5) ∧ Z.2.1 29 s = pj (pt_f T 6) ∧ Z.2.1 30 s = zt_f T 7 ∧ ∀ k, k < 4 → pl_lw Z s k (zt_lw T k)
theorem pl_lw_e {Z Z' : zm_S} (h : pm_e Z Z') {s k : Nat} {o : Option zl_L} (g : pl_lw Z s k o) : pl_lw Z' s k o := by
  have e1 := h.2.1 31 (by decide) (by decide)
  have e2 := h.2.1 32 (by decide) (by decide)
  cases o with
  | none => show Z'.2.1 31 _ = Z'.2.1 32 _; rw [e1, e2]; exact g
  | some L =>
    obtain ⟨f, g1, g2, g3, g4, g5, g6⟩ := g
    exact ⟨f, g1, (congrFun e1 _).trans g2, (congrFun e2 _).trans g3, fun j q e => pl_br_e h (g4 j q e), pl_el_e h g5, g6⟩
theorem pm_T_e {T : zt_T} {s : Nat} {Z Z' : zm_S} (h : pm_e Z Z') (g : pm_T T s Z) : pm_T T s Z' := by
  obtain ⟨g1, g2, g3, g4, g5, g6, g7, g8, g9, g10⟩ := g
  have e : ∀ k, k ≠ 44 → k ≠ 45 → Z'.2.1 k = Z.2.1 k := h.2.1
  refine ⟨g1, (h.1 18 (by decide)).trans g2, ?_, fun x hx => ?_, fun a b ha hb => ?_, ?_, ?_, ?_, ?_, fun k hk => pl_lw_e h (g10 k hk)⟩
  · rw [e 22 (by decide) (by decide)]; exact g3
  · rw [e 23 (by decide) (by decide), e 24 (by decide) (by decide)]; exact g4 x hx
  · rw [e 26 (by decide) (by decide)]; exact g5 a b ha hb
  · rw [e 27 (by decide) (by decide)]; exact g6
  · rw [e 28 (by decide) (by decide)]; exact g7
  · rw [e 29 (by decide) (by decide)]; exact g8
  · rw [e 30 (by decide) (by decide)]; exact g9
theorem pm_row_e {Z Z' : zm_S} (h : pm_e Z Z') {V : pv_V} (g : pv_row (Z.2.1 48) V) : pv_row (Z'.2.1 48) V := by rw [h.2.1 48 (by decide) (by decide)]; exact g
theorem pm_has {Z : zm_S} {V : pv_V} {n : Nat} (hV : pv_row (Z.2.1 48) V) (ho : pv_ok n V) (h : Nat) (hh : h < 6) : gm_hasPlait Z (pj h) = some (decide (0 < pv_p V h)) := by
  have e := (hV.1 h hh).2.1
  have b := ho.2.1 h hh
  have e6 : (6 : Int) + (h : Int) = ((6 + h : Nat) : Int) := by omega
  unfold gm_hasPlait
  simp (disch := omega) only [pj_lit, pj_add, pj_sub, pj_neg, pj_mul, pj_lt, pj_eq, pj_nat, pj_ald, pj_ast, pj_ix, pw_bind, pw_ite, pw_some, pw_none, pw_let, Option.bind_some, Int.toNat_natCast, Sum.elim_inl, Sum.elim_inr, Int.cast_ofNat_Int, Int.reduceLT, Int.reduceLE, Int.reduceEq, Int.reduceAdd, Int.reduceSub, Int.reduceMul, Int.reduceNeg, Int.reduceToNat, Nat.reduceAdd, Nat.reduceSub, Nat.reduceMul, Nat.reduceEqDiff, Nat.reduceLT, reduceIte, reduceCtorEq, true_and, and_true, forall_const, not_true_eq_false, not_false_eq_true, false_implies, implies_true, e, e6]
  by_cases q : 0 < pv_p V h
  · rw [if_pos q, decide_eq_true q]
  · rw [if_neg q, decide_eq_false q]
theorem pm_first {T : zt_T} {s : Nat} {Z : zm_S} (hT : pm_T T s Z) (hn : zt_n T ≤ 6) {h : Nat} (hh : h < zt_n T) : gm_strongFirst Z (pj h) = some (pj (pt_s T h)) := by
  obtain ⟨g1, g2, g3, g4, g5⟩ := hT
  have e := (g4 h hh).2
  have e6 : (6 : Int) * s + (h : Int) = ((6 * s + h : Nat) : Int) := by omega
  unfold gm_strongFirst
  simp (disch := omega) only [pj_lit, pj_add, pj_sub, pj_neg, pj_mul, pj_lt, pj_eq, pj_nat, pj_ald, pj_ast, pj_ix, pw_bind, pw_ite, pw_some, pw_none, pw_let, Option.bind_some, Int.toNat_natCast, Sum.elim_inl, Sum.elim_inr, Int.cast_ofNat_Int, Int.reduceLT, Int.reduceLE, Int.reduceEq, Int.reduceAdd, Int.reduceSub, Int.reduceMul, Int.reduceNeg, Int.reduceToNat, Nat.reduceAdd, Nat.reduceSub, Nat.reduceMul, Nat.reduceEqDiff, Nat.reduceLT, reduceIte, reduceCtorEq, true_and, and_true, forall_const, not_true_eq_false, not_false_eq_true, false_implies, implies_true, g2, e, e6]
theorem pm_str {T : zt_T} {s : Nat} {Z : zm_S} {V : pv_V} (hT : pm_T T s Z) (hV : pv_row (Z.2.1 48) V) (ho : pv_ok (zt_n T) V) {h : Nat} (hh : h < zt_n T) : gm_strongOf Z (pj h) = some (pj (pv_st T V h)) := by
  have h6 : h < 6 := by have := ho.1; omega
  have e := (hV.1 h h6).2.2.1
  have e6 : (12 : Int) + (h : Int) = ((12 + h : Nat) : Int) := by omega
  unfold gm_strongOf
  simp (disch := omega) only [pj_lit, pj_add, pj_sub, pj_neg, pj_mul, pj_lt, pj_eq, pj_nat, pj_ald, pj_ast, pj_ix, pw_bind, pw_ite, pw_some, pw_none, pw_let, Option.bind_some, Int.toNat_natCast, Sum.elim_inl, Sum.elim_inr, Int.cast_ofNat_Int, Int.reduceLT, Int.reduceLE, Int.reduceEq, Int.reduceAdd, Int.reduceSub, Int.reduceMul, Int.reduceNeg, Int.reduceToNat, Nat.reduceAdd, Nat.reduceSub, Nat.reduceMul, Nat.reduceEqDiff, Nat.reduceLT, reduceIte, reduceCtorEq, true_and, and_true, forall_const, not_true_eq_false, not_false_eq_true, false_implies, implies_true, pm_has hV ho h h6, e, e6, decide_eq_true_eq, pm_first hT ho.1 hh]
  unfold pv_st
  by_cases q : 0 < pv_p V h
  · rw [if_pos q, if_pos q]
  · rw [if_neg q, if_neg q]
theorem pm_place {Z : zm_S} {V : pv_V} {n : Nat} (hV : pv_row (Z.2.1 48) V) (ho : pv_ok n V) (h : Nat) (hh : h < 6) : gm_placeOf Z (pj h) = some (if h ∈ pv_r V then pj ((pv_r V).idxOf h : Nat) else pj (-1)) := by
  have hl := pv_len ho
  have hn := ho.1
  have e5 := hV.2.1
  unfold gm_placeOf
  rw [pv_idx_loop (l := pv_r V) (h := h) (r := pj (-1)) (by omega)]
  · simp (disch := omega) only [pj_lit, pj_add, pj_sub, pj_neg, pj_mul, pj_lt, pj_eq, pj_nat, pj_ald, pj_ast, pj_ix, pw_bind, pw_ite, pw_some, pw_none, pw_let, Option.bind_some, Int.toNat_natCast, Sum.elim_inl, Sum.elim_inr, Int.cast_ofNat_Int, Int.reduceLT, Int.reduceLE, Int.reduceEq, Int.reduceAdd, Int.reduceSub, Int.reduceMul, Int.reduceNeg, Int.reduceToNat, Nat.reduceAdd, Nat.reduceSub, Nat.reduceMul, Nat.reduceEqDiff, Nat.reduceLT, reduceIte, reduceCtorEq, true_and, and_true, forall_const, not_true_eq_false, not_false_eq_true, false_implies, implies_true]
  · intro k x hk
    have hk2 : k < (pv_r V).length := (List.getElem?_eq_some_iff.1 hk).1
    have hx := ho.2.2.2.1 x (List.mem_of_getElem? hk)
    have e4 := hV.2.2.1 k x hk
    have hk3 : (k : Int) < ((pv_r V).length : Nat) := by omega
    have e6 : (25 : Int) + (k : Int) = ((25 + k : Nat) : Int) := by omega
    unfold gm_placeOf_L2
    simp (disch := omega) only [pj_lit, pj_add, pj_sub, pj_neg, pj_mul, pj_lt, pj_eq, pj_nat, pj_ald, pj_ast, pj_ix, pw_bind, pw_ite, pw_some, pw_none, pw_let, Option.bind_some, Int.toNat_natCast, Sum.elim_inl, Sum.elim_inr, Int.cast_ofNat_Int, Int.reduceLT, Int.reduceLE, Int.reduceEq, Int.reduceAdd, Int.reduceSub, Int.reduceMul, Int.reduceNeg, Int.reduceToNat, Nat.reduceAdd, Nat.reduceSub, Nat.reduceMul, Nat.reduceEqDiff, Nat.reduceLT, reduceIte, reduceCtorEq, true_and, and_true, forall_const, not_true_eq_false, not_false_eq_true, false_implies, implies_true, e5, e4, hk3, e6]
    by_cases q : x = h
    · have q' : (x : Int) = h := by omega
      rw [if_pos q, if_pos q']
    · have q' : ¬ (x : Int) = h := by omega
      rw [if_neg q, if_neg q']; rfl
  · unfold gm_placeOf_L2
    simp (disch := omega) only [pj_lit, pj_add, pj_sub, pj_neg, pj_mul, pj_lt, pj_eq, pj_nat, pj_ald, pj_ast, pj_ix, pw_bind, pw_ite, pw_some, pw_none, pw_let, Option.bind_some, Int.toNat_natCast, Sum.elim_inl, Sum.elim_inr, Int.cast_ofNat_Int, Int.reduceLT, Int.reduceLE, Int.reduceEq, Int.reduceAdd, Int.reduceSub, Int.reduceMul, Int.reduceNeg, Int.reduceToNat, Nat.reduceAdd, Nat.reduceSub, Nat.reduceMul, Nat.reduceEqDiff, Nat.reduceLT, reduceIte, reduceCtorEq, true_and, and_true, forall_const, not_true_eq_false, not_false_eq_true, false_implies, implies_true, e5, Int.lt_irrefl]
theorem pm_str_sA (Z : zm_S) (j x a : Int32) : gm_strongOf (zm_sA Z 44 j x) a = gm_strongOf Z a := by
  unfold gm_strongOf gm_hasPlait gm_strongFirst
  simp only [pm_sA, pm_sA1, Nat.reduceEqDiff, if_false]
theorem pm_has_sA (Z : zm_S) (j x a : Int32) : gm_hasPlait (zm_sA Z 44 j x) a = gm_hasPlait Z a := by
  unfold gm_hasPlait
  simp only [pm_sA, pm_sA1, Nat.reduceEqDiff, if_false]
theorem pm_pl_sA (Z : zm_S) (j x a : Int32) : gm_placeOf (zm_sA Z 44 j x) a = gm_placeOf Z a := by
  unfold gm_placeOf gm_placeOf_L2
  simp only [pm_sA, pm_sA1, Nat.reduceEqDiff, if_false]
theorem pm_sAs (Z : zm_S) (k : Nat) (i x : Int32) : (zm_sA Z k i x).2.1 k = upd (Z.2.1 k) i.toNatClampNeg x := if_pos rfl
/-- the variables behind a look at a house -/
theorem pm_views {T : zt_T} {s : Nat} {Z : zm_S} {V : pv_V} (hT : pm_T T s Z) (hV : pv_row (Z.2.1 48) V) (ho : pv_ok (zt_n T) V) {h : Nat} (hh : h < zt_n T) :
    ∃ Z', gm_views Z (pj h) = some Z' ∧ pm_e Z Z' ∧ ∀ j, j < 9 → Z'.2.1 44 j = pv_env T V h 0 0 j := by
  have h6 : h < 6 := by have := ho.1; omega
  obtain ⟨c0, c1, c2, c3⟩ := hV.1 h h6
  have e24 := hV.2.1
  have e31 := hV.2.2.2.1
  have e18 : (18 : Int) + (h : Int) = ((18 + h : Nat) : Int) := by omega
  have hat : (if (decide (0 < pv_p V h)) = true then (gm_placeOf Z (pj h)).bind fun x17 => some x17 else some (pj 0)) = some (pj (pv_at V h)) := by
    rw [pm_place hV ho h h6]
    unfold pv_at
    have b := (ho.2.1 h h6).2.2.2.2.2.2
    by_cases q : h ∈ pv_r V
    · rw [if_pos q, if_pos (b.2 q), if_pos (decide_eq_true (b.2 q))]; rfl
    · rw [if_neg (fun z => q (b.1 (of_decide_eq_true z))), if_neg (fun z => q (b.1 z))]
  unfold gm_views
  simp (disch := omega) only [pj_lit, pj_add, pj_sub, pj_neg, pj_mul, pj_lt, pj_eq, pj_nat, pj_ald, pj_ast, pj_ix, pw_bind, pw_ite, pw_some, pw_none, pw_let, Option.bind_some, Int.toNat_natCast, Sum.elim_inl, Sum.elim_inr, Int.cast_ofNat_Int, Int.reduceLT, Int.reduceLE, Int.reduceEq, Int.reduceAdd, Int.reduceSub, Int.reduceMul, Int.reduceNeg, Int.reduceToNat, Nat.reduceAdd, Nat.reduceSub, Nat.reduceMul, Nat.reduceEqDiff, Nat.reduceLT, reduceIte, reduceCtorEq, true_and, and_true, forall_const, not_true_eq_false, not_false_eq_true, false_implies, implies_true, c0, c3, e24, e31, e18, pm_str_sA, pm_has_sA, pm_pl_sA, pm_sA1, pm_sA, pm_str hT hV ho hh, pm_has hV ho h h6, hat, Nat.reduceEqDiff, if_false]
  refine ⟨_, rfl, ?_, ?_⟩
  · repeat (first | exact pm_e_rfl Z | refine pm_e_trans ?_ (pm_e_A _ _ (Or.inl rfl)))
  · simp (disch := omega) only [pj_lit, pj_add, pj_sub, pj_neg, pj_mul, pj_lt, pj_eq, pj_nat, pj_ald, pj_ast, pj_ix, pw_bind, pw_ite, pw_some, pw_none, pw_let, Option.bind_some, Int.toNat_natCast, Sum.elim_inl, Sum.elim_inr, Int.cast_ofNat_Int, Int.reduceLT, Int.reduceLE, Int.reduceEq, Int.reduceAdd, Int.reduceSub, Int.reduceMul, Int.reduceNeg, Int.reduceToNat, Nat.reduceAdd, Nat.reduceSub, Nat.reduceMul, Nat.reduceEqDiff, Nat.reduceLT, reduceIte, reduceCtorEq, true_and, and_true, forall_const, not_true_eq_false, not_false_eq_true, false_implies, implies_true, pm_sAs]
    intro j hj
    match j, hj with
    | 0, _ => rfl
    | 1, _ => rfl
    | 2, _ => rfl
    | 3, _ => rfl
    | 4, _ => rfl
    | 5, _ => rfl
    | 6, _ => rfl
    | 7, _ => rfl
    | 8, _ => rfl
theorem pm_within {x G : Int32} {hi : Int} (h0 : 0 ≤ hi) (h1 : hi < 2147483648) (h : zs_max 0 x = G) : gm_within x (pj 0) (pj hi) = some (pj (min hi G.toInt)) := by
  subst h
  rw [← pj_of x, pj_0]
  generalize hz : x.toInt = z
  have hb := pj_bd x
  rw [hz] at hb
  rw [pj_max _ _ (by omega) hb, pj_toInt (by omega)]
  unfold gm_within
  simp (disch := omega) only [pj_lit, pj_add, pj_sub, pj_neg, pj_mul, pj_lt, pj_eq, pj_nat, pj_ald, pj_ast, pj_ix, pw_bind, pw_ite, pw_some, pw_none, pw_let, Option.bind_some, Int.toNat_natCast, Sum.elim_inl, Sum.elim_inr, Int.cast_ofNat_Int, Int.reduceLT, Int.reduceLE, Int.reduceEq, Int.reduceAdd, Int.reduceSub, Int.reduceMul, Int.reduceNeg, Int.reduceToNat, Nat.reduceAdd, Nat.reduceSub, Nat.reduceMul, Nat.reduceEqDiff, Nat.reduceLT, reduceIte, reduceCtorEq, true_and, and_true, forall_const, not_true_eq_false, not_false_eq_true, false_implies, implies_true]
  by_cases q : z < 0
  · rw [if_pos q]; congr 2; omega
  · rw [if_neg q]
    by_cases q2 : hi < z
    · rw [if_pos q2]; congr 2; omega
    · rw [if_neg q2]; congr 2; omega
theorem pm_withinI {z lo hi : Int} (hb : -2147483648 ≤ z ∧ z < 2147483648) (h0 : -2147483648 ≤ lo ∧ lo < 2147483648) (h1 : -2147483648 ≤ hi ∧ hi < 2147483648) (hlo : lo ≤ hi) : gm_within (pj z) (pj lo) (pj hi) = some (pj (max lo (min hi z))) := by
  unfold gm_within
  simp (disch := omega) only [pj_lit, pj_add, pj_sub, pj_neg, pj_mul, pj_lt, pj_eq, pj_nat, pj_ald, pj_ast, pj_ix, pw_bind, pw_ite, pw_some, pw_none, pw_let, Option.bind_some, Int.toNat_natCast, Sum.elim_inl, Sum.elim_inr, Int.cast_ofNat_Int, Int.reduceLT, Int.reduceLE, Int.reduceEq, Int.reduceAdd, Int.reduceSub, Int.reduceMul, Int.reduceNeg, Int.reduceToNat, Nat.reduceAdd, Nat.reduceSub, Nat.reduceMul, Nat.reduceEqDiff, Nat.reduceLT, reduceIte, reduceCtorEq, true_and, and_true, forall_const, not_true_eq_false, not_false_eq_true, false_implies, implies_true]
  by_cases q : z < lo
  · rw [if_pos q]; congr 2; omega
  · rw [if_neg q]
    by_cases q2 : hi < z
    · rw [if_pos q2]; congr 2; omega
    · rw [if_neg q2]; congr 2; omega
/-- a law asked, the variables being as of a house -/
theorem pm_tells {T : zt_T} {s : Nat} {Z : zm_S} {V : pv_V} (hT : pm_T T s Z) {k h : Nat} (hk : k < 4) {like other : Int32} (he : ∀ j, j < 9 → Z.2.1 44 j = pv_env T V h like other j) {pl hi : Int} (h0 : 0 ≤ pl) (h1 : pl ≤ hi) (h2 : hi < 2147483648) :
    pw ((gm_lawTells Z (pj k) (pj pl)).bind fun p2 => (gm_within p2.1 (pj 0) (pj hi)).bind fun x3 => some (x3, p2.2)) (fun p => p.1 = pj (pv_lw T V k h like other hi pl) ∧ pm_e Z p.2) := by
  obtain ⟨g1, g2, g3, g4, g5, g6, g7, g8, g9, g10⟩ := hT
  cases hL : zt_lw T k with
  | none =>
    have hl := g10 k hk
    rw [hL] at hl
    rw [pc_lw_none hL]
    have hl' : Z.2.1 31 (4 * s + k) = Z.2.1 32 (4 * s + k) := hl
    have e4 : (4 : Int) * s + (k : Int) = ((4 * s + k : Nat) : Int) := by omega
    unfold gm_lawTells
    simp (disch := omega) only [pj_lit, pj_add, pj_sub, pj_neg, pj_mul, pj_lt, pj_eq, pj_nat, pj_ald, pj_ast, pj_ix, pw_bind, pw_ite, pw_some, pw_none, pw_let, Option.bind_some, Int.toNat_natCast, Sum.elim_inl, Sum.elim_inr, Int.cast_ofNat_Int, Int.reduceLT, Int.reduceLE, Int.reduceEq, Int.reduceAdd, Int.reduceSub, Int.reduceMul, Int.reduceNeg, Int.reduceToNat, Nat.reduceAdd, Nat.reduceSub, Nat.reduceMul, Nat.reduceEqDiff, Nat.reduceLT, reduceIte, reduceCtorEq, true_and, and_true, forall_const, not_true_eq_false, not_false_eq_true, false_implies, implies_true, g2, e4, hl', if_true, pm_withinI]
    exact ⟨by congr 1; omega, pm_e_rfl Z⟩
  | some L =>
    have hl := g10 k hk
    rw [hL] at hl
    rw [pc_lw_some hL]
    refine pw_seq (pl_tells g2 g1 hk hl (pj pl)) (fun p hp => ?_)
    obtain ⟨f, _, _, _, _, _, ok1, ok2, ok3⟩ := hl
    rw [pm_within (by omega) h2 hp.2]
    simp (disch := omega) only [pj_lit, pj_add, pj_sub, pj_neg, pj_mul, pj_lt, pj_eq, pj_nat, pj_ald, pj_ast, pj_ix, pw_bind, pw_ite, pw_some, pw_none, pw_let, Option.bind_some, Int.toNat_natCast, Sum.elim_inl, Sum.elim_inr, Int.cast_ofNat_Int, Int.reduceLT, Int.reduceLE, Int.reduceEq, Int.reduceAdd, Int.reduceSub, Int.reduceMul, Int.reduceNeg, Int.reduceToNat, Nat.reduceAdd, Nat.reduceSub, Nat.reduceMul, Nat.reduceEqDiff, Nat.reduceLT, reduceIte, reduceCtorEq, true_and, and_true, forall_const, not_true_eq_false, not_false_eq_true, false_implies, implies_true]
    rw [pl_go_congr he ok3 L.1 false ok2]
    exact ⟨rfl, hp.1⟩
theorem pm_grows {T : zt_T} {s : Nat} {Z : zm_S} {V : pv_V} (hT : pm_T T s Z) (hV : pv_row (Z.2.1 48) V) (ho : pv_ok (zt_n T) V) {h : Nat} (hh : h < zt_n T) :
    pw (gm_growsOf Z (pj h)) (fun p => p.1 = pj (pv_grows T V h) ∧ pm_e Z p.2) := by
  obtain ⟨Z1, e1, e2, e3⟩ := pm_views hT hV ho hh
  unfold gm_growsOf
  rw [e1]
  exact pw_mono (pm_tells (k := 0) (pl := 1) (hi := 99) (pm_T_e e2 hT) (by omega) e3 (by omega) (by omega) (by omega)) (fun p hp => ⟨hp.1, pm_e_trans e2 hp.2⟩)
theorem pm_weak {T : zt_T} {s : Nat} {Z : zm_S} {V : pv_V} (hT : pm_T T s Z) (hV : pv_row (Z.2.1 48) V) (ho : pv_ok (zt_n T) V) {h : Nat} (hh : h < zt_n T) :
    pw (gm_weakensOf Z (pj h)) (fun p => p.1 = pj (pv_weak T V h) ∧ pm_e Z p.2) := by
  obtain ⟨Z1, e1, e2, e3⟩ := pm_views hT hV ho hh
  unfold gm_weakensOf
  rw [e1]
  exact pw_mono (pm_tells (k := 1) (pl := 1) (hi := 99) (pm_T_e e2 hT) (by omega) e3 (by omega) (by omega) (by omega)) (fun p hp => ⟨hp.1, pm_e_trans e2 hp.2⟩)
theorem pm_costs {T : zt_T} {s : Nat} {Z : zm_S} {V : pv_V} (hT : pm_T T s Z) (hV : pv_row (Z.2.1 48) V) (ho : pv_ok (zt_n T) V) {h : Nat} (hh : h < zt_n T) :
    pw (gm_costsOf Z (pj h)) (fun p => p.1 = pj (pv_costs T V h) ∧ pm_e Z p.2) := by
  obtain ⟨Z1, e1, e2, e3⟩ := pm_views hT hV ho hh
  have hb := ho.2.1 h (by have := ho.1; omega)
  have e30 : Z1.2.1 44 0 = pj (pv_h V h) := e3 0 (by omega)
  unfold gm_costsOf
  rw [e1]
  have x0 : zs_ald 9 (Z1.2.1 44) 0 = some (pj (pv_h V h)) := by rw [pj_0]; simp (disch := omega) only [pj_lit, pj_add, pj_sub, pj_neg, pj_mul, pj_lt, pj_eq, pj_nat, pj_ald, pj_ast, pj_ix, pw_bind, pw_ite, pw_some, pw_none, pw_let, Option.bind_some, Int.toNat_natCast, Sum.elim_inl, Sum.elim_inr, Int.cast_ofNat_Int, Int.reduceLT, Int.reduceLE, Int.reduceEq, Int.reduceAdd, Int.reduceSub, Int.reduceMul, Int.reduceNeg, Int.reduceToNat, Nat.reduceAdd, Nat.reduceSub, Nat.reduceMul, Nat.reduceEqDiff, Nat.reduceLT, reduceIte, reduceCtorEq, true_and, and_true, forall_const, not_true_eq_false, not_false_eq_true, false_implies, implies_true, e30]
  rw [Option.bind_some, x0, Option.bind_some]
  exact pw_mono (pm_tells (k := 3) (pl := pv_h V h) (hi := 99) (pm_T_e e2 hT) (by omega) e3 (by omega) (by omega) (by omega)) (fun p hp => ⟨hp.1, pm_e_trans e2 hp.2⟩)
theorem pm_joinsBy {T : zt_T} {s : Nat} {Z : zm_S} {V : pv_V} (hT : pm_T T s Z) (hV : pv_row (Z.2.1 48) V) (ho : pv_ok (zt_n T) V) {a b : Nat} (ha : a < zt_n T) (hb : b < zt_n T) {like : Int} (hl : 0 ≤ like ∧ like ≤ 9) :
    pw (gm_joinsBy Z (pj a) (pj b) (pj like)) (fun p => p.1 = pj (pv_joins T V a b like) ∧ pm_e Z p.2) := by
  obtain ⟨Z1, e1, e2, e3⟩ := pm_views hT hV ho ha
  have hst := pm_str (pm_T_e e2 hT) (pm_row_e e2 hV) ho hb
  unfold gm_joinsBy
  rw [e1]
  simp (disch := omega) only [pj_lit, pj_add, pj_sub, pj_neg, pj_mul, pj_lt, pj_eq, pj_nat, pj_ald, pj_ast, pj_ix, pw_bind, pw_ite, pw_some, pw_none, pw_let, Option.bind_some, Int.toNat_natCast, Sum.elim_inl, Sum.elim_inr, Int.cast_ofNat_Int, Int.reduceLT, Int.reduceLE, Int.reduceEq, Int.reduceAdd, Int.reduceSub, Int.reduceMul, Int.reduceNeg, Int.reduceToNat, Nat.reduceAdd, Nat.reduceSub, Nat.reduceMul, Nat.reduceEqDiff, Nat.reduceLT, reduceIte, reduceCtorEq, true_and, and_true, forall_const, not_true_eq_false, not_false_eq_true, false_implies, implies_true, pm_str_sA, hst]
  have hZ : pm_e Z1 (zm_sA (zm_sA Z1 44 (pj 2) (pj like)) 44 (pj 8) (pj (pv_st T V b))) := pm_e_trans (pm_e_A _ _ (Or.inl rfl)) (pm_e_A _ _ (Or.inl rfl))
  have := pm_tells (k := 2) (h := a) (V := V) (like := pj like) (other := pj (pv_st T V b)) (pl := 10 * like) (hi := 999) (pm_T_e (pm_e_trans e2 hZ) hT) (by omega) ?_ (by omega) (by omega) (by omega)
  · simp only [pw_bind, pw_some] at this
    exact pw_mono this (fun p hp => pw_mono hp (fun x hx => ⟨hx.1, pm_e_trans (pm_e_trans e2 hZ) hx.2⟩))
  · simp (disch := omega) only [pj_lit, pj_add, pj_sub, pj_neg, pj_mul, pj_lt, pj_eq, pj_nat, pj_ald, pj_ast, pj_ix, pw_bind, pw_ite, pw_some, pw_none, pw_let, Option.bind_some, Int.toNat_natCast, Sum.elim_inl, Sum.elim_inr, Int.cast_ofNat_Int, Int.reduceLT, Int.reduceLE, Int.reduceEq, Int.reduceAdd, Int.reduceSub, Int.reduceMul, Int.reduceNeg, Int.reduceToNat, Nat.reduceAdd, Nat.reduceSub, Nat.reduceMul, Nat.reduceEqDiff, Nat.reduceLT, reduceIte, reduceCtorEq, true_and, and_true, forall_const, not_true_eq_false, not_false_eq_true, false_implies, implies_true, pm_sAs]
    intro j hj
    match j, hj with
    | 0, _ => exact e3 0 (by omega)
    | 1, _ => exact e3 1 (by omega)
    | 2, _ => rfl
    | 3, _ => exact e3 3 (by omega)
    | 4, _ => exact e3 4 (by omega)
    | 5, _ => exact e3 5 (by omega)
    | 6, _ => exact e3 6 (by omega)
    | 7, _ => exact e3 7 (by omega)
    | 8, _ => rfl
theorem pm_joins {T : zt_T} {s : Nat} {Z : zm_S} {V : pv_V} (ht : pt_ok T) (hT : pm_T T s Z) (hV : pv_row (Z.2.1 48) V) (ho : pv_ok (zt_n T) V) {a b : Nat} (ha : a < zt_n T) (hb : b < zt_n T) :
    pw (gm_joinsOf Z (pj a) (pj b)) (fun p => p.1 = pj (pv_joins T V a b (pt_k T a b)) ∧ pm_e Z p.2) := by
  have hn := ho.1
  have e26 := hT.2.2.2.2.1 a b (by omega) (by omega)
  have hk := ht.2.2.1 a b (by omega) (by omega)
  have hs := hT.1
  have e6 : (36 : Int) * s + 6 * a + b = ((36 * s + 6 * a + b : Nat) : Int) := by omega
  unfold gm_joinsOf gm_likeOf
  simp (disch := omega) only [pj_lit, pj_add, pj_sub, pj_neg, pj_mul, pj_lt, pj_eq, pj_nat, pj_ald, pj_ast, pj_ix, pw_bind, pw_ite, pw_some, pw_none, pw_let, Option.bind_some, Int.toNat_natCast, Sum.elim_inl, Sum.elim_inr, Int.cast_ofNat_Int, Int.reduceLT, Int.reduceLE, Int.reduceEq, Int.reduceAdd, Int.reduceSub, Int.reduceMul, Int.reduceNeg, Int.reduceToNat, Nat.reduceAdd, Nat.reduceSub, Nat.reduceMul, Nat.reduceEqDiff, Nat.reduceLT, reduceIte, reduceCtorEq, true_and, and_true, forall_const, not_true_eq_false, not_false_eq_true, false_implies, implies_true, hT.2.1, e6, e26]
  exact pm_joinsBy hT hV ho ha hb hk
/-! sums along the rope -/
def pv_below (V : pv_V) (k : Nat) : Int := (((pv_r V).drop (k + 1)).map (pv_p V)).sum
def pv_long (V : pv_V) : Int := ((pv_r V).map (pv_p V)).sum
theorem pv_sum_bd {f : Nat → Int} {c : Int} : ∀ (l : List Nat), (∀ x ∈ l, 0 ≤ f x ∧ f x ≤ c) → 0 ≤ (l.map f).sum ∧ (l.map f).sum ≤ c * l.length
  | [], _ => by simp
  | x :: l, h => by
    have h1 := h x List.mem_cons_self
    have h2 := pv_sum_bd l (fun y hy => h y (List.mem_cons_of_mem _ hy))
    rw [List.map_cons, List.sum_cons, List.length_cons]
    have : c * ((l.length + 1 : Nat) : Int) = c * l.length + c := by rw [Int.natCast_add, Int.mul_add]; simp
    omega
theorem pv_sum_perm {f : Nat → Int} {l m : List Nat} (h : l.Perm m) : (l.map f).sum = (m.map f).sum := by
  induction h with
  | nil => rfl
  | cons x _ ih => rw [List.map_cons, List.map_cons, List.sum_cons, List.sum_cons, ih]
  | swap x y l => simp only [List.map_cons, List.sum_cons]; omega
  | trans _ _ h1 h2 => exact h1.trans h2
theorem pv_sum_sup {f : Nat → Int} : ∀ (n : Nat) (l : List Nat), l.Nodup → (∀ h ∈ l, h < n) → (∀ h, h < n → h ∉ l → f h = 0) → (l.map f).sum = ((List.range n).map f).sum
  | 0, l, _, h, _ => by
    cases l with
    | nil => rfl
    | cons a r => exact absurd (h a List.mem_cons_self) (Nat.not_lt_zero a)
  | n + 1, l, hn, h, hz => by
    rw [List.range_succ, List.map_append, List.sum_append]
    have hlt : ∀ x ∈ l.erase n, x < n := fun x hx => by
      have h2 := h x (List.mem_of_mem_erase hx)
      have h3 : x ≠ n := fun e => by subst e; exact (hn.not_mem_erase) hx
      omega
    have h1 := pv_sum_sup (f := f) n (l.erase n) (hn.erase n) hlt (fun x hx hm => hz x (by omega) (fun hm2 => hm ((List.mem_erase_of_ne (by omega)).2 hm2)))
    rw [← h1]
    by_cases hm : n ∈ l
    · rw [pv_sum_perm (f := f) (List.perm_cons_erase hm), List.map_cons, List.sum_cons]
      simp only [List.map_cons, List.map_nil, List.sum_cons, List.sum_nil]
      omega
    · rw [List.erase_of_not_mem hm]
      simp [hz n (by omega) hm]
theorem pv_sum_loop {b : Int32 × Int32 → Option ((Int32 × Int32) ⊕ Int32)} {l : List Nat} {f : Nat → Int} (hl : l.length ≤ 6) (a : Nat) (ha : a ≤ l.length)
    (h1 : ∀ (acc : Int) (k x : Nat), l[k]? = some x → b (pj acc, pj k) = some (Sum.inl (pj (acc + f x), pj (k + 1 : Nat)))) (h2 : ∀ acc : Int, b (pj acc, pj l.length) = some (Sum.inr (pj acc))) :
    zs_loop 5000 b (pj 0, pj a) = some (pj ((l.drop a).map f).sum) := by
  have := pw_forE (b := b) (r := pj ((l.drop a).map f).sum) (l.length - a) (fun j => (pj (((l.drop a).take j).map f).sum, pj (a + j : Nat))) 5000 (by omega) ?_ ?_
  · exact this
  · intro k hk
    have hk2 : a + k < l.length := by omega
    rw [h1 _ (a + k) l[a + k] (List.getElem?_eq_getElem hk2), List.take_add_one]
    have e : (l.drop a)[k]? = some l[a + k] := by rw [List.getElem?_drop, List.getElem?_eq_getElem hk2]
    rw [e, List.map_append, List.sum_append]
    show some (Sum.inl (pj (_ + f l[a + k]), _)) = some (Sum.inl (pj (_ + (List.map f [l[a + k]]).sum), _))
    have e1 : (List.map f [l[a + k]]).sum = f l[a + k] := by simp
    rw [e1]; rfl
  · have e : a + (l.length - a) = l.length := by omega
    have e2 : (l.drop a).take (l.length - a) = l.drop a := List.take_of_length_le (by rw [List.length_drop]; omega)
    show b (pj (((l.drop a).take (l.length - a)).map f).sum, pj (a + (l.length - a) : Nat)) = _
    rw [e, e2]
    exact h2 _
theorem pc_rope {T : zt_T} {M : cs_S} {i : Nat} {V : pv_V} {n : Nat} (hV : pc_V M i V) (ho : pv_ok n V) : gv_ropeLong T M i = some (pj (pv_long V)) := by
  have hl := pv_len ho
  have hn := ho.1
  have e5 := hV.2.1
  unfold gv_ropeLong
  have := pv_sum_loop (b := gv_ropeLong_L4 M i) (l := pv_r V) (f := pv_p V) (by omega) 0 (by omega) ?_ ?_
  · have e0 : pj ((0 : Nat) : Int) = pj 0 := rfl
    rw [e0] at this
    rw [pj_0, this]; rfl
  · intro acc k x hk
    have hk2 : k < (pv_r V).length := (List.getElem?_eq_some_iff.1 hk).1
    have hx := ho.2.2.2.1 x (List.mem_of_getElem? hk)
    have e4 := hV.2.2.1 k x hk
    have e1 := (hV.1 x (by omega)).2.1
    have hk3 : (k : Int) < ((pv_r V).length : Nat) := by omega
    unfold gv_ropeLong_L4
    simp (disch := omega) only [pj_lit, pj_add, pj_sub, pj_neg, pj_mul, pj_lt, pj_eq, pj_nat, pj_ald, pj_ast, pj_ix, pw_bind, pw_ite, pw_some, pw_none, pw_let, Option.bind_some, Int.toNat_natCast, Sum.elim_inl, Sum.elim_inr, Int.cast_ofNat_Int, Int.reduceLT, Int.reduceLE, Int.reduceEq, Int.reduceAdd, Int.reduceSub, Int.reduceMul, Int.reduceNeg, Int.reduceToNat, Nat.reduceAdd, Nat.reduceSub, Nat.reduceMul, Nat.reduceEqDiff, Nat.reduceLT, reduceIte, reduceCtorEq, true_and, and_true, forall_const, not_true_eq_false, not_false_eq_true, false_implies, implies_true, e5, e4, e1, hk3]
    rfl
  · intro acc
    unfold gv_ropeLong_L4
    simp (disch := omega) only [pj_lit, pj_add, pj_sub, pj_neg, pj_mul, pj_lt, pj_eq, pj_nat, pj_ald, pj_ast, pj_ix, pw_bind, pw_ite, pw_some, pw_none, pw_let, Option.bind_some, Int.toNat_natCast, Sum.elim_inl, Sum.elim_inr, Int.cast_ofNat_Int, Int.reduceLT, Int.reduceLE, Int.reduceEq, Int.reduceAdd, Int.reduceSub, Int.reduceMul, Int.reduceNeg, Int.reduceToNat, Nat.reduceAdd, Nat.reduceSub, Nat.reduceMul, Nat.reduceEqDiff, Nat.reduceLT, reduceIte, reduceCtorEq, true_and, and_true, forall_const, not_true_eq_false, not_false_eq_true, false_implies, implies_true, e5, Int.lt_irrefl]
theorem pc_below {T : zt_T} {M : cs_S} {i : Nat} {V : pv_V} {n : Nat} (hV : pc_V M i V) (ho : pv_ok n V) {k : Nat} (hk : k < (pv_r V).length) : gv_below T M i (pj k) = some (pj (pv_below V k)) := by
  have hl := pv_len ho
  have hn := ho.1
  have e5 := hV.2.1
  unfold gv_below
  have := pv_sum_loop (b := gv_below_L6 M i) (l := pv_r V) (f := pv_p V) (by omega) (k + 1) (by omega) ?_ ?_
  · have e : pj (k : Int) + 1 = pj ((k + 1 : Nat) : Int) := by simp (disch := omega) only [pj_lit, pj_add, pj_sub, pj_neg, pj_mul, pj_lt, pj_eq, pj_nat, pj_ald, pj_ast, pj_ix, pw_bind, pw_ite, pw_some, pw_none, pw_let, Option.bind_some, Int.toNat_natCast, Sum.elim_inl, Sum.elim_inr, Int.cast_ofNat_Int, Int.reduceLT, Int.reduceLE, Int.reduceEq, Int.reduceAdd, Int.reduceSub, Int.reduceMul, Int.reduceNeg, Int.reduceToNat, Nat.reduceAdd, Nat.reduceSub, Nat.reduceMul, Nat.reduceEqDiff, Nat.reduceLT, reduceIte, reduceCtorEq, true_and, and_true, forall_const, not_true_eq_false, not_false_eq_true, false_implies, implies_true]; rfl
    rw [e, Option.bind_some, pj_0, this]; rfl
  · intro acc k x hk
    have hk2 : k < (pv_r V).length := (List.getElem?_eq_some_iff.1 hk).1
    have hx := ho.2.2.2.1 x (List.mem_of_getElem? hk)
    have e4 := hV.2.2.1 k x hk
    have e1 := (hV.1 x (by omega)).2.1
    have hk3 : (k : Int) < ((pv_r V).length : Nat) := by omega
    unfold gv_below_L6
    simp (disch := omega) only [pj_lit, pj_add, pj_sub, pj_neg, pj_mul, pj_lt, pj_eq, pj_nat, pj_ald, pj_ast, pj_ix, pw_bind, pw_ite, pw_some, pw_none, pw_let, Option.bind_some, Int.toNat_natCast, Sum.elim_inl, Sum.elim_inr, Int.cast_ofNat_Int, Int.reduceLT, Int.reduceLE, Int.reduceEq, Int.reduceAdd, Int.reduceSub, Int.reduceMul, Int.reduceNeg, Int.reduceToNat, Nat.reduceAdd, Nat.reduceSub, Nat.reduceMul, Nat.reduceEqDiff, Nat.reduceLT, reduceIte, reduceCtorEq, true_and, and_true, forall_const, not_true_eq_false, not_false_eq_true, false_implies, implies_true, e5, e4, e1, hk3]
    rfl
  · intro acc
    unfold gv_below_L6
    simp (disch := omega) only [pj_lit, pj_add, pj_sub, pj_neg, pj_mul, pj_lt, pj_eq, pj_nat, pj_ald, pj_ast, pj_ix, pw_bind, pw_ite, pw_some, pw_none, pw_let, Option.bind_some, Int.toNat_natCast, Sum.elim_inl, Sum.elim_inr, Int.cast_ofNat_Int, Int.reduceLT, Int.reduceLE, Int.reduceEq, Int.reduceAdd, Int.reduceSub, Int.reduceMul, Int.reduceNeg, Int.reduceToNat, Nat.reduceAdd, Nat.reduceSub, Nat.reduceMul, Nat.reduceEqDiff, Nat.reduceLT, reduceIte, reduceCtorEq, true_and, and_true, forall_const, not_true_eq_false, not_false_eq_true, false_implies, implies_true, e5, Int.lt_irrefl]
theorem pm_below {Z : zm_S} {V : pv_V} {n : Nat} (hV : pv_row (Z.2.1 48) V) (ho : pv_ok n V) {k : Nat} (hk : k < (pv_r V).length) : gm_belowOf Z (pj k) = some (pj (pv_below V k)) := by
  have hl := pv_len ho
  have hn := ho.1
  have e5 := hV.2.1
  unfold gm_belowOf
  have := pv_sum_loop (b := gm_belowOf_L6 Z) (l := pv_r V) (f := pv_p V) (by omega) (k + 1) (by omega) ?_ ?_
  · have e : pj (k : Int) + 1 = pj ((k + 1 : Nat) : Int) := by simp (disch := omega) only [pj_lit, pj_add, pj_sub, pj_neg, pj_mul, pj_lt, pj_eq, pj_nat, pj_ald, pj_ast, pj_ix, pw_bind, pw_ite, pw_some, pw_none, pw_let, Option.bind_some, Int.toNat_natCast, Sum.elim_inl, Sum.elim_inr, Int.cast_ofNat_Int, Int.reduceLT, Int.reduceLE, Int.reduceEq, Int.reduceAdd, Int.reduceSub, Int.reduceMul, Int.reduceNeg, Int.reduceToNat, Nat.reduceAdd, Nat.reduceSub, Nat.reduceMul, Nat.reduceEqDiff, Nat.reduceLT, reduceIte, reduceCtorEq, true_and, and_true, forall_const, not_true_eq_false, not_false_eq_true, false_implies, implies_true]; rfl
    rw [e, Option.bind_some, pj_0, this]; rfl
  · intro acc k x hk
    have hk2 : k < (pv_r V).length := (List.getElem?_eq_some_iff.1 hk).1
    have hx := ho.2.2.2.1 x (List.mem_of_getElem? hk)
    have e4 := hV.2.2.1 k x hk
    have e1 := (hV.1 x (by omega)).2.1
    have hk3 : (k : Int) < ((pv_r V).length : Nat) := by omega
    have e25 : (25 : Int) + (k : Int) = ((25 + k : Nat) : Int) := by omega
    have e6 : (6 : Int) + (x : Int) = ((6 + x : Nat) : Int) := by omega
    unfold gm_belowOf_L6
    simp (disch := omega) only [pj_lit, pj_add, pj_sub, pj_neg, pj_mul, pj_lt, pj_eq, pj_nat, pj_ald, pj_ast, pj_ix, pw_bind, pw_ite, pw_some, pw_none, pw_let, Option.bind_some, Int.toNat_natCast, Sum.elim_inl, Sum.elim_inr, Int.cast_ofNat_Int, Int.reduceLT, Int.reduceLE, Int.reduceEq, Int.reduceAdd, Int.reduceSub, Int.reduceMul, Int.reduceNeg, Int.reduceToNat, Nat.reduceAdd, Nat.reduceSub, Nat.reduceMul, Nat.reduceEqDiff, Nat.reduceLT, reduceIte, reduceCtorEq, true_and, and_true, forall_const, not_true_eq_false, not_false_eq_true, false_implies, implies_true, e5, e4, e1, hk3, e25, e6]
    rfl
  · intro acc
    unfold gm_belowOf_L6
    simp (disch := omega) only [pj_lit, pj_add, pj_sub, pj_neg, pj_mul, pj_lt, pj_eq, pj_nat, pj_ald, pj_ast, pj_ix, pw_bind, pw_ite, pw_some, pw_none, pw_let, Option.bind_some, Int.toNat_natCast, Sum.elim_inl, Sum.elim_inr, Int.cast_ofNat_Int, Int.reduceLT, Int.reduceLE, Int.reduceEq, Int.reduceAdd, Int.reduceSub, Int.reduceMul, Int.reduceNeg, Int.reduceToNat, Nat.reduceAdd, Nat.reduceSub, Nat.reduceMul, Nat.reduceEqDiff, Nat.reduceLT, reduceIte, reduceCtorEq, true_and, and_true, forall_const, not_true_eq_false, not_false_eq_true, false_implies, implies_true, e5, Int.lt_irrefl]
theorem pv_long_eq {n : Nat} {V : pv_V} (ho : pv_ok n V) : pv_p V 0 + pv_p V 1 + pv_p V 2 + pv_p V 3 + pv_p V 4 + pv_p V 5 = pv_long V := by
  have hn := ho.1
  have := pv_sum_sup (f := pv_p V) 6 (pv_r V) ho.2.2.1 (fun h hh => by have := ho.2.2.2.1 h hh; omega) (fun h hh hm => by
    have b := ho.2.1 h hh
    have : ¬ 0 < pv_p V h := fun q => hm (b.2.2.2.2.2.2.1 q)
    omega)
  unfold pv_long
  rw [this]
  simp [List.range_succ]
  omega
theorem pm_rope {Z : zm_S} {V : pv_V} {n : Nat} (hV : pv_row (Z.2.1 48) V) (ho : pv_ok n V) : gm_ropeLong Z = some (pj (pv_long V)) := by
  have p0 := (hV.1 0 (by omega)).2.1
  have p1 := (hV.1 1 (by omega)).2.1
  have p2 := (hV.1 2 (by omega)).2.1
  have p3 := (hV.1 3 (by omega)).2.1
  have p4 := (hV.1 4 (by omega)).2.1
  have p5 := (hV.1 5 (by omega)).2.1
  simp only [Nat.reduceAdd, Nat.add_zero] at p0 p1 p2 p3 p4 p5
  unfold gm_ropeLong
  simp (disch := omega) only [pj_lit, pj_add, pj_sub, pj_neg, pj_mul, pj_lt, pj_eq, pj_nat, pj_ald, pj_ast, pj_ix, pw_bind, pw_ite, pw_some, pw_none, pw_let, Option.bind_some, Int.toNat_natCast, Sum.elim_inl, Sum.elim_inr, Int.cast_ofNat_Int, Int.reduceLT, Int.reduceLE, Int.reduceEq, Int.reduceAdd, Int.reduceSub, Int.reduceMul, Int.reduceNeg, Int.reduceToNat, Nat.reduceAdd, Nat.reduceSub, Nat.reduceMul, Nat.reduceEqDiff, Nat.reduceLT, reduceIte, reduceCtorEq, true_and, and_true, forall_const, not_true_eq_false, not_false_eq_true, false_implies, implies_true, p0, p1, p2, p3, p4, p5, pv_long_eq ho]
