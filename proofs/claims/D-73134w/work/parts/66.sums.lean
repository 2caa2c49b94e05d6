set_option maxRecDepth 100000
/-! what a text says, by its tokens: sums -/
abbrev pz_R (α : Type) : Type := (Nat × Nat) ⊕ α
def pz_bd {α β : Type} (x : pz_R α) (f : α → pz_R β) : pz_R β := Sum.elim Sum.inl f x
def pz_kd (K : List pz_T) (a : Nat) : Nat := (K.getD a (3, 0, 0, 0)).1
def pz_fr (K : List pz_T) (a : Nat) : Nat := (K.getD a (3, 0, 0, 0)).2.1
def pz_to (K : List pz_T) (a : Nat) : Nat := (K.getD a (3, 0, 0, 0)).2.2.1
def pz_vl (K : List pz_T) (a : Nat) : Nat := (K.getD a (3, 0, 0, 0)).2.2.2
def pz_ps (K : List pz_T) (a : Nat) : pz_R Nat := if 400 ≤ a then Sum.inl (2, pz_fr K a) else Sum.inr (a + 1)
def pz_tk (K : List pz_T) (k a : Nat) : pz_R Nat := if pz_kd K a = k then pz_ps K a else Sum.inl (1, pz_fr K a)
def pz_cd (k : Nat) : Nat := if k = 8 then 2 else if k = 9 then 3 else if k = 10 then 4 else 5
def pz_un (K : List pz_T) (rf : Nat → Nat → pz_R (zl_C × Nat)) (op a : Nat) : pz_R (zl_C × Nat) :=
  if pz_kd K a = 2 then pz_bd (pz_ps K a) fun b => Sum.inr ([(0, pj (pz_vl K a : Nat))], b)
  else if 33 ≤ pz_kd K a ∧ pz_kd K a ≤ 41 then pz_bd (pz_ps K a) fun b => Sum.inr ([(1, pj ((pz_kd K a - 33 : Nat) : Int))], b)
  else if pz_kd K a = 6 then (if op = 6 then Sum.inl (2, pz_fr K a) else pz_bd (pz_ps K a) fun b => pz_bd (rf (op + 1) b) fun r => pz_bd (pz_tk K 7 r.2) fun e => Sum.inr (r.1, e))
  else Sum.inl (1, pz_fr K a)
def pz_ptL (K : List pz_T) (rf : Nat → Nat → pz_R (zl_C × Nat)) (op : Nat) : Nat → zl_C → Nat → pz_R (zl_C × Nat)
  | 0, c, a => Sum.inr (c, a)
  | n + 1, c, a => if pz_kd K a = 10 ∨ pz_kd K a = 15 then pz_bd (pz_ps K a) fun b => pz_bd (pz_un K rf op b) fun r => pz_ptL K rf op n (c ++ r.1 ++ [(pz_cd (pz_kd K a), 0)]) r.2 else Sum.inr (c, a)
def pz_pt (K : List pz_T) (rf : Nat → Nat → pz_R (zl_C × Nat)) (op a : Nat) : pz_R (zl_C × Nat) := pz_bd (pz_un K rf op a) fun r => pz_ptL K rf op 401 r.1 r.2
def pz_smL (K : List pz_T) (rf : Nat → Nat → pz_R (zl_C × Nat)) (op : Nat) : Nat → zl_C → Nat → pz_R (zl_C × Nat)
  | 0, c, a => Sum.inr (c, a)
  | n + 1, c, a => if pz_kd K a = 8 ∨ pz_kd K a = 9 then pz_bd (pz_ps K a) fun b => pz_bd (pz_pt K rf op b) fun r => pz_smL K rf op n (c ++ r.1 ++ [(pz_cd (pz_kd K a), 0)]) r.2 else Sum.inr (c, a)
def pz_smB (K : List pz_T) (rf : Nat → Nat → pz_R (zl_C × Nat)) (op a : Nat) : pz_R (zl_C × Nat) := pz_bd (pz_pt K rf op a) fun r => pz_smL K rf op 401 r.1 r.2
def pz_sm (K : List pz_T) : Nat → Nat → Nat → pz_R (zl_C × Nat)
  | 0 => fun _ _ => Sum.inl (0, 0)
  | n + 1 => pz_smB K (pz_sm K n)
/-- tokens that are as a tape's -/
def pz_wf (K : List pz_T) : Prop := 0 < K.length ∧ (∀ a, pz_kd K a ≤ 41 ∧ pz_fr K a ≤ 2000 ∧ (pz_kd K a = 2 → pz_vl K a ≤ 9999)) ∧ (∀ a, a < K.length → pz_kd K a ≠ 0 → pz_kd K a ≠ 3 → a + 1 < K.length)
/-- the tokens, as the model has them -/
def pm_ok (K : List pz_T) (Z : zm_S) : Prop := pz_wf K ∧ ∀ a, a < K.length → a ≤ 400 → Z.2.1 5 a = pj (pz_kd K a : Nat) ∧ Z.2.1 6 a = pj (pz_fr K a : Nat) ∧ (pz_kd K a = 2 → Z.2.1 7 a = pj (pz_vl K a : Nat))
/-- all but what sums are read into -/
def pe_fr (cb : Nat) (Z Z' : zm_S) : Prop := (∀ k, ¬ (k = 11 ∨ k = 12 ∨ k = 13 ∨ k = 14 ∨ k = 39 ∨ k = 43) → Z'.1 k = Z.1 k) ∧ (∀ k, ¬ (k = 40 ∨ k = 41 ∨ k = 42) → Z'.2.1 k = Z.2.1 k) ∧ Z'.2.2 = Z.2.2 ∧ ∀ j, (j < 840 ∧ (j < cb ∨ (cb < 420 ∧ 420 ≤ j))) → Z'.2.1 40 j = Z.2.1 40 j ∧ Z'.2.1 41 j = Z.2.1 41 j
theorem pe_fr_rfl (cb : Nat) (Z : zm_S) : pe_fr cb Z Z := ⟨fun _ _ => rfl, fun _ _ => rfl, rfl, fun _ _ => ⟨rfl, rfl⟩⟩
theorem pe_fr_trans {cb : Nat} {A B C : zm_S} (h : pe_fr cb A B) (g : pe_fr cb B C) : pe_fr cb A C := ⟨fun k a => (g.1 k a).trans (h.1 k a), fun k a => (g.2.1 k a).trans (h.2.1 k a), g.2.2.1.trans h.2.2.1, fun j hj => ⟨(g.2.2.2 j hj).1.trans (h.2.2.2 j hj).1, (g.2.2.2 j hj).2.trans (h.2.2.2 j hj).2⟩⟩
theorem pm_ok_fr {K : List pz_T} {cb : Nat} {Z Z' : zm_S} (h : pe_fr cb Z Z') (g : pm_ok K Z) : pm_ok K Z' := by
  refine ⟨g.1, fun a h1 h2 => ?_⟩
  rw [h.2.1 5 (by omega), h.2.1 6 (by omega), h.2.1 7 (by omega)]
  exact g.2 a h1 h2
/-- the signs that wait and the codes that are out -/
def pe_C (cb : Nat) (W : List Nat) (cs : zl_C) (Z : zm_S) : Prop :=
  Z.1 43 = pj W.length ∧ (∀ (j x : Nat), W.reverse[j]? = some x → Z.2.1 42 j = pj x) ∧ Z.1 39 = pj ((cb + cs.length : Nat) : Int) ∧ ∀ (j : Nat) q, cs[j]? = some q → Z.2.1 40 (cb + j) = pj q.1 ∧ Z.2.1 41 (cb + j) = q.2
def pe_S (K : List pz_T) (Z0 : zm_S) (cb op : Nat) (W : List Nat) (cs : zl_C) (a : Nat) (Z : zm_S) : Prop :=
  pm_ok K Z ∧ pe_fr cb Z0 Z ∧ pe_C cb W cs Z ∧ Z.1 13 = 0 ∧ Z.1 11 = pj a ∧ Z.1 12 = pj op ∧ a < K.length ∧ a ≤ 400 ∧ (cb + cs.length + W.length ≤ 420 * (cb / 420) + a ∧ cb < 840) ∧ (∀ x ∈ W, x ≤ 15)
def pe_F (Z0 : zm_S) (cb n pl : Nat) (Z : zm_S) : Prop := pe_fr cb Z0 Z ∧ (n = 1 ∨ n = 2) ∧ Z.1 13 = pj n ∧ Z.1 14 = pj pl
theorem zm_sFs (Z : zm_S) (k : Nat) (x : Int32) : (zm_sF Z k x).1 k = x := if_pos rfl
theorem zm_sFn {Z : zm_S} {k j : Nat} {x : Int32} (h : j ≠ k) : (zm_sF Z k x).1 j = Z.1 j := if_neg h
theorem pm_is0 {K : List pz_T} {Z : zm_S} {a : Nat} (h : pm_ok K Z) (h13 : Z.1 13 = 0) (h11 : Z.1 11 = pj a) (ha : a < K.length) (h4 : a ≤ 400) {k : Nat} (hk : k ≤ 100) : gm_is Z (pj k) = some (decide (pz_kd K a = k)) := by
  have e := (h.2 a ha h4).1
  have hb := (h.1.2.1 a).1
  unfold gm_is
  simp (disch := omega) only [pj_lit, pj_add, pj_sub, pj_neg, pj_mul, pj_lt, pj_eq, pj_nat, pj_ald, pj_ast, pj_ix, pw_bind, pw_ite, pw_some, pw_none, pw_let, Option.bind_some, Int.toNat_natCast, Sum.elim_inl, Sum.elim_inr, Int.cast_ofNat_Int, Int.reduceLT, Int.reduceLE, Int.reduceEq, Int.reduceAdd, Int.reduceSub, Int.reduceMul, Int.reduceNeg, Int.reduceToNat, Nat.reduceAdd, Nat.reduceSub, Nat.reduceMul, Nat.reduceEqDiff, Nat.reduceLT, reduceIte, reduceCtorEq, true_and, and_true, forall_const, not_true_eq_false, not_false_eq_true, false_implies, implies_true, h13, h11, e]
  by_cases c : pz_kd K a = k
  · rw [if_pos (by omega), decide_eq_true c]
  · rw [if_neg (by omega), decide_eq_false c]
theorem pm_isF {Z : zm_S} {n : Nat} (hn : n = 1 ∨ n = 2) (h13 : Z.1 13 = pj n) (k : Int32) : gm_is Z k = some false := by
  unfold gm_is
  rw [h13, pw_let, if_neg]
  rw [pj_0, pj_eq (by omega) (by omega)]
  omega
theorem pm_fail0 {K : List pz_T} {Z : zm_S} {a : Nat} (h : pm_ok K Z) (h13 : Z.1 13 = 0) (h11 : Z.1 11 = pj a) (ha : a < K.length) (h4 : a ≤ 400) (n : Nat) : gm_fail Z (pj n) = some (zm_sF (zm_sF Z 13 (pj n)) 14 (pj (pz_fr K a : Nat))) := by
  have e := (h.2 a ha h4).2.1
  have e1 : ((zm_sF Z 13 (pj n)).1 11) = pj a := (zm_sFn (by decide)).trans h11
  have e2 : (zm_sF Z 13 (pj n)).2 = Z.2 := rfl
  unfold gm_fail
  rw [h13, if_neg (by decide), Option.bind_some, e1, e2, pj_ald (by omega) (by omega), Int.toNat_natCast, Option.bind_some, e]; rfl
theorem pm_failF {Z : zm_S} {n : Nat} (hn : n = 1 ∨ n = 2) (h13 : Z.1 13 = pj n) (k : Int32) : gm_fail Z k = some Z := by
  unfold gm_fail
  rw [h13, pj_0, if_pos]
  rw [pj_lt (by omega) (by omega)]
  omega
theorem pe_fr_F {cb : Nat} {Z : zm_S} {k : Nat} (x : Int32) (h : k = 11 ∨ k = 12 ∨ k = 13 ∨ k = 14 ∨ k = 39 ∨ k = 43) : pe_fr cb Z (zm_sF Z k x) := ⟨fun j hj => zm_sFn (by omega), fun _ _ => rfl, rfl, fun _ _ => ⟨rfl, rfl⟩⟩
/-- one goes on: or it is wrong -/
theorem pm_goes0 {K : List pz_T} {Z : zm_S} {a : Nat} (h : pm_ok K Z) (h13 : Z.1 13 = 0) (h11 : Z.1 11 = pj a) (ha : a < K.length) (h4 : a ≤ 400) : gm_goesOn Z = some (if 400 ≤ a then zm_sF (zm_sF Z 13 (pj 2)) 14 (pj (pz_fr K a : Nat)) else zm_sF Z 11 (pj ((a + 1 : Nat) : Int))) := by
  unfold gm_goesOn
  rw [h11]
  by_cases c : 400 ≤ a
  · have e : (a : Int) = 400 := by omega
    have := pm_fail0 h h13 h11 ha h4 2
    rw [if_pos c, show (400 : Int32) = pj 400 from rfl, if_pos (by rw [e]), show (2 : Int32) = pj ((2 : Nat) : Int) from rfl, this]; rfl
  · rw [if_neg c, if_neg]
    · rw [pj_1, pj_add]; rfl
    · rw [show (400 : Int32) = pj 400 from rfl, pj_eq (by omega) (by omega)]
      omega
theorem pe_C_F {cb : Nat} {W : List Nat} {cs : zl_C} {Z : zm_S} {k : Nat} (x : Int32) (h : k ≠ 43 ∧ k ≠ 39) (g : pe_C cb W cs Z) : pe_C cb W cs (zm_sF Z k x) := ⟨(zm_sFn (by omega)).trans g.1, g.2.1, (zm_sFn (by omega)).trans g.2.2.1, g.2.2.2⟩
/-- a code comes out -/
theorem pm_emit {cb : Nat} {W : List Nat} {cs : zl_C} {Z : zm_S} (h : pe_C cb W cs Z) (hb : cb + cs.length < 420 * (cb / 420) + 420 ∧ cb < 840) (k : Nat) (x : Int32) :
    pw (gm_emit Z (pj k) x) (fun Z' => pe_C cb W (cs ++ [(k, x)]) Z' ∧ pe_fr cb Z Z' ∧ (∀ j, j ≠ 39 → Z'.1 j = Z.1 j)) := by
  obtain ⟨h1, h2, h3, h4⟩ := h
  unfold gm_emit
  have e1 : ∀ (A : zm_S) k i x, (zm_sA A k i x).1 = A.1 := fun _ _ _ _ => rfl
  have hn : ((cb + cs.length : Nat) : Int) + 1 = ((cb + (cs ++ [(k, x)]).length : Nat) : Int) := by rw [List.length_append]; show _ = ((cb + (cs.length + 1) : Nat) : Int); omega
  simp (disch := omega) only [pj_lit, pj_add, pj_sub, pj_neg, pj_mul, pj_lt, pj_eq, pj_nat, pj_ald, pj_ast, pj_ix, pw_bind, pw_ite, pw_some, pw_none, pw_let, Option.bind_some, Int.toNat_natCast, Sum.elim_inl, Sum.elim_inr, Int.cast_ofNat_Int, Int.reduceLT, Int.reduceLE, Int.reduceEq, Int.reduceAdd, Int.reduceSub, Int.reduceMul, Int.reduceNeg, Int.reduceToNat, Nat.reduceAdd, Nat.reduceSub, Nat.reduceMul, Nat.reduceEqDiff, Nat.reduceLT, reduceIte, reduceCtorEq, true_and, and_true, forall_const, not_true_eq_false, not_false_eq_true, false_implies, implies_true, h3, e1, hn]
  generalize hz : (zm_sA (zm_sA Z 40 (pj ((cb + cs.length : Nat) : Int)) (pj k)) 41 (pj ((cb + cs.length : Nat) : Int)) x) = Z1
  have a40 : ∀ j, Z1.2.1 40 j = if j = cb + cs.length then pj k else Z.2.1 40 j := fun j => by
    rw [← hz, pm_sAn (by omega), pm_sA, if_pos rfl, pj_nat (by omega), Int.toNat_natCast, pj_upd]
  have a41 : ∀ j, Z1.2.1 41 j = if j = cb + cs.length then x else Z.2.1 41 j := fun j => by
    rw [← hz, pm_sA, if_pos rfl, pj_nat (by omega), Int.toNat_natCast, pj_upd, pm_sAn (by omega)]
  have aot : ∀ j, j ≠ 40 → j ≠ 41 → Z1.2.1 j = Z.2.1 j := fun j q r => by rw [← hz, pm_sAn r, pm_sAn q]
  have a1 : Z1.1 = Z.1 := by rw [← hz]; rfl
  have a2 : Z1.2.2 = Z.2.2 := by rw [← hz]; rfl
  refine ⟨⟨by rw [zm_sFn (by omega), a1]; exact h1, fun j x hj => ?_, zm_sFs _ _ _, fun j q hj => ?_⟩, ⟨fun j hj => by rw [zm_sFn (by omega), a1], fun j hj => ?_, ?_, fun j hj => ?_⟩, fun j hj => by rw [zm_sFn hj, a1]⟩
  · show Z1.2.1 42 j = _
    rw [aot 42 (by omega) (by omega)]; exact h2 j x hj
  · show Z1.2.1 40 (cb + j) = _ ∧ Z1.2.1 41 (cb + j) = _
    rw [a40, a41]
    rcases pz_app_get hj with ⟨q1, q2⟩ | ⟨q1, q2⟩
    · rw [if_neg (by omega), if_neg (by omega)]; exact h4 j q q2
    · rw [if_pos (by omega), if_pos (by omega), q2]; exact ⟨rfl, rfl⟩
  · show Z1.2.1 j = _
    exact aot j (by omega) (by omega)
  · show Z1.2.2 = _
    exact a2
  · show Z1.2.1 40 j = _ ∧ Z1.2.1 41 j = _
    rw [a40, a41, if_neg (by omega), if_neg (by omega)]; exact ⟨rfl, rfl⟩
def pe_cm (P : List Nat) : zl_C := P.map fun k => (pz_cd k, 0)
/-- signs that wait come out -/
theorem pm_comesOut {cb : Nat} {W : List Nat} {Z : zm_S} (st : Int32) : ∀ (P : List Nat) (cs : zl_C) (f : Nat), P.length < f → pe_C cb (P ++ W) cs Z → (cb + cs.length + P.length ≤ 420 * (cb / 420) + 420 ∧ cb < 840) → (P ++ W).length ≤ 64 → (∀ x ∈ P ++ W, x ≤ 15) → (∀ x ∈ P, (x = 10 ∨ x = 15) ∨ ((x = 8 ∨ x = 9) ∧ st = 0)) → (W = [] ∨ ∃ x r, W = x :: r ∧ (x = 6 ∨ ((x = 8 ∨ x = 9) ∧ st ≠ 0))) →
    pw (zs_loop f (gm_comesOut_L0 st) Z) (fun Z' => pe_C cb W (cs ++ pe_cm P) Z' ∧ pe_fr cb Z Z' ∧ ∀ j, j ≠ 39 → j ≠ 43 → Z'.1 j = Z.1 j)
  | [], cs, f, hf, h, hb, hl, h15, hP, hW => by
    obtain ⟨f, rfl⟩ : ∃ g, f = g + 1 := ⟨f - 1, by omega⟩
    show pw ((gm_comesOut_L0 st Z).bind fun s => Sum.elim (fun t' => zs_loop f (gm_comesOut_L0 st) t') some s) _
    rw [List.nil_append] at h hl h15
    have hgo : gm_comesOut_L0 st Z = some (Sum.inr Z) := by
      unfold gm_comesOut_L0
      rcases hW with rfl | ⟨x, r, rfl, hx⟩
      · have := h.1
        rw [this, if_neg]
        exact fun q => absurd ((pj_lt (a := 0) (b := 0) (by omega) (by omega)).1 q) (by omega)
      · obtain ⟨h1, h2, -⟩ := h
        rw [List.length_cons] at h1 hl
        have hc := h2 r.length x (by rw [List.reverse_cons, List.getElem?_append, List.length_reverse, if_neg (by omega), Nat.sub_self]; rfl)
        have hpos : (0 : Int) < ((r.length + 1 : Nat) : Int) := by omega
        have hm1 : ((r.length + 1 : Nat) : Int) - 1 = (r.length : Nat) := by omega
        have hx15 := h15 x List.mem_cons_self
        simp (disch := omega) only [pj_lit, pj_add, pj_sub, pj_neg, pj_mul, pj_lt, pj_eq, pj_nat, pj_ald, pj_ast, pj_ix, pw_bind, pw_ite, pw_some, pw_none, pw_let, Option.bind_some, Int.toNat_natCast, Sum.elim_inl, Sum.elim_inr, Int.cast_ofNat_Int, Int.reduceLT, Int.reduceLE, Int.reduceEq, Int.reduceAdd, Int.reduceSub, Int.reduceMul, Int.reduceNeg, Int.reduceToNat, Nat.reduceAdd, Nat.reduceSub, Nat.reduceMul, Nat.reduceEqDiff, Nat.reduceLT, reduceIte, reduceCtorEq, true_and, and_true, forall_const, not_true_eq_false, not_false_eq_true, false_implies, implies_true, h1, hpos, hm1, hc]
        rcases hx with rfl | ⟨hx, hst⟩
        · rw [if_pos (by omega)]
        · rw [if_neg (by omega), if_neg (by rw [← pj_0]; exact hst)]
          rcases hx with rfl | rfl
          · rw [if_pos (by omega)]
          · rw [if_neg (by omega), if_pos (by omega)]
    rw [hgo, Option.bind_some, Sum.elim_inr, pw_some]
    refine ⟨by show pe_C cb W (cs ++ []) Z; rw [List.append_nil]; exact h, pe_fr_rfl cb Z, fun _ _ _ => rfl⟩
  | x :: P, cs, f, hf, h, hb, hl, h15, hP, hW => by
    obtain ⟨f, rfl⟩ : ∃ g, f = g + 1 := ⟨f - 1, by omega⟩
    rw [List.length_cons] at hf hb
    show pw ((gm_comesOut_L0 st Z).bind fun s => Sum.elim (fun t' => zs_loop f (gm_comesOut_L0 st) t') some s) _
    obtain ⟨h1, h2, h3, h4⟩ := id h
    rw [List.cons_append, List.length_cons] at h1 hl
    rw [List.cons_append] at h2 h15
    have hc := h2 (P ++ W).length x (by rw [List.reverse_cons, List.getElem?_append, List.length_reverse, if_neg (by omega), Nat.sub_self]; rfl)
    have hpos : (0 : Int) < (((P ++ W).length + 1 : Nat) : Int) := by omega
    have hm1 : (((P ++ W).length + 1 : Nat) : Int) - 1 = ((P ++ W).length : Nat) := by omega
    have hxP := hP x List.mem_cons_self
    have hx15 := h15 x List.mem_cons_self
    have hCn : pe_C cb (P ++ W) cs (zm_sF Z 43 (pj ((P ++ W).length : Nat))) := by
      refine ⟨zm_sFs _ _ _, fun j y hj => ?_, (zm_sFn (by omega)).trans h3, h4⟩
      refine h2 j y ?_
      rw [List.reverse_cons, List.getElem?_append, if_pos (List.getElem?_eq_some_iff.1 hj).1]; exact hj
    have hgo : pw (gm_comesOut_L0 st Z) (fun s => ∃ Z', s = Sum.inl Z' ∧ pe_C cb (P ++ W) (cs ++ [(pz_cd x, 0)]) Z' ∧ pe_fr cb Z Z' ∧ ∀ j, j ≠ 39 → j ≠ 43 → Z'.1 j = Z.1 j) := by
      have fin : pw ((gm_emit (zm_sF Z 43 (pj ((P ++ W).length : Nat))) (pj (pz_cd x : Nat)) (pj 0)).bind fun M5 => some (Sum.inl M5 : zm_S ⊕ zm_S)) (fun s => ∃ Z', s = Sum.inl Z' ∧ pe_C cb (P ++ W) (cs ++ [(pz_cd x, 0)]) Z' ∧ pe_fr cb Z Z' ∧ ∀ j, j ≠ 39 → j ≠ 43 → Z'.1 j = Z.1 j) := by
        refine pw_seq (pm_emit hCn (by omega) (pz_cd x) 0) (fun Z' h' => (pw_some _ _).2 ⟨Z', rfl, h'.1, pe_fr_trans (pe_fr_F _ (by omega)) h'.2.1, fun j q r => (h'.2.2 j q).trans (zm_sFn r)⟩)
      unfold gm_comesOut_L0
      have key : ∀ y : Int32, y = pj (pz_cd x : Nat) → pw ((gm_emit (zm_sF Z 43 (pj ((P ++ W).length : Nat))) y (pj 0)).bind fun M5 => some (Sum.inl M5 : zm_S ⊕ zm_S)) (fun s => ∃ Z', s = Sum.inl Z' ∧ pe_C cb (P ++ W) (cs ++ [(pz_cd x, 0)]) Z' ∧ pe_fr cb Z Z' ∧ ∀ j, j ≠ 39 → j ≠ 43 → Z'.1 j = Z.1 j) := fun y hy => by rw [hy]; exact fin
      rw [h1, show (0 : Int32) = pj 0 from rfl, if_pos ((pj_lt (by omega) (by omega)).2 hpos), pj_1, pj_sub, hm1, pj_ald (by omega) (by omega), Int.toNat_natCast, hc, Option.bind_some, show (6 : Int32) = pj 6 from rfl, show (8 : Int32) = pj 8 from rfl, show (9 : Int32) = pj 9 from rfl, show (10 : Int32) = pj 10 from rfl]
      have ne : ∀ v : Int, 0 ≤ v → v < 100 → (x : Int) ≠ v → ¬ pj (x : Nat) = pj v := fun v q r s e => s ((pj_eq (by omega) (by omega)).1 e)
      rw [if_neg (ne 6 (by omega) (by omega) (by omega)), pw_let, Option.bind_some]
      rcases hxP with hx | ⟨hx, hst⟩
      · by_cases c0 : st = pj 0
        · rw [if_pos c0]
          rcases hx with rfl | rfl
          · exact key (pj 4) rfl
          · exact key (pj 5) rfl
        · rw [if_neg c0, if_neg (ne 8 (by omega) (by omega) (by omega)), if_neg (ne 9 (by omega) (by omega) (by omega))]
          rcases hx with rfl | rfl
          · exact key (pj 4) rfl
          · exact key (pj 5) rfl
      · rw [if_pos (show st = pj 0 from hst)]
        rcases hx with rfl | rfl
        · exact key (pj 2) rfl
        · exact key (pj 3) rfl
    refine pw_seq hgo (fun s hs => ?_)
    obtain ⟨Z1, rfl, c1, c2, c3⟩ := hs
    rw [Sum.elim_inl]
    refine pw_mono (pm_comesOut st P (cs ++ [(pz_cd x, 0)]) f (by omega) c1 (by rw [List.length_append]; show cb + (cs.length + 1) + P.length ≤ 420 * (cb / 420) + 420 ∧ cb < 840; omega) (by omega) (fun y hy => h15 y (List.mem_cons_of_mem _ hy)) (fun y hy => hP y (List.mem_cons_of_mem _ hy)) hW) (fun Z2 h2 => ⟨?_, pe_fr_trans c2 h2.2.1, fun j q r => (h2.2.2 j q r).trans (c3 j q r)⟩)
    have : cs ++ pe_cm (x :: P) = cs ++ [(pz_cd x, 0)] ++ pe_cm P := by rw [List.append_assoc]; rfl
    rw [this]
    exact h2.1
/-! sums by the model -/
def pe_rs (r17 : zm_S) : Option ((Int32 × zm_S) ⊕ (zm_S ⊕ zm_S)) :=
(gm_is r17 8).bind fun b18 =>
(zs_let (fun (p29 : Unit) => some 1) fun J181 =>
if b18 = true then (J181 ())
else ((gm_is r17 9).bind fun b30 =>
if b30 = true then (J181 ())
else ((gm_is r17 10).bind fun b31 =>
if b31 = true then (J181 ())
else ((gm_is r17 15).bind fun b32 =>
if b32 = true then (J181 ())
else (some 0))))).bind fun (p19 : Int32) =>
if p19 = 0 then (some (Sum.inr (Sum.inl r17)))
else ((gm_is r17 10).bind fun b20 =>
(zs_let (fun (p27 : Unit) => some 1) fun J229 =>
if b20 = true then (J229 ())
else ((gm_is r17 15).bind fun b28 =>
if b28 = true then (J229 ())
else (some 0))).bind fun (p21 : Int32) =>
(gm_comesOut r17 p21).bind fun M22 =>
(zs_ald 403 (M22.2.1 5) (M22.1 11)).bind fun x23 =>
(zs_ast 64 (M22.1 43) (zm_sA M22 42 (M22.1 43) x23)).bind fun M24 =>
(some (zm_sF M24 43 ((M24.1 43) + 1))).bind fun M25 =>
(gm_goesOn M25).bind fun M26 =>
some (Sum.inl (p19, M26)))
def pe_fin (x2 : Int32) : zm_S ⊕ zm_S → Option zm_S := Sum.elim (fun (r33 : zm_S) =>
(if x2 < (r33.1 12) then ((gm_fail r33 1).bind fun M36 =>
some M36)
else (some r33)).bind fun (p34 : zm_S) =>
(gm_comesOut p34 0).bind fun M35 =>
some M35)
 (fun z => some z)
def pe_go (x2 : Int32) (f : Nat) (s : (Int32 × zm_S) ⊕ (zm_S ⊕ zm_S)) : Option zm_S := (Sum.elim (fun t' => zs_loop f (gm_expression_L12 x2) t') some s).bind (pe_fin x2)
def pe_E2 (x2 : Int32) (g f : Nat) (Z : zm_S) : Option zm_S := (zs_loop g (gm_expression_L96 x2) Z).bind fun r17 => (pe_rs r17).bind (pe_go x2 f)
def pe_E1 (x2 : Int32) (g f : Nat) (Z : zm_S) : Option zm_S := (zs_loop g gm_expression_L23 Z).bind fun r10 => (gm_unit r10).bind fun M11 => if 0 < M11.1 13 then pe_go x2 f (Sum.inr (Sum.inr M11)) else pe_E2 x2 5000 f M11
theorem pe_E1_eq (x2 : Int32) (f : Nat) (Z : zm_S) (h : Z.1 13 = 0) : (zs_loop (f + 1) (gm_expression_L12 x2) (1, Z)).bind (pe_fin x2) = pe_E1 x2 5000 f Z := by
  show (((gm_expression_L12 x2) (1, Z)).bind fun s => Sum.elim (fun t' => zs_loop f (gm_expression_L12 x2) t') some s).bind (pe_fin x2) = _
  unfold gm_expression_L12
  rw [if_neg (show ¬ ((1 : Int32), Z).1 = 0 from (by decide : ¬ (1 : Int32) = 0)), if_pos h]
  show (((zs_loop 5000 gm_expression_L23 Z).bind fun r10 => (gm_unit r10).bind fun M11 => if 0 < M11.1 13 then some (Sum.inr (Sum.inr M11)) else (zs_loop 5000 (gm_expression_L96 x2) M11).bind fun r17 => pe_rs r17).bind fun s => Sum.elim (fun t' => zs_loop f (gm_expression_L12 x2) t') some s).bind (pe_fin x2) = _
  unfold pe_E1
  cases zs_loop 5000 gm_expression_L23 Z with
  | none => rfl
  | some r10 =>
    rw [Option.bind_some, Option.bind_some]
    cases gm_unit r10 with
    | none => rfl
    | some M11 =>
      rw [Option.bind_some, Option.bind_some]
      by_cases c : 0 < M11.1 13
      · rw [if_pos c, if_pos c]; rfl
      · rw [if_neg c, if_neg c]
        unfold pe_E2
        cases zs_loop 5000 (gm_expression_L96 x2) M11 with
        | none => rfl
        | some r17 =>
          rw [Option.bind_some, Option.bind_some]
          cases pe_rs r17 with
          | none => rfl
          | some s => rfl
theorem pe_F_S {K : List pz_T} {Z0 Z1 : zm_S} {cb op a : Nat} {W : List Nat} {cs : zl_C} (h : pe_S K Z0 cb op W cs a Z1) (n : Nat) (hn : n = 1 ∨ n = 2) : gm_fail Z1 (pj n) = some (zm_sF (zm_sF Z1 13 (pj n)) 14 (pj (pz_fr K a : Nat))) ∧ pe_F Z0 cb n (pz_fr K a) (zm_sF (zm_sF Z1 13 (pj n)) 14 (pj (pz_fr K a : Nat))) := by
  obtain ⟨h1, h2, h3, h4, h5, h6, h7, h8, h9, h10⟩ := h
  refine ⟨pm_fail0 h1 h4 h5 h7 h8 n, pe_fr_trans h2 (pe_fr_trans (pe_fr_F _ (by omega)) (pe_fr_F _ (by omega))), hn, ?_, zm_sFs _ _ _⟩
  rw [zm_sFn (by omega), zm_sFs]
theorem pe_goes {K : List pz_T} {Z0 Z1 : zm_S} {cb op a : Nat} {W : List Nat} {cs : zl_C} (h1 : pm_ok K Z1) (h2 : pe_fr cb Z0 Z1) (h3 : pe_C cb W cs Z1) (h4 : Z1.1 13 = 0) (h5 : Z1.1 11 = pj a) (h6 : Z1.1 12 = pj op) (h7 : a < K.length) (h8 : a ≤ 400) (h9 : cb + cs.length + W.length ≤ 420 * (cb / 420) + (a + 1) ∧ cb < 840) (h10 : ∀ x ∈ W, x ≤ 15) (hk : pz_kd K a ≠ 0 ∧ pz_kd K a ≠ 3) :
    ∃ M, gm_goesOn Z1 = some M ∧ Sum.elim (fun q => pe_F Z0 cb q.1 q.2 M ∧ pe_C cb W cs M ∧ M.1 12 = Z1.1 12) (fun b => b = a + 1 ∧ pe_S K Z0 cb op W cs b M) (pz_ps K a) := by
  refine ⟨_, pm_goes0 h1 h4 h5 h7 h8, ?_⟩
  unfold pz_ps
  by_cases c : 400 ≤ a
  · rw [if_pos c, if_pos c]
    refine ⟨⟨pe_fr_trans h2 (pe_fr_trans (pe_fr_F _ (by omega)) (pe_fr_F _ (by omega))), Or.inr rfl, ?_, zm_sFs _ _ _⟩, pe_C_F _ (by omega) (pe_C_F _ (by omega) h3), ?_⟩
    · rw [zm_sFn (by omega), zm_sFs]; rfl
    · rw [zm_sFn (by omega), zm_sFn (by omega)]
  · rw [if_neg c, if_neg c]
    have hf := pe_fr_F (cb := cb) (Z := Z1) (k := 11) (pj ((a + 1 : Nat) : Int)) (by omega)
    exact ⟨rfl, pm_ok_fr hf h1, pe_fr_trans h2 hf, pe_C_F _ (by omega) h3, (zm_sFn (by omega)).trans h4, zm_sFs _ _ _, (zm_sFn (by omega)).trans h6, h1.1.2.2 a h7 hk.1 hk.2, by omega, h9, h10⟩
theorem pe_unitN {K : List pz_T} {Z0 Z1 : zm_S} {cb op a : Nat} {W : List Nat} {cs : zl_C} {rf : Nat → Nat → pz_R (zl_C × Nat)} (hS : pe_S K Z0 cb op W cs a Z1) (h : pz_kd K a ≠ 6) :
    pw (gm_unit Z1) (fun M => Sum.elim (fun q => pe_F Z0 cb q.1 q.2 M) (fun r => pe_S K Z0 cb op W (cs ++ r.1) r.2 M ∧ a < r.2) (pz_un K rf op a)) := by
  obtain ⟨h1, h2, h3, h4, h5, h6, h7, h8, h9, h10⟩ := id hS
  have hb := (h1.1.2.1 a).1
  obtain ⟨e5, e6, e7⟩ := h1.2 a h7 h8
  have hI : gm_is Z1 2 = some (decide (pz_kd K a = 2)) := pm_is0 h1 h4 h5 h7 h8 (k := 2) (by omega)
  have emit : ∀ (k : Nat) (x : Int32), pz_kd K a ≠ 0 ∧ pz_kd K a ≠ 3 → pw ((gm_emit Z1 (pj k) x).bind fun M10 => (gm_goesOn M10).bind fun M11 => some M11) (fun M => Sum.elim (fun q => pe_F Z0 cb q.1 q.2 M) (fun r => pe_S K Z0 cb op W (cs ++ r.1) r.2 M ∧ a < r.2) (pz_bd (pz_ps K a) fun b => Sum.inr (([(k, x)] : zl_C), b))) := by
    intro k x hk
    refine pw_seq (pm_emit h3 (by omega) k x) (fun M hM => ?_)
    obtain ⟨m1, m2, m3⟩ := hM
    obtain ⟨M', g1, g2⟩ := pe_goes (op := op) (pm_ok_fr m2 h1) (pe_fr_trans h2 m2) m1 ((m3 13 (by omega)).trans h4) ((m3 11 (by omega)).trans h5) ((m3 12 (by omega)).trans h6) h7 h8 (by rw [List.length_append]; show cb + (cs.length + 1) + W.length ≤ 420 * (cb / 420) + (a + 1) ∧ cb < 840; omega) h10 hk
    rw [g1, Option.bind_some, pw_some]
    cases hp : pz_ps K a with
    | inl q => rw [hp] at g2; exact g2.1
    | inr b =>
      rw [hp] at g2
      obtain ⟨rfl, g2⟩ := g2
      exact ⟨g2, Nat.lt_succ_self a⟩
  unfold gm_unit pz_un
  rw [hI, Option.bind_some]
  by_cases c1 : pz_kd K a = 2
  · rw [if_pos c1, decide_eq_true c1, if_pos rfl, h5, pj_ald (by omega) (by omega), Int.toNat_natCast, Option.bind_some, e7 c1]
    exact emit 0 _ (by omega)
  · rw [if_neg c1, decide_eq_false c1, if_neg (by decide), pw_let, if_pos h4, h5, pj_ald (by omega) (by omega), Int.toNat_natCast, Option.bind_some, Option.bind_some, Option.bind_some, e5, show (33 : Int32) = pj 33 from rfl, show (41 : Int32) = pj 41 from rfl]
    have hbad : pw ((gm_fail Z1 1).bind fun M3 => some M3) (fun M => Sum.elim (fun q => pe_F Z0 cb q.1 q.2 M) (fun r => pe_S K Z0 cb op W (cs ++ r.1) r.2 M ∧ a < r.2) (Sum.inl (1, pz_fr K a) : pz_R (zl_C × Nat))) := by
      obtain ⟨g1, g2⟩ := pe_F_S hS 1 (Or.inl rfl)
      rw [show (1 : Int32) = pj ((1 : Nat) : Int) from rfl, g1, Option.bind_some, pw_some]
      exact g2
    by_cases c2 : 33 ≤ pz_kd K a ∧ pz_kd K a ≤ 41
    · have n1 : ¬ pj ((pz_kd K a : Nat) : Int) < pj 33 := by rw [pj_lt (by omega) (by omega)]; omega
      have n2 : ¬ pj 41 < pj ((pz_kd K a : Nat) : Int) := by rw [pj_lt (by omega) (by omega)]; omega
      have e3 : pj ((pz_kd K a : Nat) : Int) - pj 33 = pj ((pz_kd K a - 33 : Nat) : Int) := by rw [pj_sub]; congr 1; omega
      rw [if_pos c2, if_neg n1, if_neg n2, e3]
      exact emit 1 _ (by omega)
    · rw [if_neg c2, if_neg h]
      by_cases c3 : pj ((pz_kd K a : Nat) : Int) < pj 33
      · rw [if_pos c3]; exact hbad
      · rw [if_neg c3]
        rw [pj_lt (by omega) (by omega)] at c3
        rw [if_pos (by rw [pj_lt (by omega) (by omega)]; omega)]
        exact hbad
/-- where a fault was found, all ends -/
theorem pe_C_any {cb : Nat} {W : List Nat} {cs : zl_C} {Z : zm_S} (h : pe_C cb W cs Z) (hb : cb + cs.length + W.length ≤ 420 * (cb / 420) + 420 ∧ cb < 840) (hl : W.length ≤ 64) (h15 : ∀ x ∈ W, x ≤ 15) (hW : ∀ x ∈ W, x = 6 ∨ x = 8 ∨ x = 9 ∨ x = 10 ∨ x = 15) : pw (gm_comesOut Z 0) (fun Z' => pe_fr cb Z Z' ∧ ∀ j, j ≠ 39 → j ≠ 43 → Z'.1 j = Z.1 j) := by
  have key : ∀ W : List Nat, (∀ x ∈ W, x = 6 ∨ x = 8 ∨ x = 9 ∨ x = 10 ∨ x = 15) → ∃ P W1, W = P ++ W1 ∧ (∀ x ∈ P, (x = 10 ∨ x = 15) ∨ ((x = 8 ∨ x = 9) ∧ (0 : Int32) = 0)) ∧ (W1 = [] ∨ ∃ x r, W1 = x :: r ∧ (x = 6 ∨ ((x = 8 ∨ x = 9) ∧ (0 : Int32) ≠ 0))) := by
    intro W
    induction W with
    | nil => exact fun _ => ⟨[], [], rfl, fun x hx => (by cases hx), Or.inl rfl⟩
    | cons x W ih =>
      intro hW
      by_cases c : x = 6
      · exact ⟨[], x :: W, rfl, fun x hx => (by cases hx), Or.inr ⟨x, W, rfl, Or.inl c⟩⟩
      · obtain ⟨P, W1, e1, e2, e3⟩ := ih (fun y hy => hW y (List.mem_cons_of_mem _ hy))
        refine ⟨x :: P, W1, by rw [e1]; rfl, fun y hy => ?_, e3⟩
        rcases List.mem_cons.1 hy with rfl | hy
        · have := hW y List.mem_cons_self
          rcases this with q | q | q | q | q
          · exact absurd q c
          · exact Or.inr ⟨Or.inl q, rfl⟩
          · exact Or.inr ⟨Or.inr q, rfl⟩
          · exact Or.inl (Or.inl q)
          · exact Or.inl (Or.inr q)
        · exact e2 y hy
  obtain ⟨P, W1, rfl, e2, e3⟩ := key W hW
  unfold gm_comesOut
  rw [List.length_append] at hb hl
  refine pw_seq (pm_comesOut 0 P cs 5000 (by omega) h (by omega) (by rw [List.length_append]; omega) h15 e2 e3) (fun Z' h' => (pw_some _ _).2 ⟨h'.2.1, h'.2.2⟩)
theorem pe_endF {Z0 Z1 : zm_S} {cb n pl : Nat} {W : List Nat} {cs : zl_C} {x2 : Int32} {Q : zm_S → Prop} (hF : pe_F Z0 cb n pl Z1) (h : pe_C cb W cs Z1) (hb : cb + cs.length + W.length ≤ 420 * (cb / 420) + 420 ∧ cb < 840) (hl : W.length ≤ 64) (hW : ∀ x ∈ W, x = 6 ∨ x = 8 ∨ x = 9 ∨ x = 10 ∨ x = 15) (hQ : ∀ Z', pe_F Z0 cb n pl Z' → Q Z') : pw (pe_fin x2 (Sum.inl Z1)) Q := by
  obtain ⟨f1, f2, f3, f4⟩ := hF
  unfold pe_fin
  rw [Sum.elim_inl]
  have : (if x2 < Z1.1 12 then (gm_fail Z1 1).bind fun M36 => some M36 else some Z1) = some Z1 := by
    by_cases c : x2 < Z1.1 12
    · rw [if_pos c, pm_failF f2 f3]; rfl
    · rw [if_neg c]
  rw [this, Option.bind_some]
  refine pw_seq (pe_C_any h hb hl (fun x hx => by have := hW x hx; omega) hW) (fun Z' h' => (pw_some _ _).2 (hQ Z' ⟨pe_fr_trans f1 h'.1, f2, (h'.2 13 (by omega) (by omega)).trans f3, (h'.2 14 (by omega) (by omega)).trans f4⟩))
/-! sums by the model: units, parts, sums -/
def pe_W (W : List Nat) : Prop := ∀ x ∈ W, x = 6 ∨ x = 8 ∨ x = 9 ∨ x = 10 ∨ x = 15
theorem pe_E1_step {x2 : Int32} {g f : Nat} {Z M : zm_S} (h : gm_expression_L23 Z = some (Sum.inl M)) : pe_E1 x2 (g + 1) f Z = pe_E1 x2 g f M := by
  unfold pe_E1
  show (((gm_expression_L23 Z).bind fun s => Sum.elim (fun t' => zs_loop g gm_expression_L23 t') some s).bind _) = _
  rw [h]; rfl
theorem pe_E1_out {x2 : Int32} {g f : Nat} {Z : zm_S} (h : gm_expression_L23 Z = some (Sum.inr Z)) : pe_E1 x2 (g + 1) f Z = (gm_unit Z).bind fun M11 => if 0 < M11.1 13 then pe_go x2 f (Sum.inr (Sum.inr M11)) else pe_E2 x2 5000 f M11 := by
  unfold pe_E1
  show (((gm_expression_L23 Z).bind fun s => Sum.elim (fun t' => zs_loop g gm_expression_L23 t') some s).bind _) = _
  rw [h]; rfl
theorem pe_E2_step {x2 : Int32} {g f : Nat} {Z M : zm_S} (h : gm_expression_L96 x2 Z = some (Sum.inl M)) : pe_E2 x2 (g + 1) f Z = pe_E2 x2 g f M := by
  unfold pe_E2
  show (((gm_expression_L96 x2 Z).bind fun s => Sum.elim (fun t' => zs_loop g (gm_expression_L96 x2) t') some s).bind _) = _
  rw [h]; rfl
theorem pe_E2_out {x2 : Int32} {g f : Nat} {Z : zm_S} (h : gm_expression_L96 x2 Z = some (Sum.inr Z)) : pe_E2 x2 (g + 1) f Z = (pe_rs Z).bind (pe_go x2 f) := by
  unfold pe_E2
  show (((gm_expression_L96 x2 Z).bind fun s => Sum.elim (fun t' => zs_loop g (gm_expression_L96 x2) t') some s).bind _) = _
  rw [h]; rfl
/-- a fault that was found ahead of a unit -/
theorem pe_tailF {Z0 M : zm_S} {cb n pl g f : Nat} {x2 : Int32} {Q : zm_S → Prop} (hF : pe_F Z0 cb n pl M) (hQ : ∀ Z', pe_F Z0 cb n pl Z' → Q Z') : pw (pe_E1 x2 (g + 1) f M) Q := by
  obtain ⟨f1, f2, f3, f4⟩ := id hF
  have h1 : gm_expression_L23 M = some (Sum.inr M) := by
    unfold gm_expression_L23
    rw [pm_isF f2 f3, Option.bind_some, if_neg (by decide)]
  have h2 : gm_unit M = some M := by
    unfold gm_unit
    rw [pm_isF f2 f3, Option.bind_some, if_neg (by decide), pw_let, if_neg, pm_failF f2 f3]; rfl
    rw [f3, pj_0, pj_eq (by omega) (by omega)]; omega
  rw [pe_E1_out h1, h2, Option.bind_some, if_pos]
  · show pw ((some (Sum.inr M)).bind (pe_fin x2)) Q
    rw [Option.bind_some]
    exact (pw_some _ _).2 (hQ M hF)
  · rw [f3, pj_0, pj_lt (by omega) (by omega)]; omega
/-- a sign is laid to wait -/
theorem pe_push {cb : Nat} {W : List Nat} {cs : zl_C} {Z : zm_S} (h : pe_C cb W cs Z) (hl : W.length < 64) (x : Nat) : pe_C cb (x :: W) cs (zm_sF (zm_sA Z 42 (pj W.length) (pj x)) 43 (pj ((W.length : Int) + 1))) ∧ pe_fr cb Z (zm_sF (zm_sA Z 42 (pj W.length) (pj x)) 43 (pj ((W.length : Int) + 1))) := by
  obtain ⟨h1, h2, h3, h4⟩ := h
  refine ⟨⟨by rw [zm_sFs, List.length_cons]; rfl, fun j y hj => ?_, (zm_sFn (by omega)).trans h3, fun j q hj => ?_⟩, fun j hj => zm_sFn (by omega), fun j hj => ?_, rfl, fun j hj => ?_⟩
  · show (zm_sA Z 42 (pj W.length) (pj x)).2.1 42 j = _
    rw [pm_sA, if_pos rfl, pj_nat (by omega), Int.toNat_natCast, pj_upd]
    rw [List.reverse_cons] at hj
    rcases pz_app_get hj with ⟨q1, q2⟩ | ⟨q1, q2⟩
    · rw [List.length_reverse] at q1
      rw [if_neg (by omega)]; exact h2 j y q2
    · rw [List.length_reverse] at q1
      rw [if_pos q1, q2]
  · show (zm_sA Z 42 (pj W.length) (pj x)).2.1 40 (cb + j) = _ ∧ (zm_sA Z 42 (pj W.length) (pj x)).2.1 41 (cb + j) = _
    rw [pm_sAn (by omega), pm_sAn (by omega)]; exact h4 j q hj
  · show (zm_sA Z 42 (pj W.length) (pj x)).2.1 j = _
    exact pm_sAn (by omega)
  · show (zm_sA Z 42 (pj W.length) (pj x)).2.1 40 j = _ ∧ (zm_sA Z 42 (pj W.length) (pj x)).2.1 41 j = _
    rw [pm_sAn (by omega), pm_sAn (by omega)]; exact ⟨rfl, rfl⟩
theorem pe_F_fr {Z0 M M' : zm_S} {cb n pl : Nat} (h : pe_F Z0 cb n pl M) (g : pe_fr cb M M') (h13 : M'.1 13 = M.1 13) (h14 : M'.1 14 = M.1 14) : pe_F Z0 cb n pl M' := ⟨pe_fr_trans h.1 g, h.2.1, h13.trans h.2.2.1, h14.trans h.2.2.2⟩
/-- an opening sign -/
theorem pe_open {K : List pz_T} {Z0 Z1 : zm_S} {cb op a : Nat} {W : List Nat} {cs : zl_C} (hS : pe_S K Z0 cb op W cs a Z1) (hk : pz_kd K a = 6) (hop : op ≤ 6) (hl : W.length ≤ 20) :
    ∃ M, gm_expression_L23 Z1 = some (Sum.inl M) ∧ Sum.elim (fun q => pe_F Z0 cb q.1 q.2 M) (fun b => b = a + 1 ∧ pe_S K Z0 cb (op + 1) (6 :: W) cs b M) (if op = 6 then (Sum.inl (2, pz_fr K a) : pz_R Nat) else pz_ps K a) := by
  obtain ⟨h1, h2, h3, h4, h5, h6, h7, h8, h9, h10⟩ := id hS
  have hI : gm_is Z1 6 = some (decide (pz_kd K a = 6)) := pm_is0 h1 h4 h5 h7 h8 (k := 6) (by omega)
  have o1 : ∀ A : zm_S, A.1 12 = pj op → A.1 12 + 1 = pj ((op + 1 : Nat) : Int) := fun A e => by rw [e, pj_1, pj_add]; rfl
  unfold gm_expression_L23
  rw [hI, decide_eq_true hk, Option.bind_some, if_pos rfl, h6, show (6 : Int32) = pj 6 from rfl]
  by_cases c : op = 6
  · have ec : (op : Int) = 6 := by omega
    obtain ⟨g1, g2⟩ := pe_F_S hS 2 (Or.inr rfl)
    rw [if_pos c, if_pos (by rw [ec]), show (2 : Int32) = pj ((2 : Nat) : Int) from rfl, g1, Option.bind_some, Option.bind_some, Option.bind_some, o1 _ (by rw [zm_sFn (by omega), zm_sFn (by omega)]; exact h6)]
    have hC := pe_C_F (k := 12) (pj ((op + 1 : Nat) : Int)) (by omega) (pe_C_F (k := 14) (pj (pz_fr K a : Nat)) (by omega) (pe_C_F (k := 13) (pj (2 : Nat)) (by omega) h3))
    have hF2 : pe_F Z0 cb 2 (pz_fr K a) (zm_sF (zm_sF (zm_sF Z1 13 (pj (2 : Nat))) 14 (pj (pz_fr K a : Nat))) 12 (pj ((op + 1 : Nat) : Int))) := pe_F_fr g2 (pe_fr_F _ (by omega)) (zm_sFn (by omega)) (zm_sFn (by omega))
    generalize zm_sF (zm_sF (zm_sF Z1 13 (pj (2 : Nat))) 14 (pj (pz_fr K a : Nat))) 12 (pj ((op + 1 : Nat) : Int)) = M5 at hC hF2
    have hgo : ∃ M6, gm_goesOn M5 = some M6 ∧ pe_C cb W cs M6 ∧ pe_F Z0 cb 2 (pz_fr K a) M6 := by
      unfold gm_goesOn
      by_cases d : M5.1 11 = 400
      · rw [if_pos d, pm_failF hF2.2.1 hF2.2.2.1]
        exact ⟨M5, rfl, hC, hF2⟩
      · rw [if_neg d]
        exact ⟨_, rfl, pe_C_F _ (by omega) hC, pe_F_fr hF2 (pe_fr_F _ (by omega)) (zm_sFn (by omega)) (zm_sFn (by omega))⟩
    obtain ⟨M6, m1, m2, m3⟩ := hgo
    obtain ⟨p1, p2⟩ := pe_push m2 (by omega) 6
    have e43 := m2.1
    have e43' : (zm_sA M6 42 (pj W.length) (pj 6)).1 43 = pj W.length := e43
    rw [m1, Option.bind_some, e43, pj_ast (by omega) (by omega), Option.bind_some, Option.bind_some, e43', pj_1, pj_add]
    exact ⟨_, rfl, pe_F_fr m3 p2 (zm_sFn (by omega)) (zm_sFn (by omega))⟩
  · rw [if_neg c, if_neg (by rw [pj_eq (by omega) (by omega)]; omega), Option.bind_some, Option.bind_some, o1 _ h6]
    have hfr := pe_fr_F (cb := cb) (Z := Z1) (k := 12) (pj ((op + 1 : Nat) : Int)) (by omega)
    obtain ⟨M6, m1, m2⟩ := pe_goes (op := op + 1) (pm_ok_fr hfr h1) (pe_fr_trans h2 hfr) (pe_C_F _ (by omega) h3) ((zm_sFn (by omega)).trans h4) ((zm_sFn (by omega)).trans h5) (zm_sFs _ _ _) h7 h8 (by omega) h10 (by omega)
    rw [m1, Option.bind_some]
    cases hp : pz_ps K a with
    | inl q =>
      rw [hp] at m2
      obtain ⟨m2, m3, -⟩ := m2
      obtain ⟨p1, p2⟩ := pe_push m3 (by omega) 6
      have e43 := m3.1
      have e43' : (zm_sA M6 42 (pj W.length) (pj 6)).1 43 = pj W.length := e43
      rw [e43, pj_ast (by omega) (by omega), Option.bind_some, Option.bind_some, e43', pj_1, pj_add]
      exact ⟨_, rfl, pe_F_fr m2 p2 (zm_sFn (by omega)) (zm_sFn (by omega))⟩
    | inr b =>
      rw [hp] at m2
      obtain ⟨rfl, m2⟩ := m2
      obtain ⟨s1, s2, s3, s4, s5, s6, s7, s8, s9, s10⟩ := m2
      obtain ⟨p1, p2⟩ := pe_push s3 (by omega) 6
      have e43 := s3.1
      have e43' : (zm_sA M6 42 (pj W.length) (pj 6)).1 43 = pj W.length := e43
      rw [e43, pj_ast (by omega) (by omega), Option.bind_some, Option.bind_some, e43', pj_1, pj_add]
      refine ⟨_, rfl, rfl, pm_ok_fr p2 s1, pe_fr_trans s2 p2, p1, (zm_sFn (by omega)).trans s4, (zm_sFn (by omega)).trans s5, (zm_sFn (by omega)).trans s6, s7, s8, ?_, fun x hx => ?_⟩
      · rw [List.length_cons]; omega
      · rcases List.mem_cons.1 hx with rfl | hx
        · omega
        · exact s10 x hx
theorem pe_rsF {Z : zm_S} (h8 : gm_is Z 8 = some false) (h9 : gm_is Z 9 = some false) (h10 : gm_is Z 10 = some false) (h15 : gm_is Z 15 = some false) : pe_rs Z = some (Sum.inr (Sum.inl Z)) := by
  unfold pe_rs
  rw [h8, h9, h10, h15]
  rfl
/-- a closing sign that isn't there -/
theorem pe_noClose {K : List pz_T} {Z0 Z1 : zm_S} {cb op a g f : Nat} {W : List Nat} {cs : zl_C} {Q : zm_S → Prop} (hS : pe_S K Z0 cb (op + 1) W cs a Z1) (hop : op ≤ 6) (hk : pz_kd K a ≠ 7) (hk2 : ¬ (pz_kd K a = 8 ∨ pz_kd K a = 9 ∨ pz_kd K a = 10 ∨ pz_kd K a = 15)) (hl : W.length ≤ 64) (hW : pe_W W) (hQ : ∀ Z', pe_F Z0 cb 1 (pz_fr K a) Z' → Q Z') : pw (pe_E2 (pj 0) (g + 1) f Z1) Q := by
  obtain ⟨h1, h2, h3, h4, h5, h6, h7, h8, h9, h10⟩ := id hS
  have hI : ∀ k, k ≤ 100 → pz_kd K a ≠ k → gm_is Z1 (pj (k : Nat)) = some false := fun k hk q => by rw [pm_is0 h1 h4 h5 h7 h8 hk, decide_eq_false q]
  have hL : gm_expression_L96 (pj 0) Z1 = some (Sum.inr Z1) := by
    unfold gm_expression_L96
    rw [show (7 : Int32) = pj ((7 : Nat) : Int) from rfl, hI 7 (by omega) hk, Option.bind_some, if_neg (by decide)]
  rw [pe_E2_out hL, pe_rsF (hI 8 (by omega) (by omega)) (hI 9 (by omega) (by omega)) (hI 10 (by omega) (by omega)) (hI 15 (by omega) (by omega)), Option.bind_some]
  show pw ((some (Sum.inl Z1)).bind (pe_fin (pj 0))) Q
  rw [Option.bind_some]
  unfold pe_fin
  obtain ⟨g1, g2⟩ := pe_F_S hS 1 (Or.inl rfl)
  rw [Sum.elim_inl, h6, if_pos ((pj_lt (by omega) (by omega)).2 (by omega)), show (1 : Int32) = pj ((1 : Nat) : Int) from rfl, g1, Option.bind_some, Option.bind_some]
  refine pw_seq (pe_C_any (pe_C_F _ (by omega) (pe_C_F _ (by omega) h3)) (by omega) hl h10 hW) (fun Z' h' => (pw_some _ _).2 (hQ Z' (pe_F_fr g2 h'.1 (h'.2 13 (by omega) (by omega)) (h'.2 14 (by omega) (by omega)))))
/-- a closing sign -/
theorem pe_close {K : List pz_T} {Z0 Z1 : zm_S} {cb op a g f : Nat} {P W : List Nat} {cs : zl_C} {Q : zm_S → Prop} (hS : pe_S K Z0 cb (op + 1) (P ++ 6 :: W) cs a Z1) (hop : op ≤ 6) (hk : pz_kd K a = 7) (hl : (P ++ 6 :: W).length ≤ 64) (hW : pe_W W) (hP : ∀ x ∈ P, x = 8 ∨ x = 9 ∨ x = 10 ∨ x = 15)
    (hQ : Sum.elim (fun q => ∀ Z', pe_F Z0 cb q.1 q.2 Z' → Q Z') (fun b => ∀ Z', pe_S K Z0 cb op W (cs ++ pe_cm P) b Z' → pw (pe_E2 (pj 0) g f Z') Q) (pz_ps K a)) (hg : 1 ≤ g) : pw (pe_E2 (pj 0) (g + 1) f Z1) Q := by
  obtain ⟨h1, h2, h3, h4, h5, h6, h7, h8, h9, h10⟩ := id hS
  have hI : gm_is Z1 7 = some (decide (pz_kd K a = 7)) := pm_is0 h1 h4 h5 h7 h8 (k := 7) (by omega)
  rw [List.length_append, List.length_cons] at h9 hl
  have hcl : (pe_cm P).length = P.length := List.length_map _
  have hco : pw (gm_comesOut Z1 0) (fun Z' => pe_C cb (6 :: W) (cs ++ pe_cm P) Z' ∧ pe_fr cb Z1 Z' ∧ ∀ j, j ≠ 39 → j ≠ 43 → Z'.1 j = Z1.1 j) := by
    unfold gm_comesOut
    refine pw_seq (pm_comesOut 0 P cs 5000 (by omega) h3 (by omega) (by rw [List.length_append, List.length_cons]; omega) h10 (fun x hx => ?_) (Or.inr ⟨6, W, rfl, Or.inl rfl⟩)) (fun Z' h' => (pw_some _ _).2 h')
    rcases hP x hx with q | q | q | q
    · exact Or.inr ⟨Or.inl q, rfl⟩
    · exact Or.inr ⟨Or.inr q, rfl⟩
    · exact Or.inl (Or.inl q)
    · exact Or.inl (Or.inr q)
  obtain ⟨M13, m1, m2, m3, m4⟩ := hco
  have a43 : M13.1 43 - 1 = pj (W.length : Nat) := by
    rw [m2.1, List.length_cons, pj_1, pj_sub]; congr 1; omega
  have hC14 : pe_C cb W (cs ++ pe_cm P) (zm_sF M13 43 (pj (W.length : Nat))) := by
    obtain ⟨c1, c2, c3, c4⟩ := m2
    refine ⟨zm_sFs _ _ _, fun j y hj => c2 j y ?_, (zm_sFn (by omega)).trans c3, c4⟩
    rw [List.reverse_cons, List.getElem?_append, if_pos (List.getElem?_eq_some_iff.1 hj).1]; exact hj
  have a12 : (zm_sF M13 43 (pj (W.length : Nat))).1 12 - 1 = pj (op : Nat) := by
    rw [zm_sFn (by omega), m4 12 (by omega) (by omega), h6, pj_1, pj_sub]; congr 1; omega
  have hfr15 : pe_fr cb Z1 (zm_sF (zm_sF M13 43 (pj (W.length : Nat))) 12 (pj (op : Nat))) := pe_fr_trans m3 (pe_fr_trans (pe_fr_F _ (by omega)) (pe_fr_F _ (by omega)))
  have hC15 := pe_C_F (k := 12) (pj (op : Nat)) (by omega) hC14
  obtain ⟨M16, n1, n2⟩ := pe_goes (op := op) (W := W) (pm_ok_fr hfr15 h1) (pe_fr_trans h2 hfr15) hC15 (by rw [zm_sFn (by omega), zm_sFn (by omega), m4 13 (by omega) (by omega)]; exact h4) (by rw [zm_sFn (by omega), zm_sFn (by omega), m4 11 (by omega) (by omega)]; exact h5) (zm_sFs _ _ _) h7 h8 (by rw [List.length_append, hcl]; omega) (fun x hx => h10 x (List.mem_append.2 (Or.inr (List.mem_cons_of_mem _ hx)))) (by omega)
  have hL : gm_expression_L96 (pj 0) Z1 = some (Sum.inl M16) := by
    unfold gm_expression_L96
    rw [hI, decide_eq_true hk, Option.bind_some, if_pos rfl, h6, if_pos ((pj_lt (by omega) (by omega)).2 (by omega)), m1, Option.bind_some, Option.bind_some, a43, Option.bind_some, a12, n1]; rfl
  rw [pe_E2_step hL]
  cases hp : pz_ps K a with
  | inr b =>
    rw [hp] at n2 hQ
    exact hQ M16 n2.2
  | inl q =>
    rw [hp] at n2 hQ
    obtain ⟨n2, n3, n4⟩ := n2
    obtain ⟨g, rfl⟩ : ∃ k, g = k + 1 := ⟨g - 1, by omega⟩
    have hFs : ∀ k, gm_is M16 k = some false := fun k => pm_isF n2.2.1 n2.2.2.1 k
    have hL2 : gm_expression_L96 (pj 0) M16 = some (Sum.inr M16) := by
      unfold gm_expression_L96
      rw [hFs, Option.bind_some, if_neg (by decide)]
    rw [pe_E2_out hL2, pe_rsF (hFs 8) (hFs 9) (hFs 10) (hFs 15), Option.bind_some]
    show pw ((some (Sum.inl M16)).bind (pe_fin (pj 0))) Q
    rw [Option.bind_some]
    exact pe_endF n2 n3 (by rw [List.length_append, hcl]; omega) (by omega) hW hQ
/-! sums by the model: joined -/
theorem pe_oper {K : List pz_T} {Z0 Z1 : zm_S} {cb op a g f k : Nat} {P W : List Nat} {cs : zl_C} {Q : zm_S → Prop} (hS : pe_S K Z0 cb op (P ++ W) cs a Z1) (hk : pz_kd K a = k) (hk2 : k = 8 ∨ k = 9 ∨ k = 10 ∨ k = 15) (hl : (P ++ W).length ≤ 60) (hW : pe_W W)
    (hP : ∀ x ∈ P, (x = 10 ∨ x = 15) ∨ ((x = 8 ∨ x = 9) ∧ (k = 8 ∨ k = 9))) (hW2 : W = [] ∨ ∃ x r, W = x :: r ∧ (x = 6 ∨ ((x = 8 ∨ x = 9) ∧ (k = 10 ∨ k = 15))))
    (hQ : Sum.elim (fun q => ∀ Z', pe_F Z0 cb q.1 q.2 Z' → Q Z') (fun b => ∀ Z', pe_S K Z0 cb op (k :: W) (cs ++ pe_cm P) b Z' → pw (pe_E1 (pj 0) 5000 f Z') Q) (pz_ps K a)) : pw (pe_E2 (pj 0) (g + 1) (f + 1) Z1) Q := by
  obtain ⟨h1, h2, h3, h4, h5, h6, h7, h8, h9, h10⟩ := id hS
  have hI : ∀ j, j ≤ 100 → gm_is Z1 (pj (j : Nat)) = some (decide (k = j)) := fun j hj => by rw [pm_is0 h1 h4 h5 h7 h8 hj, hk]
  rw [List.length_append] at h9 hl
  have hcl : (pe_cm P).length = P.length := List.length_map _
  have hL : gm_expression_L96 (pj 0) Z1 = some (Sum.inr Z1) := by
    unfold gm_expression_L96
    rw [show (7 : Int32) = pj ((7 : Nat) : Int) from rfl, hI 7 (by omega), decide_eq_false (by omega), Option.bind_some, if_neg (by decide)]
  have i8 : gm_is Z1 8 = some (decide (k = 8)) := hI 8 (by omega)
  have i9 : gm_is Z1 9 = some (decide (k = 9)) := hI 9 (by omega)
  have i10 : gm_is Z1 10 = some (decide (k = 10)) := hI 10 (by omega)
  have i15 : gm_is Z1 15 = some (decide (k = 15)) := hI 15 (by omega)
  have hst : ∃ st : Int32, (st = 0 ↔ (k = 8 ∨ k = 9)) ∧ pe_rs Z1 = (gm_comesOut Z1 st).bind fun M22 =>
      (zs_ald 403 (M22.2.1 5) (M22.1 11)).bind fun x23 => (zs_ast 64 (M22.1 43) (zm_sA M22 42 (M22.1 43) x23)).bind fun M24 => (some (zm_sF M24 43 ((M24.1 43) + 1))).bind fun M25 => (gm_goesOn M25).bind fun M26 => some (Sum.inl ((1 : Int32), M26)) := by
    unfold pe_rs
    rw [i8, i9, i10, i15]
    rcases hk2 with rfl | rfl | rfl | rfl
    · exact ⟨0, by decide, rfl⟩
    · exact ⟨0, by decide, rfl⟩
    · exact ⟨1, by decide, rfl⟩
    · exact ⟨1, by decide, rfl⟩
  obtain ⟨st, hst1, hst2⟩ := hst
  have hco : pw (gm_comesOut Z1 st) (fun Z' => pe_C cb W (cs ++ pe_cm P) Z' ∧ pe_fr cb Z1 Z' ∧ ∀ j, j ≠ 39 → j ≠ 43 → Z'.1 j = Z1.1 j) := by
    unfold gm_comesOut
    refine pw_seq (pm_comesOut st P cs 5000 (by omega) h3 (by omega) (by rw [List.length_append]; omega) h10 (fun x hx => ?_) ?_) (fun Z' h' => (pw_some _ _).2 h')
    · rcases hP x hx with q | ⟨q, r⟩
      · exact Or.inl q
      · exact Or.inr ⟨q, hst1.2 r⟩
    · rcases hW2 with q | ⟨x, r, e, q⟩
      · exact Or.inl q
      · refine Or.inr ⟨x, r, e, ?_⟩
        rcases q with q | ⟨q, q2⟩
        · exact Or.inl q
        · exact Or.inr ⟨q, fun e => by have := hst1.1 e; omega⟩
  obtain ⟨M22, m1, m2, m3, m4⟩ := hco
  have e5 : M22.2.1 5 a = pj (k : Nat) := by rw [m3.2.1 5 (by omega), (h1.2 a h7 h8).1, hk]
  have e11 : M22.1 11 = pj (a : Nat) := (m4 11 (by omega) (by omega)).trans h5
  obtain ⟨p1, p2⟩ := pe_push m2 (by omega) k
  have e43 := m2.1
  have e43' : (zm_sA M22 42 (pj W.length) (pj k)).1 43 = pj W.length := e43
  have hfr := pe_fr_trans m3 p2
  have hW' : pe_W (k :: W) := fun x hx => by
    rcases List.mem_cons.1 hx with rfl | hx
    · omega
    · exact hW x hx
  obtain ⟨M26, n1, n2⟩ := pe_goes (op := op) (W := k :: W) (pm_ok_fr hfr h1) (pe_fr_trans h2 hfr) p1 (by rw [zm_sFn (by omega)]; exact (m4 13 (by omega) (by omega)).trans h4) (by rw [zm_sFn (by omega)]; exact e11) (by rw [zm_sFn (by omega)]; exact (m4 12 (by omega) (by omega)).trans h6) h7 h8 (by rw [List.length_append, hcl, List.length_cons]; omega) (fun x hx => by have := hW' x hx; omega) (by omega)
  have hrs : pe_rs Z1 = some (Sum.inl ((1 : Int32), M26)) := by
    rw [hst2, m1, Option.bind_some, e11, pj_ald (by omega) (by omega), Int.toNat_natCast, e5, Option.bind_some, e43, pj_ast (by omega) (by omega), Option.bind_some, Option.bind_some, e43', pj_1, pj_add, n1]; rfl
  rw [pe_E2_out hL, hrs, Option.bind_some]
  show pw ((zs_loop (f + 1) (gm_expression_L12 (pj 0)) (1, M26)).bind (pe_fin (pj 0))) Q
  cases hp : pz_ps K a with
  | inr b =>
    rw [hp] at n2 hQ
    obtain ⟨rfl, n2⟩ := n2
    rw [pe_E1_eq (pj 0) f M26 n2.2.2.2.1]
    exact hQ M26 n2
  | inl q =>
    rw [hp] at n2 hQ
    obtain ⟨n2, n3, n4⟩ := n2
    have hne : ¬ M26.1 13 = 0 := by
      obtain ⟨-, u1, u2, -⟩ := n2
      rw [u2, pj_0, pj_eq (by omega) (by omega)]; omega
    have : zs_loop (f + 1) (gm_expression_L12 (pj 0)) (1, M26) = some (Sum.inr M26) := by
      show ((gm_expression_L12 (pj 0) (1, M26)).bind fun s => Sum.elim (fun t' => zs_loop f (gm_expression_L12 (pj 0)) t') some s) = _
      unfold gm_expression_L12
      rw [if_neg (show ¬ ((1 : Int32), M26).1 = 0 from (by decide : ¬ (1 : Int32) = 0)), if_neg hne]; rfl
    rw [this, Option.bind_some]
    exact (pw_some _ _).2 (hQ M26 n2)
theorem pe_cm_app (P S : List Nat) : pe_cm (P ++ S) = pe_cm P ++ pe_cm S := List.map_append
def pe_SUM (K : List pz_T) (Z0 : zm_S) (cb n : Nat) : Prop := ∀ (Q : zm_S → Prop) (op a : Nat) (W : List Nat) (cs : zl_C) (Z : zm_S) (g f : Nat), n + op = 8 → op ≤ 6 → (W = [] ∨ ∃ r, W = 6 :: r) → pe_S K Z0 cb op W cs a Z → pe_W W → W.length ≤ 3 * op → 8 ≤ g + op → 402 ≤ a + f →
  Sum.elim (fun q => ∀ Z', pe_F Z0 cb q.1 q.2 Z' → Q Z') (fun r => ∀ P cs' Z' g' f', pe_S K Z0 cb op (P ++ W) cs' r.2 Z' → (∀ x ∈ P, x = 8 ∨ x = 9 ∨ x = 10 ∨ x = 15) → P.length ≤ 2 → cs' ++ pe_cm P = cs ++ r.1 → ¬ (pz_kd K r.2 = 8 ∨ pz_kd K r.2 = 9 ∨ pz_kd K r.2 = 10 ∨ pz_kd K r.2 = 15) → op + 2 ≤ g' → 402 ≤ r.2 + f' → a < r.2 → pw (pe_E2 (pj 0) g' f' Z') Q) (pz_sm K n op a) → pw (pe_E1 (pj 0) g f Z) Q
theorem pe_UNIT {K : List pz_T} {Z0 : zm_S} {cb n : Nat} (IH : pe_SUM K Z0 cb n) (Q : zm_S → Prop) (op a : Nat) (W : List Nat) (cs : zl_C) (Z : zm_S) (g f : Nat) (hn : n + 1 + op = 8) (hop : op ≤ 6) (hS : pe_S K Z0 cb op W cs a Z) (hW : pe_W W) (hl : W.length ≤ 3 * op + 2) (hg : 8 ≤ g + op) (hf : 402 ≤ a + f)
    (hQ : Sum.elim (fun q => ∀ Z', pe_F Z0 cb q.1 q.2 Z' → Q Z') (fun r => ∀ Z' g' f', pe_S K Z0 cb op W (cs ++ r.1) r.2 Z' → op + 2 ≤ g' → 402 ≤ r.2 + f' → a < r.2 → pw (pe_E2 (pj 0) g' f' Z') Q) (pz_un K (pz_sm K n) op a)) : pw (pe_E1 (pj 0) g f Z) Q := by
  obtain ⟨h1, h2, h3, h4, h5, h6, h7, h8, h9, h10⟩ := id hS
  obtain ⟨g, rfl⟩ : ∃ k, g = k + 1 := ⟨g - 1, by omega⟩
  by_cases hk : pz_kd K a = 6
  · have hun : pz_un K (pz_sm K n) op a = pz_bd (if op = 6 then (Sum.inl (2, pz_fr K a) : pz_R Nat) else pz_ps K a) fun b => pz_bd (pz_sm K n (op + 1) b) fun r => pz_bd (pz_tk K 7 r.2) fun e => Sum.inr (r.1, e) := by
      unfold pz_un
      rw [if_neg (by omega), if_neg (by omega), if_pos hk]
      by_cases c : op = 6
      · rw [if_pos c, if_pos c]; rfl
      · rw [if_neg c, if_neg c]
    rw [hun] at hQ
    obtain ⟨M, m1, m2⟩ := pe_open hS hk hop (by omega)
    rw [pe_E1_step m1]
    cases hp : (if op = 6 then (Sum.inl (2, pz_fr K a) : pz_R Nat) else pz_ps K a) with
    | inl q =>
      rw [hp] at m2 hQ
      obtain ⟨g, rfl⟩ : ∃ k, g = k + 1 := ⟨g - 1, by omega⟩
      exact pe_tailF m2 hQ
    | inr b =>
      have hop6 : op < 6 := by
        by_cases c : op = 6
        · rw [if_pos c] at hp; cases hp
        · omega
      rw [hp] at m2 hQ
      obtain ⟨rfl, m2⟩ := m2
      have hW6 : pe_W (6 :: W) := fun x hx => by
        rcases List.mem_cons.1 hx with rfl | hx
        · exact Or.inl rfl
        · exact hW x hx
      refine IH Q (op + 1) (a + 1) (6 :: W) cs M g f (by omega) (by omega) (Or.inr ⟨W, rfl⟩) m2 hW6 (by rw [List.length_cons]; omega) (by omega) (by omega) ?_
      change Sum.elim _ _ (pz_bd (pz_sm K n (op + 1) (a + 1)) _) at hQ
      cases hr : pz_sm K n (op + 1) (a + 1) with
      | inl q => rw [hr] at hQ; exact hQ
      | inr r =>
        rw [hr] at hQ
        change Sum.elim _ _ (pz_bd (pz_tk K 7 r.2) _) at hQ
        intro P cs' Z' g' f' s1 s2 s3 s4 s5 s6 s7 s8
        obtain ⟨g', rfl⟩ : ∃ k, g' = k + 1 := ⟨g' - 1, by omega⟩
        have hlen : (P ++ 6 :: W).length ≤ 64 := by rw [List.length_append, List.length_cons]; omega
        unfold pz_tk at hQ
        by_cases c7 : pz_kd K r.2 = 7
        · rw [if_pos c7] at hQ
          refine pe_close s1 hop c7 hlen hW s2 ?_ (by omega)
          cases hq : pz_ps K r.2 with
          | inl q => rw [hq] at hQ; exact hQ
          | inr e =>
            rw [hq] at hQ
            have he : e = r.2 + 1 := by
              unfold pz_ps at hq
              split at hq
              · cases hq
              · injection hq with hq; exact hq.symm
            intro Z'' hZ''
            rw [s4] at hZ''
            exact hQ Z'' g' f' hZ'' (by omega) (by show 402 ≤ e + f'; omega) (by show a < e; omega)
        · rw [if_neg c7] at hQ
          exact pe_noClose s1 hop c7 s5 hlen (fun x hx => by
            rcases List.mem_append.1 hx with hx | hx
            · exact Or.inr (s2 x hx)
            · exact hW6 x hx) hQ
  · have hL : gm_expression_L23 Z = some (Sum.inr Z) := by
      unfold gm_expression_L23
      rw [show (6 : Int32) = pj ((6 : Nat) : Int) from rfl, pm_is0 h1 h4 h5 h7 h8 (by omega), decide_eq_false hk, Option.bind_some, if_neg (by decide)]
    rw [pe_E1_out hL]
    refine pw_seq (pe_unitN (rf := pz_sm K n) hS hk) (fun M hM => ?_)
    cases hr : pz_un K (pz_sm K n) op a with
    | inl q =>
      rw [hr] at hM hQ
      have hM : pe_F Z0 cb q.1 q.2 M := hM
      rw [if_pos (by rw [hM.2.2.1, pj_0, pj_lt (by have := hM.2.1; omega) (by have := hM.2.1; omega)]; have := hM.2.1; omega)]
      show pw ((some (Sum.inr M)).bind (pe_fin (pj 0))) Q
      rw [Option.bind_some]
      exact (pw_some _ _).2 (hQ M hM)
    | inr r =>
      rw [hr] at hM hQ
      obtain ⟨hM, hlt⟩ := hM
      rw [if_neg (by rw [hM.2.2.2.1]; decide)]
      exact hQ M 5000 f hM (by omega) (by omega) hlt
theorem pe_PARTL {K : List pz_T} {Z0 : zm_S} {cb n : Nat} (IH : pe_SUM K Z0 cb n) (Q : zm_S → Prop) (op a0 : Nat) (W : List Nat) (cs : zl_C) (hn : n + 1 + op = 8) (hop : op ≤ 6) (hW : pe_W W) (hW2 : W = [] ∨ ∃ x r, W = x :: r ∧ (x = 6 ∨ x = 8 ∨ x = 9)) (hl : W.length ≤ 3 * op + 1) : ∀ (m : Nat) (c : zl_C) (a : Nat) (P : List Nat) (cs' : zl_C) (Z : zm_S) (g f : Nat), 401 ≤ a + m → pe_S K Z0 cb op (P ++ W) cs' a Z → (∀ x ∈ P, x = 10 ∨ x = 15) → P.length ≤ 1 → cs' ++ pe_cm P = cs ++ c → op + 2 ≤ g → 402 ≤ a + f → a0 < a →
    Sum.elim (fun q => ∀ Z', pe_F Z0 cb q.1 q.2 Z' → Q Z') (fun r => ∀ P cs' Z' g' f', pe_S K Z0 cb op (P ++ W) cs' r.2 Z' → (∀ x ∈ P, x = 10 ∨ x = 15) → P.length ≤ 1 → cs' ++ pe_cm P = cs ++ r.1 → ¬ (pz_kd K r.2 = 10 ∨ pz_kd K r.2 = 15) → op + 2 ≤ g' → 402 ≤ r.2 + f' → a0 < r.2 → pw (pe_E2 (pj 0) g' f' Z') Q) (pz_ptL K (pz_sm K n) op m c a) → pw (pe_E2 (pj 0) g f Z) Q
  | 0, c, a, P, cs', Z, g, f, h1, h2, h3, h4, h5, h6, h7, h8, hQ => absurd h2.2.2.2.2.2.2.2.1 (by omega)
  | m + 1, c, a, P, cs', Z, g, f, h1, h2, h3, h4, h5, h6, h7, h8, hQ => by
    have ha4 := h2.2.2.2.2.2.2.2.1
    unfold pz_ptL at hQ
    by_cases hk : pz_kd K a = 10 ∨ pz_kd K a = 15
    · rw [if_pos hk] at hQ
      obtain ⟨g, rfl⟩ : ∃ k, g = k + 1 := ⟨g - 1, by omega⟩
      obtain ⟨f, rfl⟩ : ∃ k, f = k + 1 := ⟨f - 1, by omega⟩
      refine pe_oper h2 rfl (by omega) (by rw [List.length_append]; omega) hW (fun x hx => Or.inl (h3 x hx)) ?_ ?_
      · rcases hW2 with e | ⟨x, r, e, q⟩
        · exact Or.inl e
        · refine Or.inr ⟨x, r, e, ?_⟩
          rcases q with q | q | q
          · exact Or.inl q
          · exact Or.inr ⟨Or.inl q, hk⟩
          · exact Or.inr ⟨Or.inr q, hk⟩
      · cases hp : pz_ps K a with
        | inl q => rw [hp] at hQ; exact hQ
        | inr b =>
          rw [hp] at hQ
          have hb : b = a + 1 := by
            unfold pz_ps at hp
            split at hp
            · cases hp
            · injection hp with hp; exact hp.symm
          intro Z' hZ'
          rw [h5] at hZ'
          change Sum.elim _ _ (pz_bd (pz_un K (pz_sm K n) op b) _) at hQ
          refine pe_UNIT IH Q op b (pz_kd K a :: W) (cs ++ c) Z' 5000 f hn hop hZ' (fun x hx => ?_) (by rw [List.length_cons]; omega) (by omega) (by omega) ?_
          · rcases List.mem_cons.1 hx with rfl | hx
            · omega
            · exact hW x hx
          · cases hu : pz_un K (pz_sm K n) op b with
            | inl q => rw [hu] at hQ; exact hQ
            | inr r =>
              rw [hu] at hQ
              intro Z'' g' f' s1 s2 s3 s4
              refine pe_PARTL IH Q op a0 W cs hn hop hW hW2 hl m (c ++ r.1 ++ [(pz_cd (pz_kd K a), 0)]) r.2 [pz_kd K a] (cs ++ c ++ r.1) Z'' g' f' (by omega) s1 (fun x hx => by rw [List.mem_singleton.1 hx]; exact hk) (Nat.le_refl _) ?_ s2 s3 (by omega) hQ
              show cs ++ c ++ r.1 ++ [(pz_cd (pz_kd K a), 0)] = cs ++ (c ++ r.1 ++ [(pz_cd (pz_kd K a), 0)])
              rw [List.append_assoc, List.append_assoc, List.append_assoc]
    · rw [if_neg hk] at hQ
      exact hQ P cs' Z g f h2 h3 h4 h5 hk h6 h7 h8
theorem pe_PART {K : List pz_T} {Z0 : zm_S} {cb n : Nat} (IH : pe_SUM K Z0 cb n) (Q : zm_S → Prop) (op a : Nat) (W : List Nat) (cs : zl_C) (Z : zm_S) (g f : Nat) (hn : n + 1 + op = 8) (hop : op ≤ 6) (hS : pe_S K Z0 cb op W cs a Z) (hW : pe_W W) (hW2 : W = [] ∨ ∃ x r, W = x :: r ∧ (x = 6 ∨ x = 8 ∨ x = 9)) (hl : W.length ≤ 3 * op + 1) (hg : 8 ≤ g + op) (hf : 402 ≤ a + f)
    (hQ : Sum.elim (fun q => ∀ Z', pe_F Z0 cb q.1 q.2 Z' → Q Z') (fun r => ∀ P cs' Z' g' f', pe_S K Z0 cb op (P ++ W) cs' r.2 Z' → (∀ x ∈ P, x = 10 ∨ x = 15) → P.length ≤ 1 → cs' ++ pe_cm P = cs ++ r.1 → ¬ (pz_kd K r.2 = 10 ∨ pz_kd K r.2 = 15) → op + 2 ≤ g' → 402 ≤ r.2 + f' → a < r.2 → pw (pe_E2 (pj 0) g' f' Z') Q) (pz_pt K (pz_sm K n) op a)) : pw (pe_E1 (pj 0) g f Z) Q := by
  unfold pz_pt at hQ
  refine pe_UNIT IH Q op a W cs Z g f hn hop hS hW (by omega) hg hf ?_
  cases hu : pz_un K (pz_sm K n) op a with
  | inl q => rw [hu] at hQ; exact hQ
  | inr r =>
    rw [hu] at hQ
    intro Z' g' f' s1 s2 s3 s4
    exact pe_PARTL IH Q op a W cs hn hop hW hW2 hl 401 r.1 r.2 [] (cs ++ r.1) Z' g' f' (by omega) s1 (fun x hx => (by cases hx)) (by decide) (List.append_nil _) s2 s3 s4 hQ
theorem pe_SUML {K : List pz_T} {Z0 : zm_S} {cb n : Nat} (IH : pe_SUM K Z0 cb n) (Q : zm_S → Prop) (op a0 : Nat) (W : List Nat) (cs : zl_C) (hn : n + 1 + op = 8) (hop : op ≤ 6) (hW : pe_W W) (hW2 : W = [] ∨ ∃ r, W = 6 :: r) (hl : W.length ≤ 3 * op) : ∀ (m : Nat) (c : zl_C) (a : Nat) (P : List Nat) (cs' : zl_C) (Z : zm_S) (g f : Nat), 401 ≤ a + m → pe_S K Z0 cb op (P ++ W) cs' a Z → (∀ x ∈ P, x = 8 ∨ x = 9 ∨ x = 10 ∨ x = 15) → P.length ≤ 2 → cs' ++ pe_cm P = cs ++ c → ¬ (pz_kd K a = 10 ∨ pz_kd K a = 15) → op + 2 ≤ g → 402 ≤ a + f → a0 < a →
    Sum.elim (fun q => ∀ Z', pe_F Z0 cb q.1 q.2 Z' → Q Z') (fun r => ∀ P cs' Z' g' f', pe_S K Z0 cb op (P ++ W) cs' r.2 Z' → (∀ x ∈ P, x = 8 ∨ x = 9 ∨ x = 10 ∨ x = 15) → P.length ≤ 2 → cs' ++ pe_cm P = cs ++ r.1 → ¬ (pz_kd K r.2 = 8 ∨ pz_kd K r.2 = 9 ∨ pz_kd K r.2 = 10 ∨ pz_kd K r.2 = 15) → op + 2 ≤ g' → 402 ≤ r.2 + f' → a0 < r.2 → pw (pe_E2 (pj 0) g' f' Z') Q) (pz_smL K (pz_sm K n) op m c a) → pw (pe_E2 (pj 0) g f Z) Q
  | 0, c, a, P, cs', Z, g, f, h1, h2, h3, h4, h5, h6, h7, h8, h9, hQ => absurd h2.2.2.2.2.2.2.2.1 (by omega)
  | m + 1, c, a, P, cs', Z, g, f, h1, h2, h3, h4, h5, h6, h7, h8, h9, hQ => by
    have ha4 := h2.2.2.2.2.2.2.2.1
    unfold pz_smL at hQ
    by_cases hk : pz_kd K a = 8 ∨ pz_kd K a = 9
    · rw [if_pos hk] at hQ
      obtain ⟨g, rfl⟩ : ∃ k, g = k + 1 := ⟨g - 1, by omega⟩
      obtain ⟨f, rfl⟩ : ∃ k, f = k + 1 := ⟨f - 1, by omega⟩
      refine pe_oper h2 rfl (by omega) (by rw [List.length_append]; omega) hW (fun x hx => ?_) ?_ ?_
      · rcases h3 x hx with q | q | q | q
        · exact Or.inr ⟨Or.inl q, hk⟩
        · exact Or.inr ⟨Or.inr q, hk⟩
        · exact Or.inl (Or.inl q)
        · exact Or.inl (Or.inr q)
      · rcases hW2 with e | ⟨r, e⟩
        · exact Or.inl e
        · exact Or.inr ⟨6, r, e, Or.inl rfl⟩
      · cases hp : pz_ps K a with
        | inl q => rw [hp] at hQ; exact hQ
        | inr b =>
          rw [hp] at hQ
          have hb : b = a + 1 := by
            unfold pz_ps at hp
            split at hp
            · cases hp
            · injection hp with hp; exact hp.symm
          intro Z' hZ'
          rw [h5] at hZ'
          change Sum.elim _ _ (pz_bd (pz_pt K (pz_sm K n) op b) _) at hQ
          refine pe_PART IH Q op b (pz_kd K a :: W) (cs ++ c) Z' 5000 f hn hop hZ' (fun x hx => ?_) (Or.inr ⟨_, W, rfl, Or.inr hk⟩) (by rw [List.length_cons]; omega) (by omega) (by omega) ?_
          · rcases List.mem_cons.1 hx with rfl | hx
            · omega
            · exact hW x hx
          · cases hu : pz_pt K (pz_sm K n) op b with
            | inl q => rw [hu] at hQ; exact hQ
            | inr r =>
              rw [hu] at hQ
              intro P' cs'' Z'' g' f' s1 s2 s3 s4 s5 s6 s7 s8
              refine pe_SUML IH Q op a0 W cs hn hop hW hW2 hl m (c ++ r.1 ++ [(pz_cd (pz_kd K a), 0)]) r.2 (P' ++ [pz_kd K a]) cs'' Z'' g' f' (by omega) (by rw [List.append_assoc]; exact s1) (fun x hx => ?_) (by rw [List.length_append, List.length_singleton]; omega) ?_ s5 s6 s7 (by omega) hQ
              · rcases List.mem_append.1 hx with hx | hx
                · have := s2 x hx; omega
                · rw [List.mem_singleton.1 hx]; omega
              · rw [pe_cm_app, ← List.append_assoc, s4]
                show cs ++ c ++ r.1 ++ [(pz_cd (pz_kd K a), 0)] = cs ++ (c ++ r.1 ++ [(pz_cd (pz_kd K a), 0)])
                rw [List.append_assoc, List.append_assoc, List.append_assoc]
    · rw [if_neg hk] at hQ
      exact hQ P cs' Z g f h2 h3 h4 h5 (by show ¬ (pz_kd K a = 8 ∨ pz_kd K a = 9 ∨ pz_kd K a = 10 ∨ pz_kd K a = 15); omega) h7 h8 h9
theorem pe_SUM_all (K : List pz_T) (Z0 : zm_S) (cb : Nat) : ∀ n, pe_SUM K Z0 cb n
  | 0 => fun Q op a W cs Z g f h1 h2 _ _ _ _ _ _ _ => absurd h1 (by omega)
  | n + 1 => fun Q op a W cs Z g f h1 h2 h3 h4 h5 h6 h7 h8 hQ => by
    have hQ : Sum.elim _ _ (pz_bd (pz_pt K (pz_sm K n) op a) fun r => pz_smL K (pz_sm K n) op 401 r.1 r.2) := hQ
    refine pe_PART (pe_SUM_all K Z0 cb n) Q op a W cs Z g f (by omega) h2 h4 h5 ?_ (by omega) h7 h8 ?_
    · rcases h3 with e | ⟨r, e⟩
      · exact Or.inl e
      · exact Or.inr ⟨6, r, e, Or.inl rfl⟩
    · cases hu : pz_pt K (pz_sm K n) op a with
      | inl q => rw [hu] at hQ; exact hQ
      | inr r =>
        rw [hu] at hQ
        intro P cs' Z' g' f' s1 s2 s3 s4 s5 s6 s7 s8
        exact pe_SUML (pe_SUM_all K Z0 cb n) Q op a W cs (by omega) h2 h5 h3 h6 401 r.1 r.2 P cs' Z' g' f' (by omega) s1 (fun x hx => by have := s2 x hx; omega) (by omega) s4 s5 s6 s7 s8 hQ
