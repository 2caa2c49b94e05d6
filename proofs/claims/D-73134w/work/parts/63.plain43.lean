set_option maxRecDepth 100000
def pm_Pl (T : zt_T) (s : Nat) (V : pv_V) (Z : zm_S) : Prop := pm_T T s Z ∧ pm_P T V Z
def pm_h (Z Z' : zm_S) : Prop := Z'.1 = Z.1 ∧ (∀ k, k ≠ 59 → Z'.2.1 k = Z.2.1 k) ∧ Z'.2.2 = Z.2.2
theorem pm_h_k {Z Z' : zm_S} (h : pm_h Z Z') : pm_k Z Z' := ⟨fun k _ _ _ _ => by rw [h.1], fun k a => h.2.1 k (by omega), h.2.2⟩
theorem pm_Pl_h {T : zt_T} {s : Nat} {V : pv_V} {Z Z' : zm_S} (h : pm_h Z Z') (g : pm_Pl T s V Z) : pm_Pl T s V Z' := by
  obtain ⟨g1, g2, g3, g4⟩ := g
  refine ⟨pm_T_tx ⟨by rw [h.1], fun k q => h.2.1 k (by omega)⟩ g1, ?_, ?_, ?_⟩
  · rw [h.2.1 55 (by decide)]; exact g2
  · rw [h.2.1 56 (by decide)]; exact g3
  · rw [h.2.1 57 (by decide), h.2.1 58 (by decide)]; exact g4
theorem pm_Pl_g {T : zt_T} {s : Nat} {V : pv_V} {Z Z' : zm_S} (h : pm_g Z Z') (g : pm_Pl T s V Z) : pm_Pl T s V Z' := by
  obtain ⟨g1, g2, g3, g4⟩ := g
  refine ⟨pm_T_tx ⟨h.1 18 (by decide), fun k q => h.2.1 k (by omega)⟩ g1, ?_, ?_, ?_⟩
  · rw [h.2.1 55 (by decide)]; exact g2
  · rw [h.2.1 56 (by decide)]; exact g3
  · rw [h.2.1 57 (by decide), h.2.1 58 (by decide)]; exact g4
def pm_59 (T : zt_T) (jn : Nat → Nat → Int) (Z : zm_S) : Prop := ∀ a b, a < zt_n T → b < zt_n T → a ≠ b → Z.2.1 59 (6 * a + b) = pj (jn a b)
theorem pm_likesMost {T : zt_T} {s : Nat} {V : pv_V} {jn : Nat → Nat → Int} {Z : zm_S} (hT : pt_ok T) (hP : pm_Pl T s V Z) (h59 : pm_59 T jn Z) (x : Option Nat) (hx : ∀ z, x = some z → pp_pair (zt_n T) z) :
    ∃ Z', gm_likesMost Z (pp_I x) = some Z' ∧ pm_59 T (pp_o T V jn x) Z' ∧ pm_h Z Z' := by
  have hn := hT.1
  cases x with
  | none =>
    refine ⟨Z, ?_, h59, rfl, fun _ _ => rfl, rfl⟩
    unfold gm_likesMost
    rw [if_pos (by decide)]
  | some x =>
    obtain ⟨x1, x2, x3⟩ := hx x rfl
    have hlt : ¬ (x : Int) < 0 := by omega
    have hd : pj (x : Int) / pj 10 = pj ((x / 10 : Nat) : Int) := pj_divN (b := 10) (by omega) (by omega)
    have hr : zs_rem (pj (x : Int)) (pj 10) = pj ((x % 10 : Nat) : Int) := pj_remN (b := 10) (by omega) (by omega)
    have c1 := (hP.2.2.2 (x / 10) (x % 10) (by omega) x3 (by omega)).2
    have c2 := (hP.2.2.2 (x % 10) (x / 10) x3 (by omega) (by omega)).2
    have e1 : (6 : Int) * ((x / 10 : Nat) : Int) + ((x % 10 : Nat) : Int) = ((6 * (x / 10) + x % 10 : Nat) : Int) := by omega
    have e2 : (6 : Int) * ((x % 10 : Nat) : Int) + ((x / 10 : Nat) : Int) = ((6 * (x % 10) + x / 10 : Nat) : Int) := by omega
    have c2' : ∀ u v, (zm_sA Z 59 u v).2.1 58 (6 * (x % 10) + x / 10) = pj (pv_joins T V (x % 10) (x / 10) 9) := fun u v => by rw [pm_sAn (by decide)]; exact c2
    refine ⟨zm_sA (zm_sA Z 59 (pj ((6 * (x / 10) + x % 10 : Nat) : Int)) (pj (pv_joins T V (x / 10) (x % 10) 9))) 59 (pj ((6 * (x % 10) + x / 10 : Nat) : Int)) (pj (pv_joins T V (x % 10) (x / 10) 9)), ?_, fun a b ha hb hab => ?_, rfl, fun k hk => ?_, rfl⟩
    · show gm_likesMost Z (pj x) = _
      unfold gm_likesMost
      simp (disch := omega) only [pj_lit, pj_add, pj_sub, pj_neg, pj_mul, pj_lt, pj_eq, pj_nat, pj_ald, pj_ast, pj_ix, pw_bind, pw_ite, pw_some, pw_none, pw_let, Option.bind_some, Int.toNat_natCast, Sum.elim_inl, Sum.elim_inr, Int.cast_ofNat_Int, Int.reduceLT, Int.reduceLE, Int.reduceEq, Int.reduceAdd, Int.reduceSub, Int.reduceMul, Int.reduceNeg, Int.reduceToNat, Nat.reduceAdd, Nat.reduceSub, Nat.reduceMul, Nat.reduceEqDiff, Nat.reduceLT, reduceIte, reduceCtorEq, true_and, and_true, forall_const, not_true_eq_false, not_false_eq_true, false_implies, implies_true, hlt, hd, hr, e1, c1, e2, c2']
    · rw [pm_sAs, pj_upd, pj_nat (by omega), Int.toNat_natCast, pm_sAs, pj_upd, pj_nat (by omega), Int.toNat_natCast]
      show _ = pj (po_fr T V jn x a b)
      unfold po_fr
      by_cases d1 : a = x % 10 ∧ b = x / 10
      · rw [if_pos (by omega), if_pos (Or.inr d1), d1.1, d1.2]
      · rw [if_neg (by omega)]
        by_cases d2 : a = x / 10 ∧ b = x % 10
        · rw [if_pos (by omega), if_pos (Or.inl d2), d2.1, d2.2]
        · rw [if_neg (by omega), if_neg (fun q => q.elim d2 d1)]
          exact h59 a b ha hb hab
    · rw [pm_sAn hk, pm_sAn hk]
theorem pp_o_bd {T : zt_T} {V : pv_V} {jn : Nat → Nat → Int} (h : ∀ a b, a < 6 → b < 6 → 0 ≤ jn a b ∧ jn a b ≤ 999) (x : Option Nat) : ∀ a b, a < 6 → b < 6 → 0 ≤ pp_o T V jn x a b ∧ pp_o T V jn x a b ≤ 999 := by
  cases x with
  | none => exact h
  | some x => exact po_fr_bd h x
theorem pm_isPeaceOf {T : zt_T} {s : Nat} {V : pv_V} {Z : zm_S} (hT : pt_ok T) (ho : pv_ok (zt_n T) V) (hP : pm_Pl T s V Z) {w : Int} (hw : 0 ≤ w ∧ w ≤ 999) (x y : Option Nat) (hx : ∀ z, x = some z → pp_pair (zt_n T) z) (hy : ∀ z, y = some z → pp_pair (zt_n T) z) :
    pw (gm_isPeace Z (pj w) (pp_I x) (pp_I y)) (fun p => (p.1 = true ↔ pp_PP T V w x y) ∧ pm_Pl T s V p.2 ∧ pm_k Z p.2) := by
  have hn := hT.1
  have l1 : ∀ (Z' : zm_S) (k : Nat), Z'.1 = Z.1 → Z'.2.2 = Z.2.2 → (∀ k, k ≠ 59 → Z'.2.1 k = Z.2.1 k) → k < 36 → gm_isPeace_L3 (pj k, Z') = some (Sum.inl (pj ((k : Int) + 1), zm_sA Z' 59 (pj ((0 + k : Nat) : Int)) (Z'.2.1 57 k))) := by
    intro Z' k _ _ _ hk
    have hk' : (k : Int) < 36 := by omega
    unfold gm_isPeace_L3
    simp (disch := omega) only [pj_lit, pj_add, pj_sub, pj_neg, pj_mul, pj_lt, pj_eq, pj_nat, pj_ald, pj_ast, pj_ix, pw_bind, pw_ite, pw_some, pw_none, pw_let, Option.bind_some, Int.toNat_natCast, Sum.elim_inl, Sum.elim_inr, Int.cast_ofNat_Int, Int.reduceLT, Int.reduceLE, Int.reduceEq, Int.reduceAdd, Int.reduceSub, Int.reduceMul, Int.reduceNeg, Int.reduceToNat, Nat.reduceAdd, Nat.reduceSub, Nat.reduceMul, Nat.reduceEqDiff, Nat.reduceLT, reduceIte, reduceCtorEq, true_and, and_true, forall_const, not_true_eq_false, not_false_eq_true, false_implies, implies_true, hk']
    rw [Nat.zero_add]
  have l2 : ∀ Z' : zm_S, Z'.1 = Z.1 → Z'.2.2 = Z.2.2 → (∀ k, k ≠ 59 → Z'.2.1 k = Z.2.1 k) → gm_isPeace_L3 (pj (36 : Nat), Z') = some (Sum.inr Z') := by
    intro Z' _ _ _
    unfold gm_isPeace_L3
    simp (disch := omega) only [pj_lit, pj_add, pj_sub, pj_neg, pj_mul, pj_lt, pj_eq, pj_nat, pj_ald, pj_ast, pj_ix, pw_bind, pw_ite, pw_some, pw_none, pw_let, Option.bind_some, Int.toNat_natCast, Sum.elim_inl, Sum.elim_inr, Int.cast_ofNat_Int, Int.reduceLT, Int.reduceLE, Int.reduceEq, Int.reduceAdd, Int.reduceSub, Int.reduceMul, Int.reduceNeg, Int.reduceToNat, Nat.reduceAdd, Nat.reduceSub, Nat.reduceMul, Nat.reduceEqDiff, Nat.reduceLT, reduceIte, reduceCtorEq, true_and, and_true, forall_const, not_true_eq_false, not_false_eq_true, false_implies, implies_true, Int.lt_irrefl]
  obtain ⟨Z1, e, q1, q2, q3, q4⟩ := pm_cploop (b := gm_isPeace_L3) (N := 36) (dst := 59) (g := fun Z x => Z.2.1 57 x) Z 0 (by omega) (by omega) (fun Z' _ _ h x _ _ => by show Z'.2.1 57 x = _; rw [h 57 (by decide)]) l1 l2
  have hh1 : pm_h Z Z1 := ⟨q1, q3, q2⟩
  have h59 : pm_59 T (po_jn T V) Z1 := fun a b ha hb hab => by rw [q4, if_pos (by omega), Nat.sub_zero]; exact (hP.2.2.2 a b ha hb hab).1
  have hjb : ∀ a b, a < 6 → b < 6 → 0 ≤ po_jn T V a b ∧ po_jn T V a b ≤ 999 := fun a b ha hb => pv_joins_bd T V a b (hT.2.2.1 a b ha hb)
  obtain ⟨Z2, e2, g2, hh2⟩ := pm_likesMost hT (pm_Pl_h hh1 hP) h59 x hx
  have hP2 := pm_Pl_h hh2 (pm_Pl_h hh1 hP)
  obtain ⟨Z3, e3, g3, hh3⟩ := pm_likesMost hT hP2 g2 y hy
  have hP3 := pm_Pl_h hh3 hP2
  have hB : pm_B T s V (pp_o T V (pp_o T V (po_jn T V) x) y) Z3 := ⟨hP3.1, hP3.2.1, hP3.2.2.1, g3, pp_o_bd (pp_o_bd hjb x) y⟩
  have hpN := po_pk_N (po_PT T V (pp_o T V (pp_o T V (po_jn T V) x) y)) (w := w) hw.1
  have hpg := po_pk_ge (po_PT T V (pp_o T V (pp_o T V (po_jn T V) x) y))
  have hpl := po_pk_le (po_PT T V (pp_o T V (pp_o T V (po_jn T V) x) y))
  have hk3 := pm_k_trans (pm_h_k hh1) (pm_k_trans (pm_h_k hh2) (pm_h_k hh3))
  unfold gm_isPeace
  rw [pj_0, e, Option.bind_some, e2, Option.bind_some, e3, Option.bind_some]
  refine pw_seq (pm_peakOf hT ho hB) (fun p hp => ?_)
  obtain ⟨p1, p2⟩ := hp
  have hP4 := pm_Pl_g p2 hP3
  have hk4 := pm_k_trans hk3 (pm_g_k p2)
  rw [p1]
  unfold pp_PP pp_P
  rw [← hpN]
  by_cases c : po_pk (po_PT T V (pp_o T V (pp_o T V (po_jn T V) x) y)) < w
  · rw [if_pos ((pj_lt (by omega) (by omega)).2 c), pw_some]
    exact ⟨⟨fun q => (by cases q), fun q => absurd q (by omega)⟩, hP4, hk4⟩
  · rw [if_neg (fun q => c ((pj_lt (by omega) (by omega)).1 q)), pw_some]
    exact ⟨⟨fun q => by omega, fun _ => rfl⟩, hP4, hk4⟩
theorem pm_isPair {T : zt_T} {s : Nat} {Z : zm_S} (hT : pt_ok T) (hm : pm_T T s Z) {x : Nat} (hx : x < 60) : gm_isPair Z (pj x) = some (decide (x / 10 < x % 10 ∧ x % 10 < zt_n T)) := by
  have hn := hT.1
  have hd : pj (x : Int) / pj 10 = pj ((x / 10 : Nat) : Int) := pj_divN (b := 10) (by omega) (by omega)
  have hr : zs_rem (pj (x : Int)) (pj 10) = pj ((x % 10 : Nat) : Int) := pj_remN (b := 10) (by omega) (by omega)
  have hh : gm_isHouse Z (pj ((x % 10 : Nat) : Int)) = some (decide (x % 10 < zt_n T)) := by
    rw [pm_isHouse hT hm, pj_toInt (by omega)]
    congr 2
    exact propext ⟨fun h => by omega, fun h => by omega⟩
  unfold gm_isPair
  simp (disch := omega) only [pj_lit, pj_add, pj_sub, pj_neg, pj_mul, pj_lt, pj_eq, pj_nat, pj_ald, pj_ast, pj_ix, pw_bind, pw_ite, pw_some, pw_none, pw_let, Option.bind_some, Int.toNat_natCast, Sum.elim_inl, Sum.elim_inr, Int.cast_ofNat_Int, Int.reduceLT, Int.reduceLE, Int.reduceEq, Int.reduceAdd, Int.reduceSub, Int.reduceMul, Int.reduceNeg, Int.reduceToNat, Nat.reduceAdd, Nat.reduceSub, Nat.reduceMul, Nat.reduceEqDiff, Nat.reduceLT, reduceIte, reduceCtorEq, true_and, and_true, forall_const, not_true_eq_false, not_false_eq_true, false_implies, implies_true, hd, hr, hh, decide_eq_true_eq]
  by_cases c1 : x / 10 < x % 10
  · have c1' : ((x / 10 : Nat) : Int) < ((x % 10 : Nat) : Int) := by omega
    rw [if_pos c1']
    by_cases c2 : x % 10 < zt_n T
    · rw [if_pos c2, decide_eq_true ⟨c1, c2⟩]
    · rw [if_neg c2, decide_eq_false (fun q => c2 q.2)]
  · have c1' : ¬ ((x / 10 : Nat) : Int) < ((x % 10 : Nat) : Int) := by omega
    rw [if_neg c1', decide_eq_false (fun q => c1 q.1)]
theorem pm_peace {T : zt_T} {s : Nat} {Z : zm_S} {V : pv_V} (hT : pt_ok T) (hm : pm_T T s Z) (ho : pv_ok (zt_n T) V) (hrow : pv_row (Z.2.1 47) V) {w : Int} (hw : 0 ≤ w ∧ w ≤ 999) (what : Int32) (hwh : 0 ≤ what.toInt ∧ what.toInt ≤ 2) :
    pw (gm_peace Z (pj w) what) (fun p => pp_RR T V w what p.1 ∧ pm_k Z p.2) := by
  have hn := hT.1
  obtain ⟨Z1, eZ, hc⟩ := pm_copies hm ho hrow
  have hk1 := pm_c_k hc
  obtain ⟨hm1, hr1, -⟩ := hc
  have by0 : ∀ (Z2 : zm_S) (a b c : Int32), (if what = 0 then (some (a, Z2)) else (if what = 1 then (some (b, Z2)) else (some (c, Z2)))) = some (pp_by what a b c, Z2) := by
    intro Z2 a b c
    unfold pp_by
    split
    · rfl
    · split <;> rfl
  unfold gm_peace
  rw [pm_weight, pj_toInt (by omega), decide_eq_true hw, Option.bind_some, if_pos rfl]
  rw [show gm_in what 0 2 = some (decide (0 ≤ what.toInt ∧ what.toInt ≤ 2)) from pm_isIn (lo := 0) (hi := 2) what (by omega) (by omega), decide_eq_true hwh, Option.bind_some, if_pos rfl, eZ, Option.bind_some]
  refine pw_seq (pm_plan hT hm1 hr1 ho) (fun Z2 h2 => ?_)
  obtain ⟨hB, hPP, hq⟩ := h2
  have hP2 : pm_Pl T s V Z2 := ⟨hB.1, hPP⟩
  have hk2 := pm_k_trans hk1 (pm_q_k hq)
  have pz : ∀ (Z' : zm_S) (x y : Option Nat), pm_Pl T s V Z' → pm_k Z Z' → (∀ z, x = some z → pp_pair (zt_n T) z) → (∀ z, y = some z → pp_pair (zt_n T) z) → pw (gm_isPeace Z' (pj w) (pp_I x) (pp_I y)) (fun p => (p.1 = true ↔ pp_PP T V w x y) ∧ pm_Pl T s V p.2 ∧ pm_k Z p.2) := fun Z' x y hP hk hx hy =>
    pw_mono (pm_isPeaceOf hT ho hP hw x y hx hy) (fun p hp => ⟨hp.1, hp.2.1, pm_k_trans hk hp.2.2⟩)
  refine pw_seq (pz Z2 none none hP2 hk2 (fun z e => (by cases e)) (fun z e => (by cases e))) (fun p hp => ?_)
  obtain ⟨p1, p2, p3⟩ := hp
  by_cases c0 : p.1 = true
  · rw [if_pos c0]
    have : (if what = 0 then some ((0 : Int32), p.2) else some (-1, p.2)) = some (pp_by what 0 (-1) (-1), p.2) := by
      unfold pp_by
      split
      · rfl
      · split <;> rfl
    rw [this, pw_some]
    exact ⟨Or.inl ⟨p1.1 c0, rfl⟩, p3⟩
  · rw [if_neg c0]
    have hn0 : ¬ pp_PP T V w none none := fun q => c0 (p1.2 q)
    refine pw_seq (Q := fun s' => match s' with
      | Sum.inl M1 => pm_Pl T s V M1 ∧ pm_k Z M1 ∧ ∀ x, pp_pair (zt_n T) x → ¬ pp_PP T V w (some x) none
      | Sum.inr r => pp_RR T V w what r.1 ∧ pm_k Z r.2) ?_ ?_
    · refine pw_for 60 (fun k t => ∃ M', t = (pj (k : Nat), M') ∧ pm_Pl T s V M' ∧ pm_k Z M' ∧ ∀ x, x < k → pp_pair (zt_n T) x → ¬ pp_PP T V w (some x) none) 5000 (by omega) ?_ ?_ _ ⟨p.2, rfl, p2, p3, fun i hi => absurd hi (Nat.not_lt_zero i)⟩
      · rintro k t hk ⟨M1, rfl, h0, h1, h2⟩
        have hlt : (k : Int) < 60 := by omega
        unfold gm_peace_L48
        dsimp only
        have hltk : pj (k : Int) < 60 := (pj_lt (b := 60) (by omega) (by omega)).2 hlt
        rw [if_pos hltk, pm_isPair hT h0.1 hk, Option.bind_some, pw_let, pj_succ]
        by_cases d : k / 10 < k % 10 ∧ k % 10 < zt_n T
        · rw [decide_eq_true d, if_pos rfl]
          have hpk : pp_pair (zt_n T) k := ⟨hk, d⟩
          refine pw_seq (pz M1 (some k) none h0 h1 (fun z e => by injection e with e; rw [← e]; exact hpk) (fun z e => (by cases e))) (fun q hq => ?_)
          obtain ⟨q1, q2, q3⟩ := hq
          by_cases c : q.1 = true
          · rw [if_pos c]
            have : (if what = 0 then (some (Sum.inr (Sum.inr ((1 : Int32), q.2))) : Option ((Int32 × zm_S) ⊕ ((zm_S) ⊕ (Int32 × zm_S)))) else (if what = 1 then (some (Sum.inr (Sum.inr (pj (k : Int), q.2)))) else (some (Sum.inr (Sum.inr ((-1), q.2)))))) = some (Sum.inr (Sum.inr (pp_by what 1 (pj (k : Int)) (-1), q.2))) := by
              unfold pp_by
              split
              · rfl
              · split <;> rfl
            rw [this, pw_some]
            exact ⟨Or.inr (Or.inl ⟨hn0, k, hpk, q1.1 c, fun y hy hlty => h2 y hlty hy, rfl⟩), q3⟩
          · rw [if_neg c, pw_some]
            refine ⟨q.2, rfl, q2, q3, fun x hx hpx => ?_⟩
            by_cases e : x = k
            · rw [e]; exact fun z => c (q1.2 z)
            · exact h2 x (by omega) hpx
        · rw [decide_eq_false d, if_neg (by decide), pw_some]
          refine ⟨M1, rfl, h0, h1, fun x hx hpx => ?_⟩
          by_cases e : x = k
          · rw [e] at hpx; exact absurd hpx.2 d
          · exact h2 x (by omega) hpx
      · rintro t ⟨M1, rfl, h0, h1, h2⟩
        unfold gm_peace_L48
        simp (disch := omega) only [pj_lit, pj_add, pj_sub, pj_neg, pj_mul, pj_lt, pj_eq, pj_nat, pj_ald, pj_ast, pj_ix, pw_bind, pw_ite, pw_some, pw_none, pw_let, Option.bind_some, Int.toNat_natCast, Sum.elim_inl, Sum.elim_inr, Int.cast_ofNat_Int, Int.reduceLT, Int.reduceLE, Int.reduceEq, Int.reduceAdd, Int.reduceSub, Int.reduceMul, Int.reduceNeg, Int.reduceToNat, Nat.reduceAdd, Nat.reduceSub, Nat.reduceMul, Nat.reduceEqDiff, Nat.reduceLT, reduceIte, reduceCtorEq, true_and, and_true, forall_const, not_true_eq_false, not_false_eq_true, false_implies, implies_true, Int.lt_irrefl]
        exact ⟨h0, h1, fun x hx => h2 x hx.1 hx⟩
    · intro r hr
      cases r with
      | inr z => exact (pw_some _ _).2 hr
      | inl M1 =>
        obtain ⟨h0, h1, h2⟩ := hr
        refine pw_seq (Q := fun s' => match s' with
          | Sum.inl (u : Int32 × Int32 × zm_S) => False
          | Sum.inr r => pp_RR T V w what r.1 ∧ pm_k Z r.2) ?_ ?_
        · refine pw_for 60 (fun k t => ∃ M', t = (pj (k : Nat), M') ∧ pm_Pl T s V M' ∧ pm_k Z M' ∧ ∀ x y, x < k → x < y → pp_pair (zt_n T) x → pp_pair (zt_n T) y → ¬ pp_PP T V w (some x) (some y)) 5000 (by omega) ?_ ?_ _ ⟨M1, rfl, h0, h1, fun i j hi => absurd hi (Nat.not_lt_zero i)⟩
          · rintro k t hk ⟨M2, rfl, g0, g1, g2⟩
            have hlt : (k : Int) < 60 := by omega
            unfold gm_peace_L99
            dsimp only
            have hltk : pj (k : Int) < 60 := (pj_lt (b := 60) (by omega) (by omega)).2 hlt
            rw [if_pos hltk, pj_succ, Option.bind_some]
            refine pw_seq (Q := fun s' => match s' with
              | Sum.inl M3 => pm_Pl T s V M3 ∧ pm_k Z M3 ∧ (pp_pair (zt_n T) k → ∀ y, k < y → pp_pair (zt_n T) y → ¬ pp_PP T V w (some k) (some y))
              | Sum.inr r => pp_RR T V w what r.1 ∧ pm_k Z r.2) ?_ ?_
            · refine pw_for (60 - (k + 1)) (fun m t => ∃ M', t = (pj ((k + 1 + m : Nat) : Int), M') ∧ pm_Pl T s V M' ∧ pm_k Z M' ∧ (pp_pair (zt_n T) k → ∀ y, k < y → y < k + 1 + m → pp_pair (zt_n T) y → ¬ pp_PP T V w (some k) (some y))) 5000 (by omega) ?_ ?_ _ ⟨M2, rfl, g0, g1, fun _ y a b => by omega⟩
              · rintro m t hm ⟨M3, rfl, i0, i1, i2⟩
                have hml : k + 1 + m < 60 := by omega
                have hlt2 : ((k + 1 + m : Nat) : Int) < 60 := by omega
                unfold gm_peace_L110
                dsimp only
                have hltk : pj ((k + 1 + m : Nat) : Int) < 60 := (pj_lt (b := 60) (by omega) (by omega)).2 hlt2
                rw [if_pos hltk, pm_isPair hT i0.1 hk, Option.bind_some, pm_isPair hT i0.1 hml]
                by_cases d : k / 10 < k % 10 ∧ k % 10 < zt_n T
                · rw [decide_eq_true d, if_pos rfl, Option.bind_some, pw_let, pj_succ]
                  have hpk : pp_pair (zt_n T) k := ⟨hk, d⟩
                  by_cases d2 : (k + 1 + m) / 10 < (k + 1 + m) % 10 ∧ (k + 1 + m) % 10 < zt_n T
                  · rw [decide_eq_true d2, if_pos rfl]
                    have hpm : pp_pair (zt_n T) (k + 1 + m) := ⟨hml, d2⟩
                    refine pw_seq (pz M3 (some k) (some (k + 1 + m)) i0 i1 (fun z e => by injection e with e; rw [← e]; exact hpk) (fun z e => by injection e with e; rw [← e]; exact hpm)) (fun q hq => ?_)
                    obtain ⟨q1, q2, q3⟩ := hq
                    by_cases c : q.1 = true
                    · rw [if_pos c]
                      have : (if what = 0 then (some (Sum.inr (Sum.inr ((2 : Int32), q.2))) : Option ((Int32 × zm_S) ⊕ ((zm_S) ⊕ (Int32 × zm_S)))) else (if what = 1 then (some (Sum.inr (Sum.inr (pj (k : Int), q.2)))) else (some (Sum.inr (Sum.inr (pj ((k + 1 + m : Nat) : Int), q.2)))))) = some (Sum.inr (Sum.inr (pp_by what 2 (pj (k : Int)) (pj ((k + 1 + m : Nat) : Int)), q.2))) := by
                        unfold pp_by
                        split
                        · rfl
                        · split <;> rfl
                      rw [this, pw_some]
                      refine ⟨Or.inr (Or.inr (Or.inl ⟨hn0, h2, k, k + 1 + m, hpk, hpm, by omega, q1.1 c, fun x' y' hx' hy' hxy hlex => ?_, rfl⟩)), q3⟩
                      rcases hlex with c1 | ⟨c1, c2⟩
                      · exact g2 x' y' c1 hxy hx' hy'
                      · rw [c1]; exact i2 hpk y' (by omega) c2 hy'
                    · rw [if_neg c, pw_some]
                      refine ⟨q.2, rfl, q2, q3, fun hp' y hy1 hy2 hpy => ?_⟩
                      by_cases e : y = k + 1 + m
                      · rw [e]; exact fun z => c (q1.2 z)
                      · exact i2 hp' y hy1 (by omega) hpy
                  · rw [decide_eq_false d2, if_neg (by decide), pw_some]
                    refine ⟨M3, rfl, i0, i1, fun hp' y hy1 hy2 hpy => ?_⟩
                    by_cases e : y = k + 1 + m
                    · rw [e] at hpy; exact absurd hpy.2 d2
                    · exact i2 hp' y hy1 (by omega) hpy
                · rw [decide_eq_false d, if_neg (by decide), pw_some]
                  exact ⟨i0, i1, fun hp' => absurd hp'.2 d⟩
              · rintro t ⟨M3, rfl, i0, i1, i2⟩
                have hlt2 : ¬ ((k + 1 + (60 - (k + 1)) : Nat) : Int) < 60 := by omega
                unfold gm_peace_L110
                simp (disch := omega) only [pj_lit, pj_add, pj_sub, pj_neg, pj_mul, pj_lt, pj_eq, pj_nat, pj_ald, pj_ast, pj_ix, pw_bind, pw_ite, pw_some, pw_none, pw_let, Option.bind_some, Int.toNat_natCast, Sum.elim_inl, Sum.elim_inr, Int.cast_ofNat_Int, Int.reduceLT, Int.reduceLE, Int.reduceEq, Int.reduceAdd, Int.reduceSub, Int.reduceMul, Int.reduceNeg, Int.reduceToNat, Nat.reduceAdd, Nat.reduceSub, Nat.reduceMul, Nat.reduceEqDiff, Nat.reduceLT, reduceIte, reduceCtorEq, true_and, and_true, forall_const, not_true_eq_false, not_false_eq_true, false_implies, implies_true, hlt2]
                exact ⟨i0, i1, fun hp' y hy1 hpy => i2 hp' y hy1 (by have := hpy.1; omega) hpy⟩
            · intro r hr
              cases r with
              | inr z => exact (pw_some _ _).2 hr
              | inl M3 =>
                obtain ⟨i0, i1, i2⟩ := hr
                refine (pw_some _ _).2 ⟨M3, rfl, i0, i1, fun x y hx hxy hpx hpy => ?_⟩
                by_cases e : x = k
                · rw [e] at hpx hxy ⊢; exact i2 hpx y hxy hpy
                · exact g2 x y (by omega) hxy hpx hpy
          · rintro t ⟨M2, rfl, g0, g1, g2⟩
            unfold gm_peace_L99
            simp (disch := omega) only [pj_lit, pj_add, pj_sub, pj_neg, pj_mul, pj_lt, pj_eq, pj_nat, pj_ald, pj_ast, pj_ix, pw_bind, pw_ite, pw_some, pw_none, pw_let, Option.bind_some, Int.toNat_natCast, Sum.elim_inl, Sum.elim_inr, Int.cast_ofNat_Int, Int.reduceLT, Int.reduceLE, Int.reduceEq, Int.reduceAdd, Int.reduceSub, Int.reduceMul, Int.reduceNeg, Int.reduceToNat, Nat.reduceAdd, Nat.reduceSub, Nat.reduceMul, Nat.reduceEqDiff, Nat.reduceLT, reduceIte, reduceCtorEq, true_and, and_true, forall_const, not_true_eq_false, not_false_eq_true, false_implies, implies_true, Int.lt_irrefl]
            exact ⟨Or.inr (Or.inr (Or.inr ⟨hn0, h2, fun x y hx hy hxy => g2 x y hx.1 hxy hx hy, rfl⟩)), g1⟩
        · intro r hr
          cases r with
          | inl u => exact hr.elim
          | inr z => exact (pw_some _ _).2 hr
theorem pq_peace {T : zt_T} {M : cs_S} {Z : zm_S} {s : Nat} {V : pv_V} {H : List pv_V} {at_ : Nat} (h : pr_R0 T M Z s V H at_) (a what : Int32) :
    pw (gh_peace T M a what) (fun p => pw (gm_peace Z a what) (fun q => p.1 = q.1 ∧ pr_R T p.2 q.2)) := by
  obtain ⟨hT, hm, ho, hV, hsd, hrow, -, -, -, -, -, -, h0⟩ := id h
  by_cases hh : 0 ≤ a.toInt ∧ a.toInt ≤ 999
  · by_cases h2 : 0 ≤ what.toInt ∧ what.toInt ≤ 2
    · generalize hw : a.toInt = w at hh
      obtain rfl : a = pj w := by rw [← hw, pj_of]
      exact pw_mono (pc_peace hT hV ho h0 hh what h2) (fun p hp => pw_mono (pm_peace hT hm ho hrow hh what h2) (fun q hq => ⟨pp_R_uniq hp.1 hq.1, s, V, H, at_, pr_R_k hp.2 hq.2 h⟩))
    · unfold gh_peace gm_peace
      rw [pc_haulw, pm_weight, decide_eq_true hh, Option.bind_some, Option.bind_some, if_pos rfl, if_pos rfl]
      rw [show gh_isIn what 0 2 = some (decide (0 ≤ what.toInt ∧ what.toInt ≤ 2)) from pc_isIn (lo := 0) (hi := 2) what (by omega) (by omega), show gm_in what 0 2 = some (decide (0 ≤ what.toInt ∧ what.toInt ≤ 2)) from pm_isIn (lo := 0) (hi := 2) what (by omega) (by omega), decide_eq_false h2, Option.bind_some, Option.bind_some, if_neg (by decide), if_neg (by decide), pw_some, pw_some]
      exact ⟨rfl, s, V, H, at_, h⟩
  · unfold gh_peace gm_peace
    rw [pc_haulw, pm_weight, decide_eq_false hh, Option.bind_some, Option.bind_some, if_neg (by decide), if_neg (by decide), pw_some, pw_some]
    exact ⟨rfl, s, V, H, at_, h⟩
/-! needed -/
/-- a row holds and reaches -/
def po_gd (P : po_P) (w : Int) (o : List Nat) : Prop := o ∈ po_all ∧ po_ok P w o = true ∧ P.2.2.2 ≤ po_sum P o
theorem po_gd_lst (P : po_P) {w : Int} (h0 : 0 ≤ w) (hw : w ≤ 999) {o : List Nat} : po_gd P w o ↔ o ∈ po_lst (po_H P) ∧ w ≤ po_sp P o := by
  unfold po_gd po_lst
  rw [List.mem_filter]
  constructor
  · rintro ⟨a, b⟩
    have := (po_iff P h0 hw o).2 b
    exact ⟨⟨a, (po_in_iff P a).2 this.1⟩, this.2⟩
  · rintro ⟨⟨a, b⟩, c⟩
    exact ⟨a, (po_iff P h0 hw o).1 ⟨(po_in_iff P a).1 b, c⟩⟩
def po_nd (P : po_P) (w : Int) (r : Int32) : Prop := ((¬ ∃ o, po_gd P w o) ∧ r = -2) ∨ ((∃ o, po_gd P w o) ∧ ∃ A : Nat, A < 64 ∧ r = pj A ∧ ∀ i, i < 6 → (A.testBit i = true ↔ ∀ o, po_gd P w o → (po_set o).testBit i = true))
theorem po_tb64 {A i : Nat} (h : A < 64) (hi : 6 ≤ i) : A.testBit i = false := by
  cases q : A.testBit i with
  | false => rfl
  | true => have := po_tb_lt (n := 6) h q; omega
theorem po_nd_uniq {P : po_P} {w : Int} {r q : Int32} (h : po_nd P w r) (g : po_nd P w q) : r = q := by
  rcases h with ⟨a1, a2⟩ | ⟨a1, A, a2, a3, a4⟩
  · rcases g with ⟨b1, b2⟩ | ⟨b1, _⟩
    · rw [a2, b2]
    · exact absurd b1 a1
  · rcases g with ⟨b1, b2⟩ | ⟨b1, B, b2, b3, b4⟩
    · exact absurd a1 b1
    · have : A = B := by
        apply Nat.eq_of_testBit_eq
        intro i
        by_cases hi : i < 6
        · have h1 := a4 i hi
          have h2 := b4 i hi
          have h3 : A.testBit i = true ↔ B.testBit i = true := h1.trans h2.symm
          cases hA : A.testBit i <;> cases hB : B.testBit i <;> simp_all
        · rw [po_tb64 a2 (by omega), po_tb64 b2 (by omega)]
      rw [a3, b3, this]
theorem po_set_app : ∀ (a b : List Nat), po_set (a ++ b) = po_set a ||| po_set b
  | [], b => by rw [List.nil_append]; show _ = 0 ||| _; rw [Nat.zero_or]
  | x :: a, b => by
    show 1 <<< x ||| po_set (a ++ b) = (1 <<< x ||| po_set a) ||| po_set b
    rw [po_set_app a b, Nat.or_assoc]
theorem pc_needed {T : zt_T} {M : cs_S} {V : pv_V} (hT : pt_ok T) (hV : pc_V M 0 V) (ho : pv_ok (zt_n T) V) (h0 : M.2 0 16 0 = pj 0) {w : Int} (hw : 0 ≤ w ∧ w ≤ 999) :
    pw (gh_needed T M (pj w)) (fun p => po_nd (po_PT T V (po_jn T V)) w p.1 ∧ pc_k M p.2) := by
  have hn := hT.1
  have hp := po_pow hn
  have hbd : ∀ x, x < 6 → 0 ≤ (po_PT T V (po_jn T V)).1 x ∧ (po_PT T V (po_jn T V)).1 x ≤ 99 := fun x hx => pv_lg_bd ho hx
  have hz : ∀ x, zt_n T ≤ x → x < 6 → (po_PT T V (po_jn T V)).1 x = 0 := fun x h1 h2 => pv_lg_no ho h1 h2
  have hgS : ∀ o, po_gd (po_PT T V (po_jn T V)) w o → po_set o < 2 ^ zt_n T ∧ 0 < po_set o ∧ 0 < po_rch (po_PT T V (po_jn T V)) w (po_set o) := by
    intro o hg
    have h64 := (po_F0 hg.1).1
    have h1 := (po_rch_pos (po_PT T V (po_jn T V)) w h64).2 ⟨o, hg.1, rfl, hg.2.1, hg.2.2⟩
    refine ⟨?_, ?_, h1⟩
    · by_cases c : po_set o < 2 ^ zt_n T
      · exact c
      · rw [po_rch_no hz hn h64 (by omega)] at h1; omega
    · by_cases c : po_set o = 0
      · rw [c, po_rch_0 hT.2.2.2.1.1] at h1; omega
      · omega
  unfold gh_needed
  rw [pc_haulw, pj_toInt (by omega), decide_eq_true hw, Option.bind_some, if_pos rfl, po_all2 _ hT, Option.bind_some, Option.bind_some]
  refine pw_seq (pc_laysJoins hT hV ho (by omega)) (fun M1 h1 => ?_)
  obtain ⟨hJ, hj⟩ := h1
  have hk := pc_j_k hj
  refine pw_seq (pc_laysWays hT (pc_V_j (by omega) hj hV) ho (by omega) hJ (hk.2.2.trans h0) hw) (fun M2 h2 => ?_)
  obtain ⟨hW, hd⟩ := h2
  have hk2 := pc_k_trans hk (pc_d_k hd)
  have e1 : pj ((2 ^ zt_n T : Nat) : Int) - 1 = pj ((2 ^ zt_n T - 1 : Nat) : Int) := by rw [pj_1, pj_sub]; congr 1; omega
  rw [e1]
  refine pw_seq (Q := fun r : Int32 × Int32 => ∃ A : Nat, A < 64 ∧ r.1 = pj A ∧ (∀ i, i < 6 → (A.testBit i = true ↔ i < zt_n T ∧ ∀ S, S < 2 ^ zt_n T → 0 < S → 0 < po_rch (po_PT T V (po_jn T V)) w S → S.testBit i = true)) ∧ ((r.2 = 0 ∧ ∀ S, S < 2 ^ zt_n T → 0 < S → ¬ 0 < po_rch (po_PT T V (po_jn T V)) w S) ∨ (r.2 = 1 ∧ ∃ S, S < 2 ^ zt_n T ∧ 0 < S ∧ 0 < po_rch (po_PT T V (po_jn T V)) w S))) ?_ ?_
  · refine pw_for (2 ^ zt_n T - 1) (fun k t => ∃ (A : Nat) (y : Int32), t = (pj A, y, pj ((k + 1 : Nat) : Int)) ∧ A < 64 ∧ (∀ i, i < 6 → (A.testBit i = true ↔ i < zt_n T ∧ ∀ S, S < k + 1 → 0 < S → 0 < po_rch (po_PT T V (po_jn T V)) w S → S.testBit i = true)) ∧ ((y = 0 ∧ ∀ S, S < k + 1 → 0 < S → ¬ 0 < po_rch (po_PT T V (po_jn T V)) w S) ∨ (y = 1 ∧ ∃ S, S < k + 1 ∧ 0 < S ∧ 0 < po_rch (po_PT T V (po_jn T V)) w S))) 5000 (by omega) ?_ ?_ _ ⟨2 ^ zt_n T - 1, 0, rfl, by omega, fun i hi => ?_, Or.inl ⟨rfl, fun S a b => by omega⟩⟩
    · rintro k t hk3 ⟨A, y, rfl, a1, a2, a3⟩
      have hlt : ((k + 1 : Nat) : Int) < ((2 ^ zt_n T : Nat) : Int) := by omega
      have hr := pc_reaching hT (P := po_PT T V (po_jn T V)) rfl hbd hW (S := k + 1) (by omega) (by omega)
      have hle := po_rch_le (po_PT T V (po_jn T V)) w (S := k + 1) (by omega)
      unfold gh_needed_L38
      by_cases c : po_rch (po_PT T V (po_jn T V)) w (k + 1) = 0
      · have c' : ((po_rch (po_PT T V (po_jn T V)) w (k + 1) : Nat) : Int) = 0 := by omega
        simp (disch := omega) only [pj_lit, pj_add, pj_sub, pj_neg, pj_mul, pj_lt, pj_eq, pj_nat, pj_ald, pj_ast, pj_ix, pw_bind, pw_ite, pw_some, pw_none, pw_let, Option.bind_some, Int.toNat_natCast, Sum.elim_inl, Sum.elim_inr, Int.cast_ofNat_Int, Int.reduceLT, Int.reduceLE, Int.reduceEq, Int.reduceAdd, Int.reduceSub, Int.reduceMul, Int.reduceNeg, Int.reduceToNat, Nat.reduceAdd, Nat.reduceSub, Nat.reduceMul, Nat.reduceEqDiff, Nat.reduceLT, reduceIte, reduceCtorEq, true_and, and_true, forall_const, not_true_eq_false, not_false_eq_true, false_implies, implies_true, po_all2 _ hT, hlt, hr, c']
        refine ⟨A, y, by congr 1, a1, fun i hi => ?_, ?_⟩
        · rw [a2 i hi]
          refine ⟨fun q => ⟨q.1, fun S b1 b2 b3 => ?_⟩, fun q => ⟨q.1, fun S b1 b2 b3 => q.2 S (by omega) b2 b3⟩⟩
          by_cases e : S = k + 1
          · rw [e] at b3; omega
          · exact q.2 S (by omega) b2 b3
        · rcases a3 with ⟨b1, b2⟩ | ⟨b1, S, b2, b3, b4⟩
          · refine Or.inl ⟨b1, fun S d1 d2 d3 => ?_⟩
            by_cases e : S = k + 1
            · rw [e] at d3; omega
            · exact b2 S (by omega) d2 d3
          · exact Or.inr ⟨b1, S, by omega, b3, b4⟩
      · have c' : ¬ ((po_rch (po_PT T V (po_jn T V)) w (k + 1) : Nat) : Int) = 0 := by omega
        have hand := pj_and A a1 (k + 1) (by omega)
        simp (disch := omega) only [pj_lit, pj_add, pj_sub, pj_neg, pj_mul, pj_lt, pj_eq, pj_nat, pj_ald, pj_ast, pj_ix, pw_bind, pw_ite, pw_some, pw_none, pw_let, Option.bind_some, Int.toNat_natCast, Sum.elim_inl, Sum.elim_inr, Int.cast_ofNat_Int, Int.reduceLT, Int.reduceLE, Int.reduceEq, Int.reduceAdd, Int.reduceSub, Int.reduceMul, Int.reduceNeg, Int.reduceToNat, Nat.reduceAdd, Nat.reduceSub, Nat.reduceMul, Nat.reduceEqDiff, Nat.reduceLT, reduceIte, reduceCtorEq, true_and, and_true, forall_const, not_true_eq_false, not_false_eq_true, false_implies, implies_true, po_all2 _ hT, hlt, hr, c', hand]
        refine ⟨A &&& (k + 1), pj 1, by congr 2, Nat.and_lt_two_pow (n := 6) _ (show k + 1 < 64 by omega), fun i hi => ?_, Or.inr ⟨rfl, k + 1, by omega, by omega, by omega⟩⟩
        rw [Nat.testBit_and, Bool.and_eq_true, a2 i hi]
        constructor
        · rintro ⟨⟨q1, q2⟩, q3⟩
          refine ⟨q1, fun S b1 b2 b3 => ?_⟩
          by_cases e : S = k + 1
          · rw [e]; exact q3
          · exact q2 S (by omega) b2 b3
        · rintro ⟨q1, q2⟩
          exact ⟨⟨q1, fun S b1 b2 b3 => q2 S (by omega) b2 b3⟩, q2 (k + 1) (by omega) (by omega) (by omega)⟩
    · rintro t ⟨A, y, rfl, a1, a2, a3⟩
      have e : 2 ^ zt_n T - 1 + 1 = 2 ^ zt_n T := by omega
      rw [e] at a2 a3 ⊢
      unfold gh_needed_L38
      simp (disch := omega) only [pj_lit, pj_add, pj_sub, pj_neg, pj_mul, pj_lt, pj_eq, pj_nat, pj_ald, pj_ast, pj_ix, pw_bind, pw_ite, pw_some, pw_none, pw_let, Option.bind_some, Int.toNat_natCast, Sum.elim_inl, Sum.elim_inr, Int.cast_ofNat_Int, Int.reduceLT, Int.reduceLE, Int.reduceEq, Int.reduceAdd, Int.reduceSub, Int.reduceMul, Int.reduceNeg, Int.reduceToNat, Nat.reduceAdd, Nat.reduceSub, Nat.reduceMul, Nat.reduceEqDiff, Nat.reduceLT, reduceIte, reduceCtorEq, true_and, and_true, forall_const, not_true_eq_false, not_false_eq_true, false_implies, implies_true, po_all2 _ hT, Int.lt_irrefl]
      exact ⟨A, a1, rfl, a2, a3⟩
    · rw [Nat.testBit_two_pow_sub_one]
      simp only [decide_eq_true_eq]
      exact ⟨fun q => ⟨q, fun S b1 b2 => by omega⟩, fun q => q.1⟩
  · rintro ⟨x, y⟩ ⟨A, a1, a2, a3, a4⟩
    dsimp only at a2 a4 ⊢
    rcases a4 with ⟨b1, b2⟩ | ⟨b1, S, b2, b3, b4⟩
    · rw [if_pos b1, pw_some]
      refine ⟨Or.inl ⟨fun ⟨o, hg⟩ => ?_, rfl⟩, hk2⟩
      obtain ⟨s1, s2, s3⟩ := hgS o hg
      exact b2 _ s1 s2 s3
    · rw [if_neg (by rw [b1]; decide), pw_some]
      obtain ⟨o, o1, o2, o3, o4⟩ := (po_rch_pos (po_PT T V (po_jn T V)) w (by omega)).1 b4
      refine ⟨Or.inr ⟨⟨o, o1, o3, o4⟩, A, a1, a2, fun i hi => ?_⟩, hk2⟩
      rw [a3 i hi]
      constructor
      · rintro ⟨q1, q2⟩ o' hg
        obtain ⟨s1, s2, s3⟩ := hgS o' hg
        exact q2 _ s1 s2 s3
      · intro q
        refine ⟨?_, fun S' s1 s2 s3 => ?_⟩
        · have h1 := q o ⟨o1, o3, o4⟩
          rw [o2] at h1
          exact po_tb_lt b2 h1
        · obtain ⟨o', u1, u2, u3, u4⟩ := (po_rch_pos (po_PT T V (po_jn T V)) w (by omega)).1 s3
          rw [← u2]
          exact q o' ⟨u1, u3, u4⟩
def po_nf2 (P : po_P) (w : Int) (c : Option Nat) (o : List Nat) : Option Nat := if po_sp P o < w then c else some (match c with
  | none => po_set o
  | some A => A &&& po_set o)
theorem po_nf2_fold (P : po_P) (w : Int) : ∀ (l : List (List Nat)) (c : Option Nat), (∀ o ∈ l, po_set o < 64) → (∀ A, c = some A → A < 64) →
    (l.foldl (po_nf2 P w) c = none ↔ c = none ∧ ∀ o ∈ l, ¬ w ≤ po_sp P o) ∧ ∀ A, l.foldl (po_nf2 P w) c = some A → A < 64 ∧ ∀ i, (A.testBit i = true ↔ (∀ A0, c = some A0 → A0.testBit i = true) ∧ ∀ o ∈ l, w ≤ po_sp P o → (po_set o).testBit i = true)
  | [], c, _, hc => ⟨⟨fun h => ⟨h, fun o ho => (by cases ho)⟩, fun h => h.1⟩, fun A h => ⟨hc A h, fun i => ⟨fun q => ⟨fun A0 e => by rw [show List.foldl (po_nf2 P w) c [] = c from rfl] at h; rw [h] at e; injection e with e; rw [← e]; exact q, fun o ho => (by cases ho)⟩, fun q => q.1 A h⟩⟩⟩
  | x :: l, c, hl, hc => by
    have hx := hl x List.mem_cons_self
    have hc' : ∀ A, po_nf2 P w c x = some A → A < 64 := by
      intro A h
      unfold po_nf2 at h
      split at h
      · exact hc A h
      · cases c with
        | none => injection h with h; rw [← h]; exact hx
        | some A0 => injection h with h; rw [← h]; exact Nat.and_lt_two_pow (n := 6) _ hx
    have ih := po_nf2_fold P w l (po_nf2 P w c x) (fun o ho => hl o (List.mem_cons_of_mem _ ho)) hc'
    rw [List.foldl_cons]
    obtain ⟨ih1, ih2⟩ := ih
    refine ⟨?_, fun A h => ?_⟩
    · rw [ih1]
      unfold po_nf2
      by_cases d : po_sp P x < w
      · rw [if_pos d]
        constructor
        · rintro ⟨a, b⟩
          refine ⟨a, fun o ho => ?_⟩
          rcases List.mem_cons.1 ho with rfl | ho
          · omega
          · exact b o ho
        · rintro ⟨a, b⟩
          exact ⟨a, fun o ho => b o (List.mem_cons_of_mem _ ho)⟩
      · rw [if_neg d]
        constructor
        · rintro ⟨a, -⟩; cases a
        · rintro ⟨-, b⟩; exact absurd (b x List.mem_cons_self) (by omega)
    · obtain ⟨j1, j2⟩ := ih2 A h
      refine ⟨j1, fun i => ?_⟩
      rw [j2 i]
      unfold po_nf2
      by_cases d : po_sp P x < w
      · rw [if_pos d]
        constructor
        · rintro ⟨a, b⟩
          refine ⟨a, fun o ho hw => ?_⟩
          rcases List.mem_cons.1 ho with rfl | ho
          · omega
          · exact b o ho hw
        · rintro ⟨a, b⟩
          exact ⟨a, fun o ho => b o (List.mem_cons_of_mem _ ho)⟩
      · rw [if_neg d]
        cases c with
        | none =>
          constructor
          · rintro ⟨a, b⟩
            refine ⟨fun A0 e => (by cases e), fun o ho hw => ?_⟩
            rcases List.mem_cons.1 ho with rfl | ho
            · exact a _ rfl
            · exact b o ho hw
          · rintro ⟨-, b⟩
            exact ⟨fun A0 e => by injection e with e; rw [← e]; exact b x List.mem_cons_self (by omega), fun o ho => b o (List.mem_cons_of_mem _ ho)⟩
        | some A0 =>
          constructor
          · rintro ⟨a, b⟩
            have a' := a _ rfl
            rw [Nat.testBit_and, Bool.and_eq_true] at a'
            refine ⟨fun A1 e => by injection e with e; rw [← e]; exact a'.1, fun o ho hw => ?_⟩
            rcases List.mem_cons.1 ho with rfl | ho
            · exact a'.2
            · exact b o ho hw
          · rintro ⟨a, b⟩
            refine ⟨fun A1 e => ?_, fun o ho => b o (List.mem_cons_of_mem _ ho)⟩
            injection e with e
            rw [← e, Nat.testBit_and, Bool.and_eq_true]
            exact ⟨a A0 rfl, b x List.mem_cons_self (by omega)⟩
def po_oI : Option Nat → Int32
  | none => pj (-1)
  | some A => pj A
theorem pm_setOf {Z : zm_S} {o : List Nat} (b : Bool) (hO : pm_O Z o.reverse) : zs_loop 5000 (gm_needed_L47 (b, Z)) (pj 0, pj 0) = some (pj (po_set o : Nat)) := by
  obtain ⟨g1, g2, g3, g4⟩ := hO
  rw [List.reverse_reverse] at g4
  rw [List.length_reverse] at g1 g2
  have hlt6 : ∀ x ∈ o, x < 6 := fun x hx => g3 x (List.mem_reverse.2 hx)
  have := pw_forE (b := gm_needed_L47 (b, Z)) (r := pj (po_set o : Nat)) o.length (fun k => (pj (po_set (o.take k) : Nat), pj (k : Nat))) 5000 (by omega) ?_ ?_
  · exact this
  · intro k hk
    have hget : o[k]? = some o[k] := List.getElem?_eq_getElem hk
    have hx := hlt6 o[k] (List.getElem_mem hk)
    have hcell := g4 k _ hget
    have hlt : (k : Int) < (o.length : Nat) := by omega
    have ht : po_set (o.take (k + 1)) = po_set (o.take k) ||| 1 <<< o[k] := by
      rw [List.take_add_one, hget, po_set_app]
      show _ ||| (1 <<< o[k] ||| 0) = _
      rw [Nat.or_zero]
    have h64 : po_set (o.take k) < 64 := po_set_lt (n := 6) _ (fun x hx => hlt6 x (List.mem_of_mem_take hx))
    generalize o[k] = x at hx hcell ht
    have hsh : 1 <<< x < 64 := by rw [Nat.one_shiftLeft]; exact show 2 ^ x < 2 ^ 6 from Nat.pow_lt_pow_right (by omega) hx
    have hor := pj_or _ h64 _ hsh
    unfold gm_needed_L47
    simp (disch := omega) only [pj_lit, pj_add, pj_sub, pj_neg, pj_mul, pj_lt, pj_eq, pj_nat, pj_ald, pj_ast, pj_ix, pw_bind, pw_ite, pw_some, pw_none, pw_let, Option.bind_some, Int.toNat_natCast, Sum.elim_inl, Sum.elim_inr, Int.cast_ofNat_Int, Int.reduceLT, Int.reduceLE, Int.reduceEq, Int.reduceAdd, Int.reduceSub, Int.reduceMul, Int.reduceNeg, Int.reduceToNat, Nat.reduceAdd, Nat.reduceSub, Nat.reduceMul, Nat.reduceEqDiff, Nat.reduceLT, reduceIte, reduceCtorEq, true_and, and_true, forall_const, not_true_eq_false, not_false_eq_true, false_implies, implies_true, g1, hlt, hcell, pj_shl1 x (show x < 7 by omega), hor]
    rw [ht]; rfl
  · rw [List.take_length]
    unfold gm_needed_L47
    simp (disch := omega) only [pj_lit, pj_add, pj_sub, pj_neg, pj_mul, pj_lt, pj_eq, pj_nat, pj_ald, pj_ast, pj_ix, pw_bind, pw_ite, pw_some, pw_none, pw_let, Option.bind_some, Int.toNat_natCast, Sum.elim_inl, Sum.elim_inr, Int.cast_ofNat_Int, Int.reduceLT, Int.reduceLE, Int.reduceEq, Int.reduceAdd, Int.reduceSub, Int.reduceMul, Int.reduceNeg, Int.reduceToNat, Nat.reduceAdd, Nat.reduceSub, Nat.reduceMul, Nat.reduceEqDiff, Nat.reduceLT, reduceIte, reduceCtorEq, true_and, and_true, forall_const, not_true_eq_false, not_false_eq_true, false_implies, implies_true, g1, Int.lt_irrefl]
theorem pm_needed {T : zt_T} {s : Nat} {Z : zm_S} {V : pv_V} (ht : pt_ok T) (hm : pm_T T s Z) (ho : pv_ok (zt_n T) V) (hrow : pv_row (Z.2.1 47) V) {w : Int} (hw : 0 ≤ w ∧ w ≤ 999) :
    pw (gm_needed Z (pj w)) (fun p => po_nd (po_PT T V (po_jn T V)) w p.1 ∧ pm_k Z p.2) := by
  obtain ⟨Z1, eZ, hc⟩ := pm_copies hm ho hrow
  have hk1 := pm_c_k hc
  obtain ⟨hm1, hr1, -⟩ := hc
  unfold gm_needed
  rw [pm_weight, pj_toInt (by omega), decide_eq_true hw, Option.bind_some, if_pos rfl, eZ, Option.bind_some]
  refine pw_seq (pm_plan ht hm1 hr1 ho) (fun Z2 h2 => ?_)
  obtain ⟨hB, hP, hq⟩ := h2
  have hk2 := pm_k_trans hk1 (pm_q_k hq)
  rw [Option.bind_some]
  have hset : ∀ o ∈ po_lst (po_H (po_PT T V (po_jn T V))), po_set o < 64 := fun o ho' => (po_F0 (po_lst_mem ho').1).1
  have hfold := po_nf2_fold (po_PT T V (po_jn T V)) w (po_lst (po_H (po_PT T V (po_jn T V)))) none hset (fun A e => (by cases e))
  refine pw_seq (Q := fun r : Int32 × zm_S => r.1 = po_oI ((po_lst (po_H (po_PT T V (po_jn T V)))).foldl (po_nf2 (po_PT T V (po_jn T V)) w) none) ∧ pm_k Z r.2) ?_ ?_
  · refine po_eachA (po_H_lt _) (po_nf2 (po_PT T V (po_jn T V)) w) (fun c r t => ∃ Z', t = (po_oI c, Z') ∧ (∀ A, c = some A → A < 64) ∧ pm_O Z' r ∧ pm_B T s V (po_jn T V) Z' ∧ pm_k Z Z') (fun c (p : Int32 × zm_S) => p.1 = po_oI c ∧ pm_k Z p.2) ?_ ?_ none _ ⟨_, rfl, fun A e => (by cases e), pm_O_nil Z2, pm_B_g (pm_g_0 Z2) hB, pm_k_trans hk2 (pm_g_k (pm_g_0 Z2))⟩
    · rintro c r o t ⟨Z', rfl, gc, g1, g2, g3⟩ hnx hmo
      obtain ⟨Z3, e1, e2, e3, e4, e5, e6, e7⟩ := pm_next ht ho g2 g1 hnx hmo
      have hk3 := pm_k_trans g3 (pm_g_k e3)
      have h64 := hset o hmo
      have hso := pm_setOf true e2
      unfold gm_needed_L24 po_nf2
      by_cases d : po_sp (po_PT T V (po_jn T V)) o < w
      · simp (disch := omega) only [pj_lit, pj_add, pj_sub, pj_neg, pj_mul, pj_lt, pj_eq, pj_nat, pj_ald, pj_ast, pj_ix, pw_bind, pw_ite, pw_some, pw_none, pw_let, Option.bind_some, Int.toNat_natCast, Sum.elim_inl, Sum.elim_inr, Int.cast_ofNat_Int, Int.reduceLT, Int.reduceLE, Int.reduceEq, Int.reduceAdd, Int.reduceSub, Int.reduceMul, Int.reduceNeg, Int.reduceToNat, Nat.reduceAdd, Nat.reduceSub, Nat.reduceMul, Nat.reduceEqDiff, Nat.reduceLT, reduceIte, reduceCtorEq, true_and, and_true, forall_const, not_true_eq_false, not_false_eq_true, false_implies, implies_true, e1, e5, d]
        exact ⟨Z3, rfl, gc, e2, e4, hk3⟩
      · cases c with
        | none =>
          have c0 : po_oI none < pj 0 := by decide
          simp (disch := omega) only [pj_lit, pj_add, pj_sub, pj_neg, pj_mul, pj_lt, pj_eq, pj_nat, pj_ald, pj_ast, pj_ix, pw_bind, pw_ite, pw_some, pw_none, pw_let, Option.bind_some, Int.toNat_natCast, Sum.elim_inl, Sum.elim_inr, Int.cast_ofNat_Int, Int.reduceLT, Int.reduceLE, Int.reduceEq, Int.reduceAdd, Int.reduceSub, Int.reduceMul, Int.reduceNeg, Int.reduceToNat, Nat.reduceAdd, Nat.reduceSub, Nat.reduceMul, Nat.reduceEqDiff, Nat.reduceLT, reduceIte, reduceCtorEq, true_and, and_true, forall_const, not_true_eq_false, not_false_eq_true, false_implies, implies_true, e1, e5, d, hso, c0]
          exact ⟨Z3, rfl, fun A e => by injection e with e; rw [← e]; exact h64, e2, e4, hk3⟩
        | some A =>
          have hA := gc A rfl
          have c0 : ¬ (A : Int) < 0 := by omega
          have hand := pj_and A hA _ h64
          have cI : po_oI (some A) = pj A := rfl
          simp (disch := omega) only [pj_lit, pj_add, pj_sub, pj_neg, pj_mul, pj_lt, pj_eq, pj_nat, pj_ald, pj_ast, pj_ix, pw_bind, pw_ite, pw_some, pw_none, pw_let, Option.bind_some, Int.toNat_natCast, Sum.elim_inl, Sum.elim_inr, Int.cast_ofNat_Int, Int.reduceLT, Int.reduceLE, Int.reduceEq, Int.reduceAdd, Int.reduceSub, Int.reduceMul, Int.reduceNeg, Int.reduceToNat, Nat.reduceAdd, Nat.reduceSub, Nat.reduceMul, Nat.reduceEqDiff, Nat.reduceLT, reduceIte, reduceCtorEq, true_and, and_true, forall_const, not_true_eq_false, not_false_eq_true, false_implies, implies_true, e1, e5, d, hso, cI, c0, hand]
          exact ⟨Z3, rfl, fun A' e => by injection e with e; rw [← e]; exact Nat.and_lt_two_pow (n := 6) _ h64, e2, e4, hk3⟩
    · rintro c r t ⟨Z', rfl, gc, g1, g2, g3⟩ hnx
      obtain ⟨Z3, e1, e2⟩ := pm_nextNo ho g2 g1 hnx
      unfold gm_needed_L24
      simp (disch := omega) only [pj_lit, pj_add, pj_sub, pj_neg, pj_mul, pj_lt, pj_eq, pj_nat, pj_ald, pj_ast, pj_ix, pw_bind, pw_ite, pw_some, pw_none, pw_let, Option.bind_some, Int.toNat_natCast, Sum.elim_inl, Sum.elim_inr, Int.cast_ofNat_Int, Int.reduceLT, Int.reduceLE, Int.reduceEq, Int.reduceAdd, Int.reduceSub, Int.reduceMul, Int.reduceNeg, Int.reduceToNat, Nat.reduceAdd, Nat.reduceSub, Nat.reduceMul, Nat.reduceEqDiff, Nat.reduceLT, reduceIte, reduceCtorEq, true_and, and_true, forall_const, not_true_eq_false, not_false_eq_true, false_implies, implies_true, e1, Bool.false_eq_true]
      exact pm_k_trans g3 (pm_g_k e2)
  · rintro ⟨x, Z3⟩ ⟨r1, r2⟩
    dsimp only at r1 r2 ⊢
    have hgl : ∀ o, po_gd (po_PT T V (po_jn T V)) w o ↔ o ∈ po_lst (po_H (po_PT T V (po_jn T V))) ∧ w ≤ po_sp (po_PT T V (po_jn T V)) o := fun o => po_gd_lst _ hw.1 hw.2
    generalize (po_lst (po_H (po_PT T V (po_jn T V)))).foldl (po_nf2 (po_PT T V (po_jn T V)) w) none = F at hfold r1
    obtain ⟨f1, f2⟩ := hfold
    cases F with
    | none =>
      have c0 : x < 0 := by rw [r1]; decide
      rw [if_pos c0, pw_some]
      refine ⟨Or.inl ⟨fun ⟨o, hg⟩ => ?_, rfl⟩, r2⟩
      exact (f1.1 rfl).2 o ((hgl o).1 hg).1 ((hgl o).1 hg).2
    | some A =>
      obtain ⟨a1, a2⟩ := f2 A rfl
      have c0 : ¬ x < 0 := by
        rw [r1]
        intro q
        have := (pj_lt (b := 0) (by omega) (by omega)).1 q
        omega
      rw [if_neg c0, pw_some]
      refine ⟨Or.inr ⟨?_, A, a1, r1, fun i hi => ?_⟩, r2⟩
      · by_cases c : ∃ o, po_gd (po_PT T V (po_jn T V)) w o
        · exact c
        · have := f1.2 ⟨rfl, fun o h1 h2 => c ⟨o, (hgl o).2 ⟨h1, h2⟩⟩⟩
          cases this
      · rw [a2 i]
        constructor
        · rintro ⟨-, b⟩ o hg
          exact b o ((hgl o).1 hg).1 ((hgl o).1 hg).2
        · intro b
          exact ⟨fun A0 e => (by cases e), fun o h1 h2 => b o ((hgl o).2 ⟨h1, h2⟩)⟩
theorem pq_needed {T : zt_T} {M : cs_S} {Z : zm_S} {s : Nat} {V : pv_V} {H : List pv_V} {at_ : Nat} (h : pr_R0 T M Z s V H at_) (a : Int32) :
    pw (gh_needed T M a) (fun p => pw (gm_needed Z a) (fun q => p.1 = q.1 ∧ pr_R T p.2 q.2)) := by
  obtain ⟨hT, hm, ho, hV, hsd, hrow, -, -, -, -, -, -, h0⟩ := id h
  by_cases hh : 0 ≤ a.toInt ∧ a.toInt ≤ 999
  · generalize hw : a.toInt = w at hh
    obtain rfl : a = pj w := by rw [← hw, pj_of]
    exact pw_mono (pc_needed hT hV ho h0 hh) (fun p hp => pw_mono (pm_needed hT hm ho hrow hh) (fun q hq => ⟨po_nd_uniq hp.1 hq.1, s, V, H, at_, pr_R_k hp.2 hq.2 h⟩))
  · unfold gh_needed gm_needed
    rw [pc_haulw, pm_weight, decide_eq_false hh, Option.bind_some, Option.bind_some, if_neg (by decide), if_neg (by decide), pw_some, pw_some]
    exact ⟨rfl, s, V, H, at_, h⟩
/-! the first row of a set -/
def po_pc (S : Nat) : Nat := (List.range 6).countP fun h => S.testBit h
theorem po_F6b : (po_all.all fun o => o.length == po_pc (po_set o)) = true := by decide +kernel
theorem po_F6 {o : List Nat} (h : o ∈ po_all) : o.length = po_pc (po_set o) := beq_iff_eq.1 (List.all_eq_true.1 po_F6b o h)
theorem po_bitc : ∀ S, S < 64 → g_J16_bitCount (pj (S : Nat)) = some (pj (po_pc S : Nat)) := by decide +kernel
theorem po_num_aux : ∀ (o : List Nat) (a : Nat), o.foldl (fun a h => 6 * a + h) a = a * 6 ^ o.length + po_num o
  | [], a => by simp [po_num]
  | x :: o, a => by
    unfold po_num
    rw [List.foldl_cons, List.foldl_cons, po_num_aux o, po_num_aux o (6 * 0 + x), List.length_cons, Nat.pow_succ]
    rw [Nat.add_mul, Nat.mul_zero, Nat.zero_add]
    have : 6 * a * 6 ^ o.length = a * (6 ^ o.length * 6) := by
      rw [Nat.mul_comm 6 a, Nat.mul_assoc, Nat.mul_comm 6]
    omega
theorem po_num_cons (x : Nat) (o : List Nat) : po_num (x :: o) = x * 6 ^ o.length + po_num o := by
  have := po_num_aux o x
  unfold po_num
  rw [List.foldl_cons, Nat.mul_zero, Nat.zero_add, this]
  rfl
theorem po_num_lt : ∀ (o : List Nat), (∀ x ∈ o, x < 6) → po_num o < 6 ^ o.length
  | [], _ => by simp [po_num]
  | x :: o, h => by
    have h1 := po_num_lt o (fun y hy => h y (List.mem_cons_of_mem _ hy))
    have h2 := h x List.mem_cons_self
    rw [po_num_cons, List.length_cons, Nat.pow_succ]
    have : x * 6 ^ o.length ≤ 5 * 6 ^ o.length := Nat.mul_le_mul_right _ (by omega)
    omega
theorem po_num_cmp {x y : Nat} {o q : List Nat} (hl : o.length = q.length) (ho : ∀ z ∈ o, z < 6) (hq : ∀ z ∈ q, z < 6) (h : x < y) : po_num (x :: o) < po_num (y :: q) := by
  rw [po_num_cons, po_num_cons, hl]
  have h1 := po_num_lt o ho
  rw [hl] at h1
  have h2 : (x + 1) * 6 ^ q.length ≤ y * 6 ^ q.length := Nat.mul_le_mul_right _ h
  rw [Nat.add_mul] at h2
  omega
theorem po_srt_pw : ∀ (l : List (List Nat)), po_srt l = true → l.Pairwise (fun a b => po_num a < po_num b)
  | [], _ => List.Pairwise.nil
  | [a], _ => List.pairwise_singleton _ _
  | a :: b :: l, h => by
    unfold po_srt at h
    rw [Bool.and_eq_true, decide_eq_true_eq] at h
    have ih := po_srt_pw (b :: l) h.2
    refine List.Pairwise.cons (fun c hc => ?_) ih
    rcases List.mem_cons.1 hc with rfl | hc
    · exact h.1
    · have := (List.pairwise_cons.1 ih).1 c hc
      omega
theorem po_pw_len : ∀ (l : List (List Nat)), (∀ m, (l.filter fun o => o.length == m).Pairwise (fun a b => po_num a < po_num b)) → l.Pairwise (fun a b => a.length = b.length → po_num a < po_num b)
  | [], _ => List.Pairwise.nil
  | x :: l, h => by
    refine List.Pairwise.cons (fun y hy e => ?_) (po_pw_len l fun m => ?_)
    · have := h x.length
      rw [List.filter_cons, if_pos (by rw [beq_iff_eq])] at this
      exact (List.pairwise_cons.1 this).1 y (List.mem_filter.2 ⟨hy, by rw [beq_iff_eq]; exact e.symm⟩)
    · have := h m
      rw [List.filter_cons] at this
      split at this
      · exact (List.pairwise_cons.1 this).2
      · exact this
theorem po_sorted : po_all.Pairwise (fun a b => a.length = b.length → po_num a < po_num b) := by
  refine po_pw_len _ fun m => ?_
  by_cases h : m < 7
  · exact po_srt_pw _ (List.all_eq_true.1 po_F3b m (List.mem_range.2 h))
  · have : po_all.filter (fun o => o.length == m) = [] := by
      rw [List.filter_eq_nil_iff]
      intro o ho
      have := (po_F0 ho).2.1
      rw [beq_iff_eq]; omega
    rw [this]
    exact List.Pairwise.nil
theorem po_num_inj {a b : List Nat} (ha : a ∈ po_all) (hb : b ∈ po_all) (hl : a.length = b.length) (hn : po_num a = po_num b) : a = b := by
  obtain ⟨i, hi, rfl⟩ := List.mem_iff_getElem.1 ha
  obtain ⟨j, hj, rfl⟩ := List.mem_iff_getElem.1 hb
  have h := List.pairwise_iff_getElem.1 po_sorted
  by_cases c1 : i < j
  · have := h i j hi hj c1 hl; omega
  · by_cases c2 : j < i
    · have := h j i hj hi c2 hl.symm; omega
    · have : i = j := by omega
      subst this; rfl
theorem po_arr_all {S h : Nat} (hS : S < 64) (hh : h < 6) {o : List Nat} (ho : o ∈ po_arr 6 S h) : o ∈ po_all ∧ po_set o = S := by
  have : o ∈ po_sets S := List.mem_flatMap.2 ⟨h, List.mem_range.2 hh, ho⟩
  rw [← po_F1 hS, List.mem_filter, beq_iff_eq] at this
  exact this
theorem po_all_arr {S : Nat} (hS : S < 64) {o : List Nat} (ho : o ∈ po_all) (hs : po_set o = S) : ∃ h, h < 6 ∧ o ∈ po_arr 6 S h := by
  have : o ∈ po_sets S := by rw [← po_F1 hS, List.mem_filter, beq_iff_eq]; exact ⟨ho, hs⟩
  obtain ⟨h, h1, h2⟩ := List.mem_flatMap.1 this
  exact ⟨h, List.mem_range.1 h1, h2⟩
/-- whether a house could be behind another -/
def po_cp (P : po_P) (w : Int) (l : Option Nat) (R h : Nat) : Prop := ∀ q, l = some q → w + po_sumS P R ≤ P.2.2.1 q h
/-- a row of a set, from its first house -/
theorem po_arr_cons {R h : Nat} (hR : R < 64) (hh : h < 6) {o : List Nat} (ho : o ∈ po_arr 6 R h) : R.testBit h = true ∧ ((R ^^^ 1 <<< h = 0 ∧ o = [h]) ∨ (R ^^^ 1 <<< h ≠ 0 ∧ ∃ x o', x < 6 ∧ o' ∈ po_arr 6 (R ^^^ 1 <<< h) x ∧ o = h :: o')) := by
  unfold po_arr at ho
  by_cases hb : R.testBit h = true
  · refine ⟨hb, ?_⟩
    rw [if_pos hb] at ho
    by_cases h0 : R ^^^ 1 <<< h = 0
    · rw [if_pos h0, List.mem_singleton] at ho
      exact Or.inl ⟨h0, ho⟩
    · rw [if_neg h0, List.mem_flatMap] at ho
      obtain ⟨x, hx, ho⟩ := ho
      rw [List.mem_map] at ho
      obtain ⟨o', h1, h2⟩ := ho
      rw [po_F4 (po_rem_63 hR hh hb) (List.mem_range.1 hx)] at h1
      exact Or.inr ⟨h0, x, o', List.mem_range.1 hx, h1, h2.symm⟩
  · rw [if_neg hb] at ho; cases ho
theorem po_arr_mk {R h x : Nat} (hR : R < 64) (hh : h < 6) (hx : x < 6) (hb : R.testBit h = true) (h0 : R ^^^ 1 <<< h ≠ 0) {o : List Nat} (ho : o ∈ po_arr 6 (R ^^^ 1 <<< h) x) : h :: o ∈ po_arr 6 R h := by
  show h :: o ∈ po_arr (5 + 1) R h
  unfold po_arr
  rw [if_pos hb, if_neg h0, List.mem_flatMap]
  refine ⟨x, List.mem_range.2 hx, List.mem_map.2 ⟨o, ?_, rfl⟩⟩
  rw [po_F4 (po_rem_63 hR hh hb) hx]; exact ho
theorem po_arr_one {R h : Nat} (hb : R.testBit h = true) (h0 : R ^^^ 1 <<< h = 0) : [h] ∈ po_arr 6 R h := by
  show [h] ∈ po_arr (5 + 1) R h
  unfold po_arr
  rw [if_pos hb, if_pos h0]
  exact List.mem_singleton.2 rfl
theorem po_cnt_ex {P : po_P} {w : Int} {R h : Nat} : po_cnt P w R h ≠ 0 ↔ ∃ o ∈ po_arr 6 R h, po_ok P w o = true := by
  unfold po_cnt
  rw [← List.countP_pos_iff]
  omega
/-- that g is the first row of a set R behind l -/
def po_F (P : po_P) (w : Int) (l : Option Nat) (R : Nat) (g : List Nat) : Prop := (∃ h, h < 6 ∧ g ∈ po_arr 6 R h ∧ po_cp P w l R h) ∧ po_ok P w g = true ∧ ∀ h o, h < 6 → o ∈ po_arr 6 R h → po_ok P w o = true → po_cp P w l R h → po_num g ≤ po_num o
theorem po_ok_cons (P : po_P) (w : Int) (h x : Nat) (o : List Nat) : po_ok P w (h :: x :: o) = true ↔ 0 < P.1 h ∧ w + po_sum P (x :: o) ≤ P.2.1 h ∧ w + po_sum P (x :: o) ≤ P.2.2.1 h x ∧ po_ok P w (x :: o) = true := by
  have e : po_ok P w (h :: x :: o) = (decide (0 < P.1 h) && decide (w + po_sum P (x :: o) ≤ P.2.1 h) && decide (w + po_sum P (x :: o) ≤ P.2.2.1 h x) && po_ok P w (x :: o)) := rfl
  rw [e]
  simp only [Bool.and_eq_true, decide_eq_true_eq]
  exact ⟨fun q => ⟨q.1.1.1, q.1.1.2, q.1.2, q.2⟩, fun q => ⟨⟨⟨q.1, q.2.1⟩, q.2.2.1⟩, q.2.2.2⟩⟩
/-- one house more at the head -/
theorem po_F_cons {P : po_P} {w : Int} {l : Option Nat} {R h : Nat} {g : List Nat} (hR : R < 64) (hh : h < 6) (hc : po_cnt P w R h ≠ 0) (hcp : po_cp P w l R h) (hmin : ∀ j, j < h → ¬ (po_cnt P w R j ≠ 0 ∧ po_cp P w l R j))
    (hb : R.testBit h = true) (hg : (R ^^^ 1 <<< h = 0 ∧ g = []) ∨ (R ^^^ 1 <<< h ≠ 0 ∧ po_F P w (some h) (R ^^^ 1 <<< h) g)) : po_F P w l R (h :: g) := by
  have hR' := po_rem_lt hR hh
  obtain ⟨o1, ho1, hok1⟩ := po_cnt_ex.1 hc
  have hmem : h :: g ∈ po_arr 6 R h := by
    rcases hg with ⟨g1, g2⟩ | ⟨g1, ⟨x, hx, hgx, -⟩, -⟩
    · rw [g2]; exact po_arr_one hb g1
    · exact po_arr_mk hR hh hx hb g1 hgx
  have hgood : po_ok P w (h :: g) = true := by
    obtain ⟨-, c⟩ := po_arr_cons hR hh ho1
    rcases hg with ⟨g1, g2⟩ | ⟨g1, ⟨x, hx, hgx, hcx⟩, hgk, -⟩
    · rcases c with ⟨c1, c2⟩ | ⟨c1, _⟩
      · rw [g2, ← c2]; exact hok1
      · exact absurd g1 c1
    · rcases c with ⟨c1, c2⟩ | ⟨c1, x1, o1', hx1, ho1', rfl⟩
      · exact absurd c1 g1
      · obtain ⟨⟨t, rfl⟩, es⟩ := po_arr_mem P 6 _ x1 o1' hR' hx1 ho1'
        obtain ⟨⟨t2, rfl⟩, es2⟩ := po_arr_mem P 6 _ x g hR' hx hgx
        rw [po_ok_cons] at hok1 ⊢
        rw [es] at hok1
        rw [es2]
        exact ⟨hok1.1, hok1.2.1, hcx h rfl, hgk⟩
  refine ⟨⟨h, hh, hmem, hcp⟩, hgood, fun h2 o hh2 ho hok hcp2 => ?_⟩
  have hcnt2 : po_cnt P w R h2 ≠ 0 := po_cnt_ex.2 ⟨o, ho, hok⟩
  have hle : h ≤ h2 := by
    by_cases c : h2 < h
    · exact absurd ⟨hcnt2, hcp2⟩ (hmin h2 c)
    · omega
  have hl1 := po_F6 (po_arr_all hR hh hmem).1
  have hl2 := po_F6 (po_arr_all hR hh2 ho).1
  rw [(po_arr_all hR hh hmem).2] at hl1
  rw [(po_arr_all hR hh2 ho).2] at hl2
  have h61 := (po_F0 (po_arr_all hR hh hmem).1).2.2.2
  have h62 := (po_F0 (po_arr_all hR hh2 ho).1).2.2.2
  obtain ⟨⟨t, rfl⟩, -⟩ := po_arr_mem P 6 R h2 o hR hh2 ho
  by_cases e : h = h2
  · subst e
    obtain ⟨-, c⟩ := po_arr_cons hR hh ho
    rcases hg with ⟨g1, g2⟩ | ⟨g1, -, -, hgm⟩
    · rcases c with ⟨c1, c2⟩ | ⟨c1, _⟩
      · rw [g2, c2]; exact Nat.le_refl _
      · exact absurd g1 c1
    · rcases c with ⟨c1, c2⟩ | ⟨c1, x1, o1', hx1, ho1', e1⟩
      · exact absurd c1 g1
      · injection e1 with _ e1
        subst e1
        obtain ⟨⟨t', rfl⟩, es⟩ := po_arr_mem P 6 _ x1 t hR' hx1 ho1'
        rw [po_ok_cons] at hok
        rw [es] at hok
        have := hgm x1 (x1 :: t') hx1 ho1' hok.2.2.2 (fun q eq => by injection eq with eq; rw [← eq]; exact hok.2.2.1)
        rw [po_num_cons, po_num_cons]
        rw [List.length_cons] at hl1 hl2
        have hlen : g.length = (x1 :: t').length := by omega
        rw [hlen]; omega
  · refine Nat.le_of_lt (po_num_cmp ?_ (fun z hz => h61 z (List.mem_cons_of_mem _ hz)) (fun z hz => h62 z (List.mem_cons_of_mem _ hz)) (by omega))
    rw [List.length_cons] at hl1 hl2
    omega
/-! fewest, by the component -/
/-- all but row -/
def pc_r (M M' : cs_S) : Prop := M'.1 = M.1 ∧ ∀ o f, ¬ (o = 0 ∧ f = 18) → M'.2 o f = M.2 o f
theorem pc_r_rfl (M : cs_S) : pc_r M M := ⟨rfl, fun _ _ _ => rfl⟩
theorem pc_r_trans {A B C : cs_S} (h : pc_r A B) (g : pc_r B C) : pc_r A C := ⟨g.1.trans h.1, fun o f a => (g.2 o f a).trans (h.2 o f a)⟩
theorem po_W_r {T : zt_T} {P : po_P} {w : Int} {M M' : cs_S} {k : Nat} (h : pc_r M M') (g : po_W T P w M k) : po_W T P w M' k := fun S hS => by
  rw [h.2 0 16 (by omega)]
  refine ⟨(g S hS).1, fun h1 x hx => ?_⟩
  rw [h.2 60 S (by omega)]
  exact (g S hS).2 h1 x hx
theorem po_Jn_r {T : zt_T} {M M' : cs_S} {jn : Nat → Nat → Int} (h : pc_r M M') (g : po_Jn T M jn) : po_Jn T M' jn := fun a b ha hb hab => by
  rw [h.2 61 a (by omega)]; exact g a b ha hb hab
theorem po_0_of_tb {S : Nat} (hS : S < 64) (h : ∀ x, x < 6 → S.testBit x = false) : S = 0 := by
  apply Nat.eq_of_testBit_eq
  intro i
  rw [Nat.zero_testBit]
  by_cases hi : i < 6
  · exact h i hi
  · exact po_tb64 hS (by omega)
/-- the house that comes next -/
theorem pc_rowNext {T : zt_T} {M : cs_S} {P : po_P} {w : Int} (hT : pt_ok T) (hbd : ∀ x, x < 6 → 0 ≤ P.1 x ∧ P.1 x ≤ 99) (hw : 0 ≤ w ∧ w ≤ 999) (hW : po_W T P w M (2 ^ zt_n T)) (hJ : po_Jn T M P.2.2.1) {R : Nat} (hR : R < 2 ^ zt_n T) (h0 : 0 < R) (l : Option Nat) (hl : ∀ q, l = some q → q < zt_n T ∧ R.testBit q = false)
    (hex : ∃ h, h < 6 ∧ po_cnt P w R h ≠ 0 ∧ po_cp P w l R h) (kI : Int32) :
    ∃ h, h < zt_n T ∧ R.testBit h = true ∧ po_cnt P w R h ≠ 0 ∧ po_cp P w l R h ∧ (∀ j, j < h → ¬ (po_cnt P w R j ≠ 0 ∧ po_cp P w l R j)) ∧ zs_loop 5000 (gh_laysRow_L15 (pj (R : Nat), pp_I l, kI, M) (pj w)) (pj 0) = some (pj h) := by
  have hn := hT.1
  have hp := po_pow hn
  have hsb := po_sumS_bd hbd R
  obtain ⟨a1, a2⟩ := hW R hR
  have a2 := a2 h0
  have htn : ∀ h, po_cnt P w R h ≠ 0 → R.testBit h = true ∧ h < zt_n T := fun h hc => by
    cases q : R.testBit h with
    | true => exact ⟨rfl, po_tb_lt hR q⟩
    | false => exact absurd (po_cnt_no P w q) hc
  have hfind : ∃ h, (po_cnt P w R h ≠ 0 ∧ po_cp P w l R h) ∧ ∀ j, j < h → ¬ (po_cnt P w R j ≠ 0 ∧ po_cp P w l R j) := by
    obtain ⟨h, -, h2⟩ := hex
    have key : ∀ m h, h ≤ m → (po_cnt P w R h ≠ 0 ∧ po_cp P w l R h) → ∃ h, (po_cnt P w R h ≠ 0 ∧ po_cp P w l R h) ∧ ∀ j, j < h → ¬ (po_cnt P w R j ≠ 0 ∧ po_cp P w l R j) := by
      intro m
      induction m with
      | zero => exact fun h hh hc => ⟨h, hc, fun j hj => by omega⟩
      | succ m ih =>
        intro h hh hc
        by_cases c : ∃ j, j < h ∧ (po_cnt P w R j ≠ 0 ∧ po_cp P w l R j)
        · obtain ⟨j, hj, hjc⟩ := c
          exact ih j (by omega) hjc
        · exact ⟨h, hc, fun j hj hjc => c ⟨j, hj, hjc⟩⟩
    exact key h h (Nat.le_refl _) h2
  obtain ⟨h, ⟨hc, hcp⟩, hmin⟩ := hfind
  obtain ⟨hb, hhn⟩ := htn h hc
  refine ⟨h, hhn, hb, hc, hcp, hmin, ?_⟩
  have hcl : ∀ S x, S < 64 → x < 6 → po_cnt P w S x ≤ 1956 := fun S x hS hx => by
    unfold po_cnt
    have h1 : (po_arr 6 S x).countP (po_ok P w) ≤ (po_sets S).countP (po_ok P w) := by
      unfold po_sets
      rw [po_countP_flatMap]
      have : ∀ (L : List Nat) (f : Nat → Nat), x ∈ L → f x ≤ (L.map f).sum := by
        intro L f
        induction L with
        | nil => intro hx; cases hx
        | cons y L ih =>
          intro hx
          rw [List.map_cons, List.sum_cons]
          rcases List.mem_cons.1 hx with rfl | hx
          · omega
          · have := ih hx; omega
      exact this (List.range 6) (fun x => (po_arr 6 S x).countP (po_ok P w)) (List.mem_range.2 hx)
    have h2 : (po_sets S).countP (po_ok P w) ≤ 1956 := by
      have := po_cnt_le P w hS
      have e : ((List.range 6).map fun h => po_cnt P w S h).sum = (po_sets S).countP (po_ok P w) := by
        unfold po_sets
        rw [po_countP_flatMap]
        rfl
      omega
    omega
  have step : ∀ j, j < zt_n T → ((po_cnt P w R j ≠ 0 ∧ po_cp P w l R j) → gh_laysRow_L15 (pj (R : Nat), pp_I l, kI, M) (pj w) (pj (j : Nat)) = some (Sum.inr (pj j))) ∧ (¬ (po_cnt P w R j ≠ 0 ∧ po_cp P w l R j) → gh_laysRow_L15 (pj (R : Nat), pp_I l, kI, M) (pj w) (pj (j : Nat)) = some (Sum.inl (pj ((j + 1 : Nat) : Int)))) := by
    intro j hj
    have e60 := a2 j hj
    have hcj := hcl R j (by omega) (by omega)
    by_cases c : po_cnt P w R j = 0
    · have c' : ((po_cnt P w R j : Nat) : Int) = 0 := by omega
      refine ⟨fun q => absurd c q.1, fun _ => ?_⟩
      unfold gh_laysRow_L15
      simp (disch := omega) only [pj_lit, pj_add, pj_sub, pj_neg, pj_mul, pj_lt, pj_eq, pj_nat, pj_ald, pj_ast, pj_ix, pw_bind, pw_ite, pw_some, pw_none, pw_let, Option.bind_some, Int.toNat_natCast, Sum.elim_inl, Sum.elim_inr, Int.cast_ofNat_Int, Int.reduceLT, Int.reduceLE, Int.reduceEq, Int.reduceAdd, Int.reduceSub, Int.reduceMul, Int.reduceNeg, Int.reduceToNat, Nat.reduceAdd, Nat.reduceSub, Nat.reduceMul, Nat.reduceEqDiff, Nat.reduceLT, reduceIte, reduceCtorEq, true_and, and_true, forall_const, not_true_eq_false, not_false_eq_true, false_implies, implies_true, e60, c']
      rfl
    · have c' : ¬ ((po_cnt P w R j : Nat) : Int) = 0 := by omega
      cases l with
      | none =>
        refine ⟨fun _ => ?_, fun q => absurd ⟨c, fun q e => (by cases e)⟩ q⟩
        have hI : pp_I none = pj (-1) := rfl
        unfold gh_laysRow_L15
        simp (disch := omega) only [pj_lit, pj_add, pj_sub, pj_neg, pj_mul, pj_lt, pj_eq, pj_nat, pj_ald, pj_ast, pj_ix, pw_bind, pw_ite, pw_some, pw_none, pw_let, Option.bind_some, Int.toNat_natCast, Sum.elim_inl, Sum.elim_inr, Int.cast_ofNat_Int, Int.reduceLT, Int.reduceLE, Int.reduceEq, Int.reduceAdd, Int.reduceSub, Int.reduceMul, Int.reduceNeg, Int.reduceToNat, Nat.reduceAdd, Nat.reduceSub, Nat.reduceMul, Nat.reduceEqDiff, Nat.reduceLT, reduceIte, reduceCtorEq, true_and, and_true, forall_const, not_true_eq_false, not_false_eq_true, false_implies, implies_true, e60, c', hI]
      | some q =>
        obtain ⟨hq, hqb⟩ := hl q rfl
        have hjq : q ≠ j := fun e => by
          have := (htn j c).1
          rw [← e, hqb] at this
          cases this
        obtain ⟨j1, j2, j3⟩ := hJ q j hq hj hjq
        have hq0 : ¬ (q : Int) < 0 := by omega
        have hI : pp_I (some q) = pj q := rfl
        by_cases d : P.2.2.1 q j < w + po_sumS P R
        · refine ⟨fun z => absurd (z.2 q rfl) (by omega), fun _ => ?_⟩
          unfold gh_laysRow_L15
          simp (disch := omega) only [pj_lit, pj_add, pj_sub, pj_neg, pj_mul, pj_lt, pj_eq, pj_nat, pj_ald, pj_ast, pj_ix, pw_bind, pw_ite, pw_some, pw_none, pw_let, Option.bind_some, Int.toNat_natCast, Sum.elim_inl, Sum.elim_inr, Int.cast_ofNat_Int, Int.reduceLT, Int.reduceLE, Int.reduceEq, Int.reduceAdd, Int.reduceSub, Int.reduceMul, Int.reduceNeg, Int.reduceToNat, Nat.reduceAdd, Nat.reduceSub, Nat.reduceMul, Nat.reduceEqDiff, Nat.reduceLT, reduceIte, reduceCtorEq, true_and, and_true, forall_const, not_true_eq_false, not_false_eq_true, false_implies, implies_true, e60, c', hI, hq0, a1, j1, d]
          rfl
        · refine ⟨fun _ => ?_, fun z => absurd ⟨c, fun q' e => by injection e with e; rw [← e]; omega⟩ z⟩
          unfold gh_laysRow_L15
          simp (disch := omega) only [pj_lit, pj_add, pj_sub, pj_neg, pj_mul, pj_lt, pj_eq, pj_nat, pj_ald, pj_ast, pj_ix, pw_bind, pw_ite, pw_some, pw_none, pw_let, Option.bind_some, Int.toNat_natCast, Sum.elim_inl, Sum.elim_inr, Int.cast_ofNat_Int, Int.reduceLT, Int.reduceLE, Int.reduceEq, Int.reduceAdd, Int.reduceSub, Int.reduceMul, Int.reduceNeg, Int.reduceToNat, Nat.reduceAdd, Nat.reduceSub, Nat.reduceMul, Nat.reduceEqDiff, Nat.reduceLT, reduceIte, reduceCtorEq, true_and, and_true, forall_const, not_true_eq_false, not_false_eq_true, false_implies, implies_true, e60, c', hI, hq0, a1, j1, d]
  refine pw_forE h (fun j => pj (j : Nat)) 5000 (by omega) ?_ ?_
  · intro j hj
    exact (step j (by omega)).2 (hmin j hj)
  · exact (step h hhn).1 ⟨hc, hcp⟩
theorem pc_rowOf {T : zt_T} {P : po_P} {w : Int} (hT : pt_ok T) (hbd : ∀ x, x < 6 → 0 ≤ P.1 x ∧ P.1 x ≤ 99) (hw : 0 ≤ w ∧ w ≤ 999) : ∀ (f R : Nat) (l : Option Nat) (k fuel : Nat) (M : cs_S), R ≤ f → R + 1 < fuel → po_W T P w M (2 ^ zt_n T) → po_Jn T M P.2.2.1 → R < 2 ^ zt_n T → 0 < R → (∀ q, l = some q → q < zt_n T ∧ R.testBit q = false) → (∃ h, h < 6 ∧ po_cnt P w R h ≠ 0 ∧ po_cp P w l R h) → k + po_pc R ≤ 6 →
    pw (zs_loop fuel (gh_laysRow_L8 (pj w)) (pj (R : Nat), pp_I l, pj (k : Nat), M)) (fun M' => ∃ g, po_F P w l R g ∧ (∀ (i x : Nat), g[i]? = some x → M'.2 0 18 (k + i) = pj x) ∧ (∀ i, i < k → M'.2 0 18 i = M.2 0 18 i) ∧ pc_r M M')
  | 0, R, l, k, fuel, M, hf, _, _, _, _, h0, _, _, _ => absurd h0 (by omega)
  | f + 1, R, l, k, fuel, M, hf, hfu, hW, hJ, hR, h0, hl, hex, hk => by
    have hn := hT.1
    have hp := po_pow hn
    obtain ⟨h, h1, h2, h3, h4, h5, h6⟩ := pc_rowNext hT hbd hw hW hJ hR h0 l hl hex (pj (k : Nat))
    have hR64 : R < 64 := by omega
    have hclr := po_clr R hR64 h (by omega) h2
    have hlt := po_rem_lts R hR64 h (by omega) h2
    have hne : ¬ (R : Int) = 0 := by omega
    have hpc : 1 ≤ po_pc R := by
      unfold po_pc
      have : 0 < (List.range 6).countP fun h => R.testBit h := List.countP_pos_iff.2 ⟨h, List.mem_range.2 (by omega), h2⟩
      omega
    have b1 : gh_laysRow_L8 (pj w) (pj (R : Nat), pp_I l, pj (k : Nat), M) = some (Sum.inl (pj ((R ^^^ 1 <<< h : Nat) : Int), pj h, pj ((k + 1 : Nat) : Int), cs_sA M 0 18 (pj (k : Nat)) (pj h))) := by
      unfold gh_laysRow_L8
      simp (disch := omega) only [pj_lit, pj_add, pj_sub, pj_neg, pj_mul, pj_lt, pj_eq, pj_nat, pj_ald, pj_ast, pj_ix, pw_bind, pw_ite, pw_some, pw_none, pw_let, Option.bind_some, Int.toNat_natCast, Sum.elim_inl, Sum.elim_inr, Int.cast_ofNat_Int, Int.reduceLT, Int.reduceLE, Int.reduceEq, Int.reduceAdd, Int.reduceSub, Int.reduceMul, Int.reduceNeg, Int.reduceToNat, Nat.reduceAdd, Nat.reduceSub, Nat.reduceMul, Nat.reduceEqDiff, Nat.reduceLT, reduceIte, reduceCtorEq, true_and, and_true, forall_const, not_true_eq_false, not_false_eq_true, false_implies, implies_true, hne, h6, hclr]
      rfl
    have hr : pc_r M (cs_sA M 0 18 (pj (k : Nat)) (pj h)) := ⟨rfl, fun o f a => pc_sA2n a⟩
    have hcell : ∀ i, (cs_sA M 0 18 (pj (k : Nat)) (pj h)).2 0 18 i = if i = k then pj h else M.2 0 18 i := fun i => by rw [pc_sA2s, pj_nat (by omega), Int.toNat_natCast, pj_upd]
    cases fuel with
    | zero => omega
    | succ n =>
      refine pw_seq (Q := fun s => s = Sum.inl (pj ((R ^^^ 1 <<< h : Nat) : Int), pj (h : Int), pj ((k + 1 : Nat) : Int), cs_sA M 0 18 (pj (k : Nat)) (pj h))) (pw_eq b1 rfl) (fun s hs => ?_)
      subst hs
      show pw (zs_loop n (gh_laysRow_L8 (pj w)) (pj ((R ^^^ 1 <<< h : Nat) : Int), pj (h : Int), pj ((k + 1 : Nat) : Int), cs_sA M 0 18 (pj (k : Nat)) (pj h))) _
      by_cases hz : R ^^^ 1 <<< h = 0
      · have hF := po_F_cons (l := l) hR64 (by omega) h3 h4 h5 h2 (g := []) (Or.inl ⟨hz, rfl⟩)
        rw [hz]
        have b2 : gh_laysRow_L8 (pj w) (pj ((0 : Nat) : Int), pj (h : Int), pj ((k + 1 : Nat) : Int), cs_sA M 0 18 (pj (k : Nat)) (pj h)) = some (Sum.inr (cs_sA M 0 18 (pj (k : Nat)) (pj h))) := by
          unfold gh_laysRow_L8
          exact if_pos rfl
        cases n with
        | zero => omega
        | succ n =>
          refine pw_seq (Q := fun s => s = Sum.inr (cs_sA M 0 18 (pj (k : Nat)) (pj h))) (pw_eq b2 rfl) (fun s hs => ?_)
          subst hs
          refine (pw_some _ _).2 ⟨[h], hF, fun i x e => ?_, fun i hi => ?_, hr⟩
          · match i, e with
            | 0, e => injection e with e; rw [hcell, if_pos (by omega), e]
          · rw [hcell, if_neg (by omega)]
      · obtain ⟨o1, ho1, hok1⟩ := po_cnt_ex.1 h3
        obtain ⟨-, c⟩ := po_arr_cons hR64 (by omega) ho1
        have hR' := po_rem_lt hR64 (show h < 6 by omega)
        have hex' : ∃ x, x < 6 ∧ po_cnt P w (R ^^^ 1 <<< h) x ≠ 0 ∧ po_cp P w (some h) (R ^^^ 1 <<< h) x := by
          rcases c with ⟨c1, _⟩ | ⟨c1, x1, o1', hx1, ho1', rfl⟩
          · exact absurd c1 hz
          · obtain ⟨⟨t, rfl⟩, es⟩ := po_arr_mem P 6 _ x1 o1' hR' hx1 ho1'
            rw [po_ok_cons, es] at hok1
            exact ⟨x1, hx1, po_cnt_ex.2 ⟨_, ho1', hok1.2.2.2⟩, fun q e => by injection e with e; rw [← e]; exact hok1.2.2.1⟩
        have htb : (R ^^^ 1 <<< h).testBit h = false := by rw [po_tb, h2]; simp
        have hpc2 : po_pc R = po_pc (R ^^^ 1 <<< h) + 1 := by
          rcases c with ⟨c1, _⟩ | ⟨c1, x1, o1', hx1, ho1', e1⟩
          · exact absurd c1 hz
          · have l1 := po_F6 (po_arr_all hR64 (by omega) ho1).1
            have l2 := po_F6 (po_arr_all hR' hx1 ho1').1
            rw [(po_arr_all hR64 (by omega) ho1).2] at l1
            rw [(po_arr_all hR' hx1 ho1').2] at l2
            rw [← l1, ← l2, e1, List.length_cons]
        refine pw_mono (pc_rowOf hT hbd hw f (R ^^^ 1 <<< h) (some h) (k + 1) n _ (by omega) (by omega) (po_W_r hr hW) (po_Jn_r hr hJ) (by omega) (by omega) (fun q e => by injection e with e; rw [← e]; exact ⟨h1, htb⟩) hex' (by omega)) (fun M' hM' => ?_)
        obtain ⟨g, hg1, hg2, hg3, hg4⟩ := hM'
        refine ⟨h :: g, po_F_cons (l := l) hR64 (by omega) h3 h4 h5 h2 (Or.inr ⟨hz, hg1⟩), fun i x e => ?_, fun i hi => ?_, pc_r_trans hr hg4⟩
        · cases i with
          | zero =>
            injection e with e
            rw [Nat.add_zero, hg3 k (by omega), hcell, if_pos rfl, e]
          | succ i =>
            have := hg2 i x e
            rw [show k + (i + 1) = k + 1 + i by omega]; exact this
        · rw [hg3 i (by omega), hcell, if_neg (by omega)]
theorem pc_laysRow {T : zt_T} {M : cs_S} {P : po_P} {w : Int} (hT : pt_ok T) (hbd : ∀ x, x < 6 → 0 ≤ P.1 x ∧ P.1 x ≤ 99) (hw : 0 ≤ w ∧ w ≤ 999) (hW : po_W T P w M (2 ^ zt_n T)) (hJ : po_Jn T M P.2.2.1) {S : Nat} (hS : S < 2 ^ zt_n T) (h0 : 0 < S) (hr : 0 < po_rch P w S) :
    pw (gh_laysRow T M (pj S) (pj w)) (fun M' => ∃ g, po_gd P w g ∧ po_set g = S ∧ (∀ o, po_gd P w o → po_set o = S → po_num g ≤ po_num o) ∧ (∀ (i x : Nat), g[i]? = some x → M'.2 0 18 i = pj x) ∧ pc_r M M') := by
  have hp := po_pow hT.1
  have hS64 : S < 64 := by omega
  obtain ⟨o, o1, o2, o3, o4⟩ := (po_rch_pos P w hS64).1 hr
  obtain ⟨x, hx, hox⟩ := po_all_arr hS64 o1 o2
  have hpc : po_pc S ≤ 6 := by
    have := List.countP_le_length (p := fun h => S.testBit h) (l := List.range 6)
    rw [List.length_range] at this
    exact this
  have hsum : ∀ g h, h < 6 → g ∈ po_arr 6 S h → po_sum P g = po_sum P o := fun g h hh hg => by
    rw [(po_arr_mem P 6 S h g hS64 hh hg).2, (po_arr_mem P 6 S x o hS64 hx hox).2]
  unfold gh_laysRow
  refine pw_seq (pc_rowOf hT hbd hw S S none 0 5000 M (Nat.le_refl _) (by omega) hW hJ hS h0 (fun q e => (by cases e)) ⟨x, hx, po_cnt_ex.2 ⟨o, hox, o3⟩, fun q e => (by cases e)⟩ (by omega)) (fun M' hM' => ?_)
  obtain ⟨g, ⟨⟨h, hh, hgm, -⟩, hgk, hgmin⟩, hg2, -, hg4⟩ := hM'
  have hga := po_arr_all hS64 hh hgm
  refine (pw_some _ _).2 ⟨g, ⟨hga.1, hgk, by rw [hsum g h hh hgm]; exact o4⟩, hga.2, fun o' ho' hs' => ?_, fun i x e => by have := hg2 i x e; rw [Nat.zero_add] at this; exact this, hg4⟩
  obtain ⟨x', hx', hox'⟩ := po_all_arr hS64 ho'.1 hs'
  exact hgmin x' o' hx' hox' ho'.2.1 (fun q e => (by cases e))
/-! fewest -/
/-- the best row of those that are -/
def po_bs (G : List Nat → Prop) (b : List Nat) : Prop := G b ∧ (∀ o, G o → b.length ≤ o.length) ∧ ∀ o, G o → o.length = b.length → po_num b ≤ po_num o
def po_fe (P : po_P) (w : Int) (i : Int32) (r : Int32) : Prop := ((¬ ∃ o, po_gd P w o) ∧ r = -2) ∨ ∃ b, po_bs (po_gd P w) b ∧ r = if i = -1 then pj b.length else if i.toInt < b.length then pj (b.getD i.toInt.toNat 0 : Nat) else -1
theorem po_fe_uniq {P : po_P} {w : Int} {i r q : Int32} (h : po_fe P w i r) (g : po_fe P w i q) : r = q := by
  rcases h with ⟨a1, a2⟩ | ⟨b, ⟨b1, b2, b3⟩, b4⟩
  · rcases g with ⟨c1, c2⟩ | ⟨c, ⟨c1, _⟩, _⟩
    · rw [a2, c2]
    · exact absurd ⟨c, c1⟩ a1
  · rcases g with ⟨c1, c2⟩ | ⟨c, ⟨c1, c2, c3⟩, c4⟩
    · exact absurd ⟨b, b1⟩ c1
    · have h1 := b2 c c1
      have h2 := c2 b b1
      have h3 := b3 c c1 (by omega)
      have h4 := c3 b b1 (by omega)
      have : b = c := po_num_inj b1.1 c1.1 (by omega) (by omega)
      rw [b4, c4, this]
/-- which of two rows is lower, by their first unlike houses -/
theorem pc_isLower {T : zt_T} {M : cs_S} : ∀ (a b : List Nat), a.length = b.length → (∀ x ∈ a, x < 6) → (∀ x ∈ b, x < 6) → ∀ (k m fuel : Nat), m = k + a.length → a.length < fuel → m ≤ 6 → (∀ (i x : Nat), a[i]? = some x → M.2 0 18 (k + i) = pj x) → (∀ (i x : Nat), b[i]? = some x → M.2 0 17 (k + i) = pj x) →
    (zs_loop fuel (gh_isLower_L2 (pj (m : Nat)) M) (pj (k : Nat))).bind (Sum.elim (fun (r3 : Int32) => (zs_ald 6 (M.2 0 18) r3).bind fun x4 => (zs_ald 6 (M.2 0 17) r3).bind fun x5 => if x4 < x5 then (some true) else (some false)) (fun z => some z)) = some (decide (po_num a < po_num b))
  | [], [], _, _, _, k, m, 0, _, hf, _, _, _ => absurd hf (by simp)
  | [], [], _, _, _, k, m, fuel + 1, hm, hf, h6, _, _ => by
    have : gh_isLower_L2 (pj (m : Nat)) M (pj (k : Nat)) = some (Sum.inr (Sum.inr false)) := by
      rw [List.length_nil, Nat.add_zero] at hm
      subst hm
      unfold gh_isLower_L2
      simp (disch := omega) only [pj_lit, pj_add, pj_sub, pj_neg, pj_mul, pj_lt, pj_eq, pj_nat, pj_ald, pj_ast, pj_ix, pw_bind, pw_ite, pw_some, pw_none, pw_let, Option.bind_some, Int.toNat_natCast, Sum.elim_inl, Sum.elim_inr, Int.cast_ofNat_Int, Int.reduceLT, Int.reduceLE, Int.reduceEq, Int.reduceAdd, Int.reduceSub, Int.reduceMul, Int.reduceNeg, Int.reduceToNat, Nat.reduceAdd, Nat.reduceSub, Nat.reduceMul, Nat.reduceEqDiff, Nat.reduceLT, reduceIte, reduceCtorEq, true_and, and_true, forall_const, not_true_eq_false, not_false_eq_true, false_implies, implies_true, Int.lt_irrefl]
    show ((gh_isLower_L2 (pj (m : Nat)) M (pj (k : Nat))).bind _).bind _ = _
    rw [this]; rfl
  | [], _ :: _, h, _, _, _, _, _, _, _, _, _, _ => by cases h
  | _ :: _, [], h, _, _, _, _, _, _, _, _, _, _ => by cases h
  | x :: a, y :: b, hl, ha, hb, k, m, 0, _, hf, _, _, _ => absurd hf (by simp)
  | x :: a, y :: b, hl, ha, hb, k, m, fuel + 1, hm, hf, h6, ca, cb => by
    rw [List.length_cons] at hm hf
    have hl' : a.length = b.length := by rw [List.length_cons, List.length_cons] at hl; omega
    have hx := ha x List.mem_cons_self
    have hy := hb y List.mem_cons_self
    have cx : M.2 0 18 k = pj x := ca 0 x rfl
    have cy : M.2 0 17 k = pj y := cb 0 y rfl
    have hlt : (k : Int) < (m : Nat) := by omega
    by_cases e : x = y
    · subst e
      have b1 : gh_isLower_L2 (pj (m : Nat)) M (pj (k : Nat)) = some (Sum.inl (pj ((k + 1 : Nat) : Int))) := by
        unfold gh_isLower_L2
        simp (disch := omega) only [pj_lit, pj_add, pj_sub, pj_neg, pj_mul, pj_lt, pj_eq, pj_nat, pj_ald, pj_ast, pj_ix, pw_bind, pw_ite, pw_some, pw_none, pw_let, Option.bind_some, Int.toNat_natCast, Sum.elim_inl, Sum.elim_inr, Int.cast_ofNat_Int, Int.reduceLT, Int.reduceLE, Int.reduceEq, Int.reduceAdd, Int.reduceSub, Int.reduceMul, Int.reduceNeg, Int.reduceToNat, Nat.reduceAdd, Nat.reduceSub, Nat.reduceMul, Nat.reduceEqDiff, Nat.reduceLT, reduceIte, reduceCtorEq, true_and, and_true, forall_const, not_true_eq_false, not_false_eq_true, false_implies, implies_true, hlt, cx, cy]
        rfl
      have ih := pc_isLower (T := T) (M := M) a b hl' (fun z hz => ha z (List.mem_cons_of_mem _ hz)) (fun z hz => hb z (List.mem_cons_of_mem _ hz)) (k + 1) m fuel (by omega) (by omega) h6 (fun i z e => by have := ca (i + 1) z e; rw [show k + 1 + i = k + (i + 1) by omega]; exact this) (fun i z e => by have := cb (i + 1) z e; rw [show k + 1 + i = k + (i + 1) by omega]; exact this)
      show ((gh_isLower_L2 (pj (m : Nat)) M (pj (k : Nat))).bind _).bind _ = _
      rw [b1]
      refine Eq.trans ih ?_
      rw [po_num_cons, po_num_cons, hl']
      congr 1
      exact decide_eq_decide.2 ⟨fun h => by omega, fun h => by omega⟩
    · have e' : ¬ ((x : Nat) : Int) = y := by omega
      have b1 : gh_isLower_L2 (pj (m : Nat)) M (pj (k : Nat)) = some (Sum.inr (Sum.inl (pj (k : Nat)))) := by
        unfold gh_isLower_L2
        simp (disch := omega) only [pj_lit, pj_add, pj_sub, pj_neg, pj_mul, pj_lt, pj_eq, pj_nat, pj_ald, pj_ast, pj_ix, pw_bind, pw_ite, pw_some, pw_none, pw_let, Option.bind_some, Int.toNat_natCast, Sum.elim_inl, Sum.elim_inr, Int.cast_ofNat_Int, Int.reduceLT, Int.reduceLE, Int.reduceEq, Int.reduceAdd, Int.reduceSub, Int.reduceMul, Int.reduceNeg, Int.reduceToNat, Nat.reduceAdd, Nat.reduceSub, Nat.reduceMul, Nat.reduceEqDiff, Nat.reduceLT, reduceIte, reduceCtorEq, true_and, and_true, forall_const, not_true_eq_false, not_false_eq_true, false_implies, implies_true, hlt, cx, cy, e']
      show ((gh_isLower_L2 (pj (m : Nat)) M (pj (k : Nat))).bind _).bind _ = _
      rw [b1]
      simp (disch := omega) only [pj_lit, pj_add, pj_sub, pj_neg, pj_mul, pj_lt, pj_eq, pj_nat, pj_ald, pj_ast, pj_ix, pw_bind, pw_ite, pw_some, pw_none, pw_let, Option.bind_some, Int.toNat_natCast, Sum.elim_inl, Sum.elim_inr, Int.cast_ofNat_Int, Int.reduceLT, Int.reduceLE, Int.reduceEq, Int.reduceAdd, Int.reduceSub, Int.reduceMul, Int.reduceNeg, Int.reduceToNat, Nat.reduceAdd, Nat.reduceSub, Nat.reduceMul, Nat.reduceEqDiff, Nat.reduceLT, reduceIte, reduceCtorEq, true_and, and_true, forall_const, not_true_eq_false, not_false_eq_true, false_implies, implies_true, cx, cy]
      have la := po_num_cmp (x := x) (y := y) hl' (fun z hz => ha z (List.mem_cons_of_mem _ hz)) (fun z hz => hb z (List.mem_cons_of_mem _ hz))
      have lb := po_num_cmp (x := y) (y := x) hl'.symm (fun z hz => hb z (List.mem_cons_of_mem _ hz)) (fun z hz => ha z (List.mem_cons_of_mem _ hz))
      by_cases c : x < y
      · have c' : (x : Int) < y := by omega
        have := la c
        rw [if_pos c', decide_eq_true this]
      · have c' : ¬ (x : Int) < y := by omega
        have := lb (by omega)
        rw [if_neg c', decide_eq_false (by omega)]
/-- all but row and found -/
def pc_f (M M' : cs_S) : Prop := M'.1 = M.1 ∧ ∀ o f, ¬ (o = 0 ∧ (f = 17 ∨ f = 18)) → M'.2 o f = M.2 o f
theorem pc_f_rfl (M : cs_S) : pc_f M M := ⟨rfl, fun _ _ _ => rfl⟩
theorem pc_f_trans {A B C : cs_S} (h : pc_f A B) (g : pc_f B C) : pc_f A C := ⟨g.1.trans h.1, fun o f a => (g.2 o f a).trans (h.2 o f a)⟩
theorem pc_r_f {M M' : cs_S} (h : pc_r M M') : pc_f M M' := ⟨h.1, fun o f a => h.2 o f (by omega)⟩
theorem pc_f_k {M M' : cs_S} (h : pc_f M M') : pc_k M M' := ⟨fun o f _ _ _ => by rw [h.1], fun o f _ _ _ _ _ b => h.2 o f (by omega), by rw [h.2 0 16 (by omega)]⟩
theorem po_W_f {T : zt_T} {P : po_P} {w : Int} {M M' : cs_S} {k : Nat} (h : pc_f M M') (g : po_W T P w M k) : po_W T P w M' k := fun S hS => by
  rw [h.2 0 16 (by omega)]
  refine ⟨(g S hS).1, fun h1 x hx => ?_⟩
  rw [h.2 60 S (by omega)]
  exact (g S hS).2 h1 x hx
theorem po_Jn_f {T : zt_T} {M M' : cs_S} {jn : Nat → Nat → Int} (h : pc_f M M') (g : po_Jn T M jn) : po_Jn T M' jn := fun a b ha hb hab => by
  rw [h.2 61 a (by omega)]; exact g a b ha hb hab
/-- rows are copied into found -/
theorem pc_found {M : cs_S} {g : List Nat} (hl : g.length ≤ 6) (hg : ∀ (i x : Nat), g[i]? = some x → M.2 0 18 i = pj x) :
    pw (zs_loop 5000 (gh_fewest_L103 (pj (g.length : Nat))) (pj 0, M)) (fun r => r.1 = pj (g.length : Nat) ∧ (∀ (i x : Nat), g[i]? = some x → r.2.2 0 17 i = pj x) ∧ pc_f M r.2) := by
  refine pw_for g.length (fun k t => ∃ M', t = (pj (k : Nat), M') ∧ (∀ (i x : Nat), i < k → g[i]? = some x → M'.2 0 17 i = pj x) ∧ pc_f M M' ∧ M'.2 0 18 = M.2 0 18) 5000 (by omega) ?_ ?_ _ ⟨M, rfl, fun i x h => absurd h (Nat.not_lt_zero i), pc_f_rfl M, rfl⟩
  · rintro k t hk ⟨M1, rfl, h1, h2, h3⟩
    have hlt : (k : Int) < (g.length : Nat) := by omega
    have hc := hg k _ (List.getElem?_eq_getElem hk)
    rw [← h3] at hc
    unfold gh_fewest_L103
    simp (disch := omega) only [pj_lit, pj_add, pj_sub, pj_neg, pj_mul, pj_lt, pj_eq, pj_nat, pj_ald, pj_ast, pj_ix, pw_bind, pw_ite, pw_some, pw_none, pw_let, Option.bind_some, Int.toNat_natCast, Sum.elim_inl, Sum.elim_inr, Int.cast_ofNat_Int, Int.reduceLT, Int.reduceLE, Int.reduceEq, Int.reduceAdd, Int.reduceSub, Int.reduceMul, Int.reduceNeg, Int.reduceToNat, Nat.reduceAdd, Nat.reduceSub, Nat.reduceMul, Nat.reduceEqDiff, Nat.reduceLT, reduceIte, reduceCtorEq, true_and, and_true, forall_const, not_true_eq_false, not_false_eq_true, false_implies, implies_true, hlt, hc]
    refine ⟨cs_sA M1 0 17 (pj (k : Nat)) (pj (g[k] : Nat)), rfl, fun i x hi e => ?_, pc_f_trans h2 ⟨rfl, fun o f a => pc_sA2n (by omega)⟩, by rw [pc_sA2n (by omega)]; exact h3⟩
    rw [pc_sA2s, pj_nat (by omega), Int.toNat_natCast, pj_upd]
    by_cases c : i = k
    · subst c
      rw [if_pos rfl]
      rw [List.getElem?_eq_getElem hk] at e
      injection e with e
      rw [e]
    · rw [if_neg c]; exact h1 i x (by omega) e
  · rintro t ⟨M1, rfl, h1, h2, h3⟩
    unfold gh_fewest_L103
    simp (disch := omega) only [pj_lit, pj_add, pj_sub, pj_neg, pj_mul, pj_lt, pj_eq, pj_nat, pj_ald, pj_ast, pj_ix, pw_bind, pw_ite, pw_some, pw_none, pw_let, Option.bind_some, Int.toNat_natCast, Sum.elim_inl, Sum.elim_inr, Int.cast_ofNat_Int, Int.reduceLT, Int.reduceLE, Int.reduceEq, Int.reduceAdd, Int.reduceSub, Int.reduceMul, Int.reduceNeg, Int.reduceToNat, Nat.reduceAdd, Nat.reduceSub, Nat.reduceMul, Nat.reduceEqDiff, Nat.reduceLT, reduceIte, reduceCtorEq, true_and, and_true, forall_const, not_true_eq_false, not_false_eq_true, false_implies, implies_true, Int.lt_irrefl]
    exact ⟨fun i x e => h1 i x (List.getElem?_eq_some_iff.1 e).1 e, h2⟩
theorem pc_fewest {T : zt_T} {M : cs_S} {V : pv_V} (hT : pt_ok T) (hV : pc_V M 0 V) (ho : pv_ok (zt_n T) V) (h0 : M.2 0 16 0 = pj 0) {w : Int} (hw : 0 ≤ w ∧ w ≤ 999) (i : Int32) (hi : -1 ≤ i.toInt) :
    pw (gh_fewest T M (pj w) i) (fun p => po_fe (po_PT T V (po_jn T V)) w i p.1 ∧ pc_k M p.2) := by
  have hn := hT.1
  have hp := po_pow hn
  have hbd : ∀ x, x < 6 → 0 ≤ (po_PT T V (po_jn T V)).1 x ∧ (po_PT T V (po_jn T V)).1 x ≤ 99 := fun x hx => pv_lg_bd ho hx
  have hz : ∀ x, zt_n T ≤ x → x < 6 → (po_PT T V (po_jn T V)).1 x = 0 := fun x h1 h2 => pv_lg_no ho h1 h2
  have hgS : ∀ o, po_gd (po_PT T V (po_jn T V)) w o → po_set o < 2 ^ zt_n T ∧ 0 < po_set o ∧ 0 < po_rch (po_PT T V (po_jn T V)) w (po_set o) := by
    intro o hg
    have h64 := (po_F0 hg.1).1
    have h1 := (po_rch_pos (po_PT T V (po_jn T V)) w h64).2 ⟨o, hg.1, rfl, hg.2.1, hg.2.2⟩
    refine ⟨?_, ?_, h1⟩
    · by_cases c : po_set o < 2 ^ zt_n T
      · exact c
      · rw [po_rch_no hz hn h64 (by omega)] at h1; omega
    · by_cases c : po_set o = 0
      · rw [c, po_rch_0 hT.2.2.2.1.1] at h1; omega
      · omega
  have him : ¬ i < -1 := by
    intro q
    have := Int32.lt_iff_toInt_lt.1 q
    have e : (-1 : Int32).toInt = -1 := by decide
    omega
  unfold gh_fewest
  rw [pc_haulw, pj_toInt (by omega), decide_eq_true hw, Option.bind_some, if_pos rfl, if_neg him]
  refine pw_seq (pc_laysJoins hT hV ho (by omega)) (fun M1 h1 => ?_)
  obtain ⟨hJ, hj⟩ := h1
  have hk := pc_j_k hj
  refine pw_seq (pc_laysWays hT (pc_V_j (by omega) hj hV) ho (by omega) hJ (hk.2.2.trans h0) hw) (fun M2 h2 => ?_)
  obtain ⟨hW, hd⟩ := h2
  have hk2 := pc_k_trans hk (pc_d_k hd)
  have hJ2 : po_Jn T M2 (po_jn T V) := fun a b ha hb hab => by rw [hd.2.1 61 a (by omega) (by omega)]; exact hJ a b ha hb hab
  generalize hPe : po_PT T V (po_jn T V) = P at *
  have hP4 : P.2.2.2 = pt_f T 4 := by rw [← hPe]; rfl
  have hPj : P.2.2.1 = po_jn T V := by rw [← hPe]; rfl
  refine pw_seq (Q := fun r : Int32 × cs_S => pc_f M2 r.2 ∧ ((r.1 = 1000000 ∧ ¬ ∃ o, po_gd P w o) ∨ ∃ b, po_bs (po_gd P w) b ∧ r.1 = pj (b.length : Nat) ∧ ∀ (i x : Nat), b[i]? = some x → r.2.2 0 17 i = pj x)) ?_ ?_
  · refine pw_for (2 ^ zt_n T - 1) (fun k t => ∃ x M', t = (x, pj ((k + 1 : Nat) : Int), M') ∧ pc_f M2 M' ∧ ((x = pj 1000000 ∧ ¬ ∃ o, po_gd P w o ∧ po_set o < k + 1) ∨ ∃ b, po_bs (fun o => po_gd P w o ∧ po_set o < k + 1) b ∧ x = pj (b.length : Nat) ∧ ∀ (i x : Nat), b[i]? = some x → M'.2 0 17 i = pj x)) 5000 (by omega) ?_ ?_ _ ⟨_, M2, rfl, pc_f_rfl M2, Or.inl ⟨rfl, fun ⟨o, h1, h2⟩ => by have := (hgS o h1).2.1; omega⟩⟩
    · rintro k t hk3 ⟨x, M3, rfl, hf, hx⟩
      have hlt : ((k + 1 : Nat) : Int) < ((2 ^ zt_n T : Nat) : Int) := by omega
      have hW3 := po_W_f hf hW
      have hJ3 : po_Jn T M3 P.2.2.1 := by rw [hPj]; exact po_Jn_f hf hJ2
      have hr := pc_reaching hT (P := P) hP4 hbd hW3 (S := k + 1) (by omega) (by omega)
      have hle := po_rch_le P w (S := k + 1) (by omega)
      have hbc := po_bitc (k + 1) (by omega)
      have hpc6 : po_pc (k + 1) ≤ 6 := by
        have := List.countP_le_length (p := fun h => (k + 1).testBit h) (l := List.range 6)
        rw [List.length_range] at this
        exact this
      have hlenS : ∀ o, po_gd P w o → po_set o = k + 1 → o.length = po_pc (k + 1) := fun o hg hs => by rw [po_F6 hg.1, hs]
      have hrc : ∀ o, po_gd P w o → po_set o = k + 1 → 0 < po_rch P w (k + 1) := fun o hg hs => (po_rch_pos P w (by omega)).2 ⟨o, hg.1, hs, hg.2.1, hg.2.2⟩
      -- nothing taken
      have skip : (∀ o, po_gd P w o → po_set o = k + 1 → ∃ b, x = pj (b.length : Nat) ∧ po_bs (fun o => po_gd P w o ∧ po_set o < k + 1) b ∧ (b.length < o.length ∨ (b.length = o.length ∧ po_num b ≤ po_num o))) → ∀ M4, pc_f M2 M4 → M4.2 0 17 = M3.2 0 17 → ∃ x' M', (x, pj ((k + 1 : Nat) : Int) + 1, M4) = (x', pj ((k + 1 + 1 : Nat) : Int), M') ∧ pc_f M2 M' ∧ ((x' = pj 1000000 ∧ ¬ ∃ o, po_gd P w o ∧ po_set o < k + 1 + 1) ∨ ∃ b, po_bs (fun o => po_gd P w o ∧ po_set o < k + 1 + 1) b ∧ x' = pj (b.length : Nat) ∧ ∀ (i x : Nat), b[i]? = some x → M'.2 0 17 i = pj x) := by
        intro hs M4 hf4 h17
        refine ⟨x, M4, by rw [pj_succ], hf4, ?_⟩
        rcases hx with ⟨x1, x2⟩ | ⟨b, ⟨b1, b2, b3⟩, b4, b5⟩
        · refine Or.inl ⟨x1, fun ⟨o, o1, o2⟩ => ?_⟩
          by_cases e : po_set o = k + 1
          · obtain ⟨b, b1, b2, b3⟩ := hs o o1 e
            rw [x1] at b1
            have h6 := (po_F0 b2.1.1.1).2.1
            have := (pj_eq (by omega) (by omega)).1 b1
            omega
          · exact x2 ⟨o, o1, by omega⟩
        · have key : ∀ o, po_gd P w o → po_set o = k + 1 → b.length < o.length ∨ (b.length = o.length ∧ po_num b ≤ po_num o) := fun o o1 e => by
            obtain ⟨b', c1, c2, c3⟩ := hs o o1 e
            rw [b4] at c1
            have h6 := (po_F0 b1.1.1).2.1
            have h6' := (po_F0 c2.1.1.1).2.1
            have el := (pj_eq (by omega) (by omega)).1 c1
            have n1 := b3 b' c2.1 (by omega)
            omega
          refine Or.inr ⟨b, ⟨⟨b1.1, by omega⟩, fun o o1 => ?_, fun o o1 o2 => ?_⟩, b4, fun i z e => by rw [h17]; exact b5 i z e⟩
          · by_cases e : po_set o = k + 1
            · have := key o o1.1 e; omega
            · exact b2 o ⟨o1.1, by omega⟩
          · by_cases e : po_set o = k + 1
            · have := key o o1.1 e; omega
            · exact b3 o ⟨o1.1, by omega⟩ o2
      have hxb : ∃ z : Int, x = pj z ∧ 0 ≤ z ∧ z ≤ 1000000 ∧ ((z = 1000000 ∧ ¬ ∃ o, po_gd P w o ∧ po_set o < k + 1) ∨ ∃ b, po_bs (fun o => po_gd P w o ∧ po_set o < k + 1) b ∧ z = (b.length : Nat) ∧ b.length ≤ 6 ∧ ∀ (i x : Nat), b[i]? = some x → M3.2 0 17 i = pj x) := by
        rcases hx with ⟨x1, x2⟩ | ⟨b, b1, b4, b5⟩
        · exact ⟨1000000, x1, by omega, by omega, Or.inl ⟨rfl, x2⟩⟩
        · have h6 := (po_F0 b1.1.1.1).2.1
          exact ⟨(b.length : Nat), b4, by omega, by omega, Or.inr ⟨b, b1, rfl, h6, b5⟩⟩
      obtain ⟨z, rfl, z0, z1, hzc⟩ := hxb
      unfold gh_fewest_L38
      by_cases c1 : z < po_pc (k + 1)
      · simp (disch := omega) only [pj_lit, pj_add, pj_sub, pj_neg, pj_mul, pj_lt, pj_eq, pj_nat, pj_ald, pj_ast, pj_ix, pw_bind, pw_ite, pw_some, pw_none, pw_let, Option.bind_some, Int.toNat_natCast, Sum.elim_inl, Sum.elim_inr, Int.cast_ofNat_Int, Int.reduceLT, Int.reduceLE, Int.reduceEq, Int.reduceAdd, Int.reduceSub, Int.reduceMul, Int.reduceNeg, Int.reduceToNat, Nat.reduceAdd, Nat.reduceSub, Nat.reduceMul, Nat.reduceEqDiff, Nat.reduceLT, reduceIte, reduceCtorEq, true_and, and_true, forall_const, not_true_eq_false, not_false_eq_true, false_implies, implies_true, po_all2 _ hT, hlt, hbc, c1]
        have := skip (fun o o1 o2 => by
          rcases hzc with ⟨d1, d2⟩ | ⟨b, b1, b2, b3, b4⟩
          · omega
          · exact ⟨b, by rw [b2], b1, Or.inl (by rw [hlenS o o1 o2]; omega)⟩) M3 hf rfl
        rw [pj_1, pj_add] at this
        exact this
      · by_cases c2 : po_rch P w (k + 1) = 0
        · have c2' : ((po_rch P w (k + 1) : Nat) : Int) = 0 := by omega
          simp (disch := omega) only [pj_lit, pj_add, pj_sub, pj_neg, pj_mul, pj_lt, pj_eq, pj_nat, pj_ald, pj_ast, pj_ix, pw_bind, pw_ite, pw_some, pw_none, pw_let, Option.bind_some, Int.toNat_natCast, Sum.elim_inl, Sum.elim_inr, Int.cast_ofNat_Int, Int.reduceLT, Int.reduceLE, Int.reduceEq, Int.reduceAdd, Int.reduceSub, Int.reduceMul, Int.reduceNeg, Int.reduceToNat, Nat.reduceAdd, Nat.reduceSub, Nat.reduceMul, Nat.reduceEqDiff, Nat.reduceLT, reduceIte, reduceCtorEq, true_and, and_true, forall_const, not_true_eq_false, not_false_eq_true, false_implies, implies_true, po_all2 _ hT, hlt, hbc, c1, hr, c2']
          have := skip (fun o o1 o2 => by have := hrc o o1 o2; omega) M3 hf rfl
          rw [pj_1, pj_add] at this
          exact this
        · have c2' : ¬ ((po_rch P w (k + 1) : Nat) : Int) = 0 := by omega
          simp (disch := omega) only [pj_lit, pj_add, pj_sub, pj_neg, pj_mul, pj_lt, pj_eq, pj_nat, pj_ald, pj_ast, pj_ix, pw_bind, pw_ite, pw_some, pw_none, pw_let, Option.bind_some, Int.toNat_natCast, Sum.elim_inl, Sum.elim_inr, Int.cast_ofNat_Int, Int.reduceLT, Int.reduceLE, Int.reduceEq, Int.reduceAdd, Int.reduceSub, Int.reduceMul, Int.reduceNeg, Int.reduceToNat, Nat.reduceAdd, Nat.reduceSub, Nat.reduceMul, Nat.reduceEqDiff, Nat.reduceLT, reduceIte, reduceCtorEq, true_and, and_true, forall_const, not_true_eq_false, not_false_eq_true, false_implies, implies_true, po_all2 _ hT, hlt, hbc, c1, hr, c2']
          refine pw_mono (pc_laysRow hT hbd hw hW3 hJ3 (S := k + 1) (by omega) (by omega) (by omega)) (fun M4 hM4 => ?_)
          obtain ⟨g, g1, g2, g3, g4, g5⟩ := hM4
          have hglen := hlenS g g1 g2
          have hg6 := (po_F0 g1.1).2.2.2
          have hf4 := pc_f_trans hf (pc_r_f g5)
          have h17 : M4.2 0 17 = M3.2 0 17 := g5.2 0 17 (by omega)
          have take : (∀ b, po_bs (fun o => po_gd P w o ∧ po_set o < k + 1) b → z = (b.length : Nat) → g.length < b.length ∨ (g.length = b.length ∧ po_num g < po_num b)) → pw (zs_loop 5000 (gh_fewest_L103 (pj (po_pc (k + 1) : Nat))) (pj 0, M4)) fun a => ∃ x' M', (a.1, pj (((k + 1 : Nat) : Int) + 1), a.2) = (x', pj ((k + 1 + 1 : Nat) : Int), M') ∧ pc_f M2 M' ∧ ((x' = pj 1000000 ∧ ¬ ∃ o, po_gd P w o ∧ po_set o < k + 1 + 1) ∨ ∃ b, po_bs (fun o => po_gd P w o ∧ po_set o < k + 1 + 1) b ∧ x' = pj (b.length : Nat) ∧ ∀ (i x : Nat), b[i]? = some x → M'.2 0 17 i = pj x) := by
            intro hb
            rw [← hglen]
            refine pw_mono (pc_found (by omega) g4) (fun a ha => ?_)
            obtain ⟨a1, a2, a3⟩ := ha
            refine ⟨a.1, a.2, rfl, pc_f_trans hf4 a3, Or.inr ⟨g, ⟨⟨g1, by omega⟩, fun o o1 => ?_, fun o o1 o2 => ?_⟩, a1, a2⟩⟩
            · by_cases e : po_set o = k + 1
              · have := hlenS o o1.1 e; omega
              · rcases hzc with ⟨d1, d2⟩ | ⟨b, b1, b2, b3, b4⟩
                · exact absurd ⟨o, o1.1, by omega⟩ d2
                · have q1 := hb b b1 b2
                  have q2 := b1.2.1 o ⟨o1.1, by omega⟩
                  omega
            · by_cases e : po_set o = k + 1
              · exact g3 o o1.1 e
              · rcases hzc with ⟨d1, d2⟩ | ⟨b, b1, b2, b3, b4⟩
                · exact absurd ⟨o, o1.1, by omega⟩ d2
                · have q1 := hb b b1 b2
                  have q2 := b1.2.1 o ⟨o1.1, by omega⟩
                  have q3 := b1.2.2 o ⟨o1.1, by omega⟩ (by omega)
                  omega
          by_cases c3 : ((po_pc (k + 1) : Nat) : Int) = z
          · have hzc' : ∃ b, po_bs (fun o => po_gd P w o ∧ po_set o < k + 1) b ∧ z = (b.length : Nat) ∧ b.length ≤ 6 ∧ ∀ (i x : Nat), b[i]? = some x → M3.2 0 17 i = pj x := by
              rcases hzc with ⟨d1, d2⟩ | q
              · omega
              · exact q
            obtain ⟨b, b1, b2, b3, b4⟩ := hzc'
            have hlow : gh_isLower T M4 (pj (po_pc (k + 1) : Nat)) = some (decide (po_num g < po_num b)) := by
              have := pc_isLower (T := T) (M := M4) g b (by omega) hg6 (po_F0 b1.1.1.1).2.2.2 0 (po_pc (k + 1)) 5000 (by omega) (by omega) hpc6 (fun i z e => by rw [Nat.zero_add]; exact g4 i z e) (fun i z e => by rw [Nat.zero_add, h17]; exact b4 i z e)
              exact this
            have c3t : (((po_pc (k + 1) : Nat) : Int) = z) = True := eq_true c3
            simp (disch := omega) only [pj_lit, pj_add, pj_sub, pj_neg, pj_mul, pj_lt, pj_eq, pj_nat, pj_ald, pj_ast, pj_ix, pw_bind, pw_ite, pw_some, pw_none, pw_let, Option.bind_some, Int.toNat_natCast, Sum.elim_inl, Sum.elim_inr, Int.cast_ofNat_Int, Int.reduceLT, Int.reduceLE, Int.reduceEq, Int.reduceAdd, Int.reduceSub, Int.reduceMul, Int.reduceNeg, Int.reduceToNat, Nat.reduceAdd, Nat.reduceSub, Nat.reduceMul, Nat.reduceEqDiff, Nat.reduceLT, reduceIte, reduceCtorEq, true_and, and_true, forall_const, not_true_eq_false, not_false_eq_true, false_implies, implies_true, c3t, hlow, decide_eq_true_eq]
            refine ⟨fun q => ?_, fun q => ?_⟩
            · refine take (fun b' h1' h2' => Or.inr ⟨by omega, ?_⟩)
              have := b1.2.2 b' h1'.1 (by omega)
              omega
            · have := skip (fun o o1 o2 => ⟨b, by rw [b2], b1, Or.inr ⟨by rw [hlenS o o1 o2]; omega, by have := g3 o o1 o2; omega⟩⟩) M4 hf4 h17
              rw [pj_1, pj_add] at this
              exact this
          · simp (disch := omega) only [pj_lit, pj_add, pj_sub, pj_neg, pj_mul, pj_lt, pj_eq, pj_nat, pj_ald, pj_ast, pj_ix, pw_bind, pw_ite, pw_some, pw_none, pw_let, Option.bind_some, Int.toNat_natCast, Sum.elim_inl, Sum.elim_inr, Int.cast_ofNat_Int, Int.reduceLT, Int.reduceLE, Int.reduceEq, Int.reduceAdd, Int.reduceSub, Int.reduceMul, Int.reduceNeg, Int.reduceToNat, Nat.reduceAdd, Nat.reduceSub, Nat.reduceMul, Nat.reduceEqDiff, Nat.reduceLT, reduceIte, reduceCtorEq, true_and, and_true, forall_const, not_true_eq_false, not_false_eq_true, false_implies, implies_true, c3]
            exact take (fun b' h1' h2' => Or.inl (by omega))
    · rintro t ⟨x, M3, rfl, hf, hx⟩
      have e : 2 ^ zt_n T - 1 + 1 = 2 ^ zt_n T := by omega
      rw [e] at hx ⊢
      unfold gh_fewest_L38
      simp (disch := omega) only [pj_lit, pj_add, pj_sub, pj_neg, pj_mul, pj_lt, pj_eq, pj_nat, pj_ald, pj_ast, pj_ix, pw_bind, pw_ite, pw_some, pw_none, pw_let, Option.bind_some, Int.toNat_natCast, Sum.elim_inl, Sum.elim_inr, Int.cast_ofNat_Int, Int.reduceLT, Int.reduceLE, Int.reduceEq, Int.reduceAdd, Int.reduceSub, Int.reduceMul, Int.reduceNeg, Int.reduceToNat, Nat.reduceAdd, Nat.reduceSub, Nat.reduceMul, Nat.reduceEqDiff, Nat.reduceLT, reduceIte, reduceCtorEq, true_and, and_true, forall_const, not_true_eq_false, not_false_eq_true, false_implies, implies_true, po_all2 _ hT, Int.lt_irrefl]
      refine ⟨hf, ?_⟩
      have heq : ∀ o, (po_gd P w o ∧ po_set o < 2 ^ zt_n T) ↔ po_gd P w o := fun o => ⟨fun q => q.1, fun q => ⟨q, (hgS o q).1⟩⟩
      rcases hx with ⟨x1, x2⟩ | ⟨b, ⟨b1, b2, b3⟩, b4, b5⟩
      · exact Or.inl ⟨x1, fun ⟨o, q⟩ => x2 ⟨o, (heq o).2 q⟩⟩
      · exact Or.inr ⟨b, ⟨b1.1, fun o q => b2 o ((heq o).2 q), fun o q => b3 o ((heq o).2 q)⟩, b4, b5⟩
  · rintro ⟨x, M3⟩ ⟨hf, hx⟩
    dsimp only at hf hx ⊢
    have hk3 := pc_k_trans hk2 (pc_f_k hf)
    rcases hx with ⟨x1, x2⟩ | ⟨b, hb, b4, b5⟩
    · rw [if_pos x1, pw_some]
      exact ⟨Or.inl ⟨x2, rfl⟩, hk3⟩
    · have h6 := (po_F0 hb.1.1).2.1
      have hne : ¬ x = 1000000 := by
        rw [b4]
        intro q
        have := (pj_eq (b := 1000000) (by omega) (by omega)).1 q
        omega
      rw [if_neg hne]
      by_cases c : i = -1
      · rw [if_pos c, pw_some]
        exact ⟨Or.inr ⟨b, hb, by rw [if_pos c]; exact b4⟩, hk3⟩
      · rw [if_neg c]
        have hi0 : 0 ≤ i.toInt := by
          by_cases q : i.toInt = -1
          · exact absurd (by rw [← pj_of i, q]; rfl) c
          · omega
        by_cases d : i.toInt < (b.length : Nat)
        · have d' : i < x := by rw [b4, Int32.lt_iff_toInt_lt, pj_toInt (by omega)]; exact d
          have hcell := b5 i.toInt.toNat _ (pv_get (by omega))
          rw [if_pos d']
          conv => lhs; rw [← pj_of i]
          simp (disch := omega) only [pj_lit, pj_add, pj_sub, pj_neg, pj_mul, pj_lt, pj_eq, pj_nat, pj_ald, pj_ast, pj_ix, pw_bind, pw_ite, pw_some, pw_none, pw_let, Option.bind_some, Int.toNat_natCast, Sum.elim_inl, Sum.elim_inr, Int.cast_ofNat_Int, Int.reduceLT, Int.reduceLE, Int.reduceEq, Int.reduceAdd, Int.reduceSub, Int.reduceMul, Int.reduceNeg, Int.reduceToNat, Nat.reduceAdd, Nat.reduceSub, Nat.reduceMul, Nat.reduceEqDiff, Nat.reduceLT, reduceIte, reduceCtorEq, true_and, and_true, forall_const, not_true_eq_false, not_false_eq_true, false_implies, implies_true, hcell]
          refine ⟨Or.inr ⟨b, hb, ?_⟩, hk3⟩
          rw [if_neg c, if_pos d]
        · have d' : ¬ i < x := by rw [b4, Int32.lt_iff_toInt_lt, pj_toInt (by omega)]; exact d
          rw [if_neg d', pw_some]
          refine ⟨Or.inr ⟨b, hb, ?_⟩, hk3⟩
          rw [if_neg c, if_neg d]
/-! fewest, by the model -/
def po_ff (P : po_P) (w : Int) (c : Option (List Nat)) (o : List Nat) : Option (List Nat) := match c with
  | none => if po_sp P o < w then none else some o
  | some b => if b.length ≤ o.length then some b else if po_sp P o < w then some b else some o
theorem po_ff_fold (P : po_P) (w : Int) : ∀ (l : List (List Nat)) (c : Option (List Nat)), l.Pairwise (fun a b => a.length = b.length → po_num a < po_num b) → (∀ b, c = some b → ∀ o ∈ l, b.length = o.length → po_num b < po_num o) →
    (l.foldl (po_ff P w) c = none ↔ c = none ∧ ∀ o ∈ l, ¬ w ≤ po_sp P o) ∧ ∀ b, l.foldl (po_ff P w) c = some b → (c = some b ∨ (b ∈ l ∧ w ≤ po_sp P b)) ∧ (∀ b0, c = some b0 → b.length ≤ b0.length ∧ (b0.length = b.length → po_num b ≤ po_num b0)) ∧ ∀ o ∈ l, w ≤ po_sp P o → b.length ≤ o.length ∧ (o.length = b.length → po_num b ≤ po_num o)
  | [], c, _, _ => ⟨⟨fun h => ⟨h, fun o ho => (by cases ho)⟩, fun h => h.1⟩, fun b h => ⟨Or.inl h, fun b0 e => by
      rw [show List.foldl (po_ff P w) c [] = c from rfl] at h
      rw [h] at e; injection e with e; rw [e]; exact ⟨Nat.le_refl _, fun _ => Nat.le_refl _⟩, fun o ho => (by cases ho)⟩⟩
  | x :: l, c, hp, hc => by
    obtain ⟨hx, hp'⟩ := List.pairwise_cons.1 hp
    rw [List.foldl_cons]
    -- the next
    have hc' : ∀ b, po_ff P w c x = some b → ∀ o ∈ l, b.length = o.length → po_num b < po_num o := by
      intro b h o ho hl
      unfold po_ff at h
      cases c with
      | none =>
        dsimp only at h
        split at h
        · cases h
        · injection h with h; subst h; exact hx o ho hl
      | some b0 =>
        dsimp only at h
        split at h
        · injection h with h; subst h; exact hc b0 rfl o (List.mem_cons_of_mem _ ho) hl
        · split at h
          · injection h with h; subst h; exact hc b0 rfl o (List.mem_cons_of_mem _ ho) hl
          · injection h with h; subst h; exact hx o ho hl
    obtain ⟨ih1, ih2⟩ := po_ff_fold P w l (po_ff P w c x) hp' hc'
    refine ⟨?_, fun b h => ?_⟩
    · rw [ih1]
      cases c with
      | none =>
        show (if po_sp P x < w then none else some x) = none ∧ _ ↔ _
        by_cases d : po_sp P x < w
        · rw [if_pos d]
          constructor
          · rintro ⟨-, b⟩
            refine ⟨rfl, fun o ho => ?_⟩
            rcases List.mem_cons.1 ho with rfl | ho
            · omega
            · exact b o ho
          · rintro ⟨-, b⟩
            exact ⟨rfl, fun o ho => b o (List.mem_cons_of_mem _ ho)⟩
        · rw [if_neg d]
          constructor
          · rintro ⟨a, -⟩; cases a
          · rintro ⟨-, b⟩; exact absurd (b x List.mem_cons_self) (by omega)
      | some b0 =>
        show (if b0.length ≤ x.length then some b0 else if po_sp P x < w then some b0 else some x) = none ∧ _ ↔ _
        constructor
        · rintro ⟨a, -⟩
          split at a
          · cases a
          · split at a <;> cases a
        · rintro ⟨a, -⟩; cases a
    · obtain ⟨j1, j2, j3⟩ := ih2 b h
      cases c with
      | none =>
        have e : po_ff P w none x = if po_sp P x < w then none else some x := rfl
        rw [e] at j1 j2
        by_cases d : po_sp P x < w
        · rw [if_pos d] at j1 j2
          refine ⟨?_, fun b0 e => (by cases e), fun o ho how => ?_⟩
          · rcases j1 with j1 | ⟨j1, j4⟩
            · cases j1
            · exact Or.inr ⟨List.mem_cons_of_mem _ j1, j4⟩
          · rcases List.mem_cons.1 ho with rfl | ho
            · omega
            · exact j3 o ho how
        · rw [if_neg d] at j1 j2
          refine ⟨?_, fun b0 e => (by cases e), fun o ho how => ?_⟩
          · rcases j1 with j1 | ⟨j1, j4⟩
            · injection j1 with j1; subst j1; exact Or.inr ⟨List.mem_cons_self, by omega⟩
            · exact Or.inr ⟨List.mem_cons_of_mem _ j1, j4⟩
          · rcases List.mem_cons.1 ho with rfl | ho
            · exact j2 _ rfl
            · exact j3 o ho how
      | some b0 =>
        have e : po_ff P w (some b0) x = if b0.length ≤ x.length then some b0 else if po_sp P x < w then some b0 else some x := rfl
        rw [e] at j1 j2
        by_cases d1 : b0.length ≤ x.length
        · rw [if_pos d1] at j1 j2
          refine ⟨?_, j2, fun o ho how => ?_⟩
          · rcases j1 with j1 | ⟨j1, j4⟩
            · exact Or.inl j1
            · exact Or.inr ⟨List.mem_cons_of_mem _ j1, j4⟩
          · rcases List.mem_cons.1 ho with rfl | ho
            · have q := j2 b0 rfl
              refine ⟨by omega, fun hl => ?_⟩
              have q2 := q.2 (by omega)
              have q3 := hc b0 rfl o List.mem_cons_self (by omega)
              omega
            · exact j3 o ho how
        · rw [if_neg d1] at j1 j2
          by_cases d : po_sp P x < w
          · rw [if_pos d] at j1 j2
            refine ⟨?_, j2, fun o ho how => ?_⟩
            · rcases j1 with j1 | ⟨j1, j4⟩
              · exact Or.inl j1
              · exact Or.inr ⟨List.mem_cons_of_mem _ j1, j4⟩
            · rcases List.mem_cons.1 ho with rfl | ho
              · omega
              · exact j3 o ho how
          · rw [if_neg d] at j1 j2
            have q := j2 x rfl
            refine ⟨?_, fun b1 e1 => ?_, fun o ho how => ?_⟩
            · rcases j1 with j1 | ⟨j1, j4⟩
              · injection j1 with j1; subst j1; exact Or.inr ⟨List.mem_cons_self, by omega⟩
              · exact Or.inr ⟨List.mem_cons_of_mem _ j1, j4⟩
            · injection e1 with e1
              rw [← e1]
              exact ⟨by omega, fun hl => by omega⟩
            · rcases List.mem_cons.1 ho with rfl | ho
              · exact q
              · exact j3 o ho how
def po_fI : Option (List Nat) → Int32
  | none => pj (-2)
  | some b => pj b.length
theorem pm_best {Z : zm_S} {o : List Nat} (hO : pm_O Z o.reverse) : pw (zs_loop 5000 (gm_fewestOf_L45 (pj (o.length : Nat))) (pj 0, Z)) (fun Z' => (∀ (i x : Nat), o[i]? = some x → Z'.2.1 62 i = pj x) ∧ Z'.1 = Z.1 ∧ (∀ k, k ≠ 62 → Z'.2.1 k = Z.2.1 k) ∧ Z'.2.2 = Z.2.2) := by
  obtain ⟨g1, g2, g3, g4⟩ := hO
  rw [List.reverse_reverse] at g4
  rw [List.length_reverse] at g2
  refine pw_for o.length (fun k t => ∃ Z', t = (pj (k : Nat), Z') ∧ (∀ (i x : Nat), i < k → o[i]? = some x → Z'.2.1 62 i = pj x) ∧ Z'.1 = Z.1 ∧ (∀ k, k ≠ 62 → Z'.2.1 k = Z.2.1 k) ∧ Z'.2.2 = Z.2.2) 5000 (by omega) ?_ ?_ _ ⟨Z, rfl, fun i x h => absurd h (Nat.not_lt_zero i), rfl, fun _ _ => rfl, rfl⟩
  · rintro k t hk ⟨Z1, rfl, h1, h2, h3, h4⟩
    have hlt : (k : Int) < (o.length : Nat) := by omega
    have hc := g4 k _ (List.getElem?_eq_getElem hk)
    rw [← h3 60 (by decide)] at hc
    unfold gm_fewestOf_L45
    simp (disch := omega) only [pj_lit, pj_add, pj_sub, pj_neg, pj_mul, pj_lt, pj_eq, pj_nat, pj_ald, pj_ast, pj_ix, pw_bind, pw_ite, pw_some, pw_none, pw_let, Option.bind_some, Int.toNat_natCast, Sum.elim_inl, Sum.elim_inr, Int.cast_ofNat_Int, Int.reduceLT, Int.reduceLE, Int.reduceEq, Int.reduceAdd, Int.reduceSub, Int.reduceMul, Int.reduceNeg, Int.reduceToNat, Nat.reduceAdd, Nat.reduceSub, Nat.reduceMul, Nat.reduceEqDiff, Nat.reduceLT, reduceIte, reduceCtorEq, true_and, and_true, forall_const, not_true_eq_false, not_false_eq_true, false_implies, implies_true, hlt, hc]
    refine ⟨zm_sA Z1 62 (pj (k : Nat)) (pj (o[k] : Nat)), rfl, fun i x hi e => ?_, h2, fun j hj => (pm_sAn hj).trans (h3 j hj), h4⟩
    rw [pm_sAs, pj_nat (by omega), Int.toNat_natCast, pj_upd]
    by_cases c : i = k
    · subst c
      rw [if_pos rfl]
      rw [List.getElem?_eq_getElem hk] at e
      injection e with e
      rw [e]
    · rw [if_neg c]; exact h1 i x (by omega) e
  · rintro t ⟨Z1, rfl, h1, h2, h3, h4⟩
    unfold gm_fewestOf_L45
    simp (disch := omega) only [pj_lit, pj_add, pj_sub, pj_neg, pj_mul, pj_lt, pj_eq, pj_nat, pj_ald, pj_ast, pj_ix, pw_bind, pw_ite, pw_some, pw_none, pw_let, Option.bind_some, Int.toNat_natCast, Sum.elim_inl, Sum.elim_inr, Int.cast_ofNat_Int, Int.reduceLT, Int.reduceLE, Int.reduceEq, Int.reduceAdd, Int.reduceSub, Int.reduceMul, Int.reduceNeg, Int.reduceToNat, Nat.reduceAdd, Nat.reduceSub, Nat.reduceMul, Nat.reduceEqDiff, Nat.reduceLT, reduceIte, reduceCtorEq, true_and, and_true, forall_const, not_true_eq_false, not_false_eq_true, false_implies, implies_true, Int.lt_irrefl]
    exact ⟨fun i x e => h1 i x (List.getElem?_eq_some_iff.1 e).1 e, h2, h3, h4⟩
theorem pm_B_62 {T : zt_T} {s : Nat} {V : pv_V} {jn : Nat → Nat → Int} {Z Z' : zm_S} (hF : Z'.1 = Z.1) (hA : ∀ k, k ≠ 62 → Z'.2.1 k = Z.2.1 k) (g : pm_B T s V jn Z) : pm_B T s V jn Z' := by
  obtain ⟨g1, g2, g3, g4, g5⟩ := g
  refine ⟨pm_T_tx ⟨by rw [hF], fun k q => hA k (by omega)⟩ g1, ?_, ?_, ?_, g5⟩
  · rw [hA 55 (by decide)]; exact g2
  · rw [hA 56 (by decide)]; exact g3
  · rw [hA 59 (by decide)]; exact g4
theorem pm_fewest {T : zt_T} {s : Nat} {Z : zm_S} {V : pv_V} (ht : pt_ok T) (hm : pm_T T s Z) (ho : pv_ok (zt_n T) V) (hrow : pv_row (Z.2.1 47) V) {w : Int} (hw : 0 ≤ w ∧ w ≤ 999) (i : Int32) (hi : -1 ≤ i.toInt) :
    pw (gm_fewest Z (pj w) i) (fun p => po_fe (po_PT T V (po_jn T V)) w i p.1 ∧ pm_k Z p.2) := by
  obtain ⟨Z1, eZ, hc⟩ := pm_copies hm ho hrow
  have hk1 := pm_c_k hc
  obtain ⟨hm1, hr1, -⟩ := hc
  have him : ¬ i < -1 := by
    intro q
    have := Int32.lt_iff_toInt_lt.1 q
    have e : (-1 : Int32).toInt = -1 := by decide
    omega
  unfold gm_fewest
  rw [pm_weight, pj_toInt (by omega), decide_eq_true hw, Option.bind_some, if_pos rfl, if_neg him, eZ, Option.bind_some]
  refine pw_seq (pm_plan ht hm1 hr1 ho) (fun Z2 h2 => ?_)
  obtain ⟨hB, hP, hq⟩ := h2
  have hk2 := pm_k_trans hk1 (pm_q_k hq)
  have hfold := po_ff_fold (po_PT T V (po_jn T V)) w (po_lst (po_H (po_PT T V (po_jn T V)))) none (List.Pairwise.filter _ po_sorted) (fun b e => (by cases e))
  have hgl : ∀ o, po_gd (po_PT T V (po_jn T V)) w o ↔ o ∈ po_lst (po_H (po_PT T V (po_jn T V))) ∧ w ≤ po_sp (po_PT T V (po_jn T V)) o := fun o => po_gd_lst _ hw.1 hw.2
  refine pw_seq (Q := fun r : Int32 × zm_S => r.1 = po_fI ((po_lst (po_H (po_PT T V (po_jn T V)))).foldl (po_ff (po_PT T V (po_jn T V)) w) none) ∧ (∀ b, (po_lst (po_H (po_PT T V (po_jn T V)))).foldl (po_ff (po_PT T V (po_jn T V)) w) none = some b → b.length ≤ 6 ∧ ∀ (i x : Nat), b[i]? = some x → r.2.2.1 62 i = pj x) ∧ pm_k Z r.2) ?_ ?_
  · unfold gm_fewestOf
    rw [Option.bind_some]
    refine pw_seq (Q := fun r : Int32 × zm_S => r.1 = po_fI ((po_lst (po_H (po_PT T V (po_jn T V)))).foldl (po_ff (po_PT T V (po_jn T V)) w) none) ∧ (∀ b, (po_lst (po_H (po_PT T V (po_jn T V)))).foldl (po_ff (po_PT T V (po_jn T V)) w) none = some b → b.length ≤ 6 ∧ ∀ (i x : Nat), b[i]? = some x → r.2.2.1 62 i = pj x) ∧ pm_k Z r.2) ?_ (fun M' h => (pw_some _ _).2 h)
    refine po_eachA (po_H_lt _) (po_ff (po_PT T V (po_jn T V)) w) (fun c r t => ∃ Z', t = (po_fI c, Z') ∧ (∀ b, c = some b → b.length ≤ 6 ∧ ∀ (i x : Nat), b[i]? = some x → Z'.2.1 62 i = pj x) ∧ pm_O Z' r ∧ pm_B T s V (po_jn T V) Z' ∧ pm_k Z Z') (fun c (r : Int32 × zm_S) => r.1 = po_fI c ∧ (∀ b, c = some b → b.length ≤ 6 ∧ ∀ (i x : Nat), b[i]? = some x → r.2.2.1 62 i = pj x) ∧ pm_k Z r.2) ?_ ?_ none _ ⟨_, rfl, fun A e => (by cases e), pm_O_nil Z2, pm_B_g (pm_g_0 Z2) hB, pm_k_trans hk2 (pm_g_k (pm_g_0 Z2))⟩
    · rintro c r o t ⟨Z', rfl, gc, g1, g2, g3⟩ hnx hmo
      obtain ⟨Z3, e1, e2, e3, e4, e5, e6, e7⟩ := pm_next ht ho g2 g1 hnx hmo
      have hk3 := pm_k_trans g3 (pm_g_k e3)
      have h6 := (po_F0 (po_lst_mem hmo).1).2.1
      have e61 : Z3.1 61 = pj o.length := by have := e2.1; rw [List.length_reverse] at this; exact this
      have gc3 : ∀ b, c = some b → b.length ≤ 6 ∧ ∀ (i x : Nat), b[i]? = some x → Z3.2.1 62 i = pj x := fun b e => ⟨(gc b e).1, fun i x e' => by rw [e3.2.1 62 (by decide)]; exact (gc b e).2 i x e'⟩
      have take : pw (zs_loop 5000 (gm_fewestOf_L45 (pj (o.length : Nat))) (pj 0, Z3)) fun a => ∃ Z', (pj (o.length : Nat), a) = (po_fI (some o), Z') ∧ (∀ b, some o = some b → b.length ≤ 6 ∧ ∀ (i x : Nat), b[i]? = some x → Z'.2.1 62 i = pj x) ∧ pm_O Z' o.reverse ∧ pm_B T s V (po_jn T V) Z' ∧ pm_k Z Z' := by
        refine pw_mono (pm_best e2) (fun Z4 h4 => ?_)
        obtain ⟨b1, b2, b3, b4⟩ := h4
        refine ⟨Z4, rfl, fun b e => by injection e with e; subst e; exact ⟨h6, b1⟩, ⟨by rw [b2]; exact e2.1, e2.2.1, e2.2.2.1, fun i x e => by rw [b3 60 (by decide)]; exact e2.2.2.2 i x e⟩, pm_B_62 b2 b3 e4, pm_k_trans hk3 ⟨fun k _ _ _ _ => by rw [b2], fun k a => b3 k (by omega), b4⟩⟩
      unfold gm_fewestOf_L8 po_ff
      cases c with
      | none =>
        have c0 : po_fI none < pj 0 := by decide
        by_cases d : po_sp (po_PT T V (po_jn T V)) o < w
        · simp (disch := omega) only [pj_lit, pj_add, pj_sub, pj_neg, pj_mul, pj_lt, pj_eq, pj_nat, pj_ald, pj_ast, pj_ix, pw_bind, pw_ite, pw_some, pw_none, pw_let, Option.bind_some, Int.toNat_natCast, Sum.elim_inl, Sum.elim_inr, Int.cast_ofNat_Int, Int.reduceLT, Int.reduceLE, Int.reduceEq, Int.reduceAdd, Int.reduceSub, Int.reduceMul, Int.reduceNeg, Int.reduceToNat, Nat.reduceAdd, Nat.reduceSub, Nat.reduceMul, Nat.reduceEqDiff, Nat.reduceLT, reduceIte, reduceCtorEq, true_and, and_true, forall_const, not_true_eq_false, not_false_eq_true, false_implies, implies_true, e1, c0, e5, d]
          exact ⟨Z3, rfl, e2, e4, hk3⟩
        · simp (disch := omega) only [pj_lit, pj_add, pj_sub, pj_neg, pj_mul, pj_lt, pj_eq, pj_nat, pj_ald, pj_ast, pj_ix, pw_bind, pw_ite, pw_some, pw_none, pw_let, Option.bind_some, Int.toNat_natCast, Sum.elim_inl, Sum.elim_inr, Int.cast_ofNat_Int, Int.reduceLT, Int.reduceLE, Int.reduceEq, Int.reduceAdd, Int.reduceSub, Int.reduceMul, Int.reduceNeg, Int.reduceToNat, Nat.reduceAdd, Nat.reduceSub, Nat.reduceMul, Nat.reduceEqDiff, Nat.reduceLT, reduceIte, reduceCtorEq, true_and, and_true, forall_const, not_true_eq_false, not_false_eq_true, false_implies, implies_true, e1, c0, e5, d, e61]
          exact take
      | some b =>
        have hb6 := (gc b rfl).1
        have cI : po_fI (some b) = pj b.length := rfl
        have c0 : ¬ (b.length : Int) < 0 := by omega
        by_cases d1 : b.length ≤ o.length
        · have d1' : ¬ (o.length : Int) < b.length := by omega
          simp (disch := omega) only [pj_lit, pj_add, pj_sub, pj_neg, pj_mul, pj_lt, pj_eq, pj_nat, pj_ald, pj_ast, pj_ix, pw_bind, pw_ite, pw_some, pw_none, pw_let, Option.bind_some, Int.toNat_natCast, Sum.elim_inl, Sum.elim_inr, Int.cast_ofNat_Int, Int.reduceLT, Int.reduceLE, Int.reduceEq, Int.reduceAdd, Int.reduceSub, Int.reduceMul, Int.reduceNeg, Int.reduceToNat, Nat.reduceAdd, Nat.reduceSub, Nat.reduceMul, Nat.reduceEqDiff, Nat.reduceLT, reduceIte, reduceCtorEq, true_and, and_true, forall_const, not_true_eq_false, not_false_eq_true, false_implies, implies_true, e1, cI, c0, e61, d1', d1]
          exact ⟨Z3, rfl, gc3, e2, e4, hk3⟩
        · have d1' : (o.length : Int) < b.length := by omega
          by_cases d : po_sp (po_PT T V (po_jn T V)) o < w
          · simp (disch := omega) only [pj_lit, pj_add, pj_sub, pj_neg, pj_mul, pj_lt, pj_eq, pj_nat, pj_ald, pj_ast, pj_ix, pw_bind, pw_ite, pw_some, pw_none, pw_let, Option.bind_some, Int.toNat_natCast, Sum.elim_inl, Sum.elim_inr, Int.cast_ofNat_Int, Int.reduceLT, Int.reduceLE, Int.reduceEq, Int.reduceAdd, Int.reduceSub, Int.reduceMul, Int.reduceNeg, Int.reduceToNat, Nat.reduceAdd, Nat.reduceSub, Nat.reduceMul, Nat.reduceEqDiff, Nat.reduceLT, reduceIte, reduceCtorEq, true_and, and_true, forall_const, not_true_eq_false, not_false_eq_true, false_implies, implies_true, e1, cI, c0, e61, d1', d1, e5, d]
            exact ⟨Z3, rfl, gc3, e2, e4, hk3⟩
          · simp (disch := omega) only [pj_lit, pj_add, pj_sub, pj_neg, pj_mul, pj_lt, pj_eq, pj_nat, pj_ald, pj_ast, pj_ix, pw_bind, pw_ite, pw_some, pw_none, pw_let, Option.bind_some, Int.toNat_natCast, Sum.elim_inl, Sum.elim_inr, Int.cast_ofNat_Int, Int.reduceLT, Int.reduceLE, Int.reduceEq, Int.reduceAdd, Int.reduceSub, Int.reduceMul, Int.reduceNeg, Int.reduceToNat, Nat.reduceAdd, Nat.reduceSub, Nat.reduceMul, Nat.reduceEqDiff, Nat.reduceLT, reduceIte, reduceCtorEq, true_and, and_true, forall_const, not_true_eq_false, not_false_eq_true, false_implies, implies_true, e1, cI, c0, e61, d1', d1, e5, d]
            exact take
    · rintro c r t ⟨Z', rfl, gc, g1, g2, g3⟩ hnx
      obtain ⟨Z3, e1, e2⟩ := pm_nextNo ho g2 g1 hnx
      unfold gm_fewestOf_L8
      simp (disch := omega) only [pj_lit, pj_add, pj_sub, pj_neg, pj_mul, pj_lt, pj_eq, pj_nat, pj_ald, pj_ast, pj_ix, pw_bind, pw_ite, pw_some, pw_none, pw_let, Option.bind_some, Int.toNat_natCast, Sum.elim_inl, Sum.elim_inr, Int.cast_ofNat_Int, Int.reduceLT, Int.reduceLE, Int.reduceEq, Int.reduceAdd, Int.reduceSub, Int.reduceMul, Int.reduceNeg, Int.reduceToNat, Nat.reduceAdd, Nat.reduceSub, Nat.reduceMul, Nat.reduceEqDiff, Nat.reduceLT, reduceIte, reduceCtorEq, true_and, and_true, forall_const, not_true_eq_false, not_false_eq_true, false_implies, implies_true, e1, Bool.false_eq_true]
      exact ⟨fun b e => ⟨(gc b e).1, fun i x e' => by rw [e2.2.1 62 (by decide)]; exact (gc b e).2 i x e'⟩, pm_k_trans g3 (pm_g_k e2)⟩
  · rintro ⟨x, Z3⟩ ⟨r1, r3, r2⟩
    dsimp only at r1 r2 r3 ⊢
    generalize (po_lst (po_H (po_PT T V (po_jn T V)))).foldl (po_ff (po_PT T V (po_jn T V)) w) none = F at hfold r1 r3
    obtain ⟨f1, f2⟩ := hfold
    cases F with
    | none =>
      have c0 : x < 0 := by rw [r1]; decide
      rw [if_pos c0, pw_some]
      refine ⟨Or.inl ⟨fun ⟨o, hg⟩ => ?_, r1⟩, r2⟩
      exact (f1.1 rfl).2 o ((hgl o).1 hg).1 ((hgl o).1 hg).2
    | some b =>
      obtain ⟨a1, a2, a3⟩ := f2 b rfl
      obtain ⟨h6, hcell⟩ := r3 b rfl
      have hbl : b ∈ po_lst (po_H (po_PT T V (po_jn T V))) ∧ w ≤ po_sp (po_PT T V (po_jn T V)) b := by
        rcases a1 with a1 | a1
        · cases a1
        · exact a1
      have hbs : po_bs (po_gd (po_PT T V (po_jn T V)) w) b := ⟨(hgl b).2 hbl, fun o hg => (a3 o ((hgl o).1 hg).1 ((hgl o).1 hg).2).1, fun o hg => (a3 o ((hgl o).1 hg).1 ((hgl o).1 hg).2).2⟩
      have b4 : x = pj b.length := r1
      have c0 : ¬ x < 0 := by
        rw [b4]
        intro q
        have := (pj_lt (b := 0) (by omega) (by omega)).1 q
        omega
      rw [if_neg c0]
      by_cases c : i = -1
      · rw [if_pos c, pw_some]
        exact ⟨Or.inr ⟨b, hbs, by rw [if_pos c]; exact b4⟩, r2⟩
      · rw [if_neg c]
        have hi0 : 0 ≤ i.toInt := by
          by_cases q : i.toInt = -1
          · exact absurd (by rw [← pj_of i, q]; rfl) c
          · omega
        by_cases d : i.toInt < (b.length : Nat)
        · have d' : i < x := by rw [b4, Int32.lt_iff_toInt_lt, pj_toInt (by omega)]; exact d
          have hcell := hcell i.toInt.toNat _ (pv_get (by omega))
          rw [if_pos d']
          conv => lhs; rw [← pj_of i]
          simp (disch := omega) only [pj_lit, pj_add, pj_sub, pj_neg, pj_mul, pj_lt, pj_eq, pj_nat, pj_ald, pj_ast, pj_ix, pw_bind, pw_ite, pw_some, pw_none, pw_let, Option.bind_some, Int.toNat_natCast, Sum.elim_inl, Sum.elim_inr, Int.cast_ofNat_Int, Int.reduceLT, Int.reduceLE, Int.reduceEq, Int.reduceAdd, Int.reduceSub, Int.reduceMul, Int.reduceNeg, Int.reduceToNat, Nat.reduceAdd, Nat.reduceSub, Nat.reduceMul, Nat.reduceEqDiff, Nat.reduceLT, reduceIte, reduceCtorEq, true_and, and_true, forall_const, not_true_eq_false, not_false_eq_true, false_implies, implies_true, hcell]
          refine ⟨Or.inr ⟨b, hbs, ?_⟩, r2⟩
          rw [if_neg c, if_pos d]
        · have d' : ¬ i < x := by rw [b4, Int32.lt_iff_toInt_lt, pj_toInt (by omega)]; exact d
          rw [if_neg d', pw_some]
          refine ⟨Or.inr ⟨b, hbs, ?_⟩, r2⟩
          rw [if_neg c, if_neg d]
theorem pq_fewest {T : zt_T} {M : cs_S} {Z : zm_S} {s : Nat} {V : pv_V} {H : List pv_V} {at_ : Nat} (h : pr_R0 T M Z s V H at_) (a i : Int32) :
    pw (gh_fewest T M a i) (fun p => pw (gm_fewest Z a i) (fun q => p.1 = q.1 ∧ pr_R T p.2 q.2)) := by
  obtain ⟨hT, hm, ho, hV, hsd, hrow, -, -, -, -, -, -, h0⟩ := id h
  by_cases hh : 0 ≤ a.toInt ∧ a.toInt ≤ 999
  · by_cases hi : -1 ≤ i.toInt
    · generalize hw : a.toInt = w at hh
      obtain rfl : a = pj w := by rw [← hw, pj_of]
      exact pw_mono (pc_fewest hT hV ho h0 hh i hi) (fun p hp => pw_mono (pm_fewest hT hm ho hrow hh i hi) (fun q hq => ⟨po_fe_uniq hp.1 hq.1, s, V, H, at_, pr_R_k hp.2 hq.2 h⟩))
    · have him : i < -1 := by
        rw [Int32.lt_iff_toInt_lt]
        have e : (-1 : Int32).toInt = -1 := by decide
        omega
      unfold gh_fewest gm_fewest
      rw [pc_haulw, pm_weight, decide_eq_true hh, Option.bind_some, Option.bind_some, if_pos rfl, if_pos rfl, if_pos him, if_pos him, pw_some, pw_some]
      exact ⟨rfl, s, V, H, at_, h⟩
  · unfold gh_fewest gm_fewest
    rw [pc_haulw, pm_weight, decide_eq_false hh, Option.bind_some, Option.bind_some, if_neg (by decide), if_neg (by decide), pw_some, pw_some]
    exact ⟨rfl, s, V, H, at_, h⟩
/-! who would give -/
theorem pg_not : ∀ a, a < 64 → ∀ b, b < 64 → pj (a : Nat) &&& (pj (b : Nat) ^^^ pj (-1)) = pj ((a &&& (63 ^^^ b) : Nat) : Int) := by decide +kernel
theorem pg_clr : ∀ a, a < 64 → ∀ h, h < 6 → pj (a : Nat) &&& (zs_shl (pj 1) (pj (h : Nat)) ^^^ pj (-1)) = pj ((a &&& (63 ^^^ 1 <<< h) : Nat) : Int) := by decide +kernel
theorem pg_bits : ∀ S, S < 64 → gm_bits (pj (S : Nat)) = some (pj (po_pc S : Nat)) := by decide +kernel
theorem pg_63 : ∀ a, a < 64 → ∀ b, b < 64 → a &&& (63 ^^^ b) < 64 := fun a ha b hb => Nat.lt_of_le_of_lt Nat.and_le_left ha
theorem pg_shl {h : Nat} (hh : h < 6) : 1 <<< h < 64 := by rw [Nat.one_shiftLeft]; exact show 2 ^ h < 2 ^ 6 from Nat.pow_lt_pow_right (by omega) hh
/-- the givers -/
def pg_G (V : pv_V) : Nat := pb_set (fun h => decide (0 < pv_lg V h)) 6
theorem pg_G_lt (V : pv_V) : pg_G V < 64 := pb_lt64 _ (by omega)
theorem pg_G_n {n : Nat} {V : pv_V} (ho : pv_ok n V) : pb_set (fun h => decide (0 < pv_lg V h)) n = pg_G V := by
  apply Nat.eq_of_testBit_eq
  intro i
  unfold pg_G
  rw [pb_bit, pb_bit]
  have hn := ho.1
  by_cases c : i < n
  · rw [decide_eq_true c, decide_eq_true (show i < 6 by omega)]
  · by_cases d : i < 6
    · have := pv_lg_no ho (show n ≤ i by omega) d
      rw [this]; simp
    · rw [decide_eq_false c, decide_eq_false d]
def pg_sum (V : pv_V) (S : Nat) : Int := pv_sm (fun h => if S.testBit h then pv_lg V h else 0) 6
theorem pg_sum_bd {n : Nat} {V : pv_V} (ho : pv_ok n V) (S : Nat) : 0 ≤ pg_sum V S ∧ pg_sum V S ≤ 594 := po_sumS_bd (P := (pv_lg V, fun _ => 0, fun _ _ => 0, 0)) (fun x hx => pv_lg_bd ho hx) S
def pg_en (T : zt_T) (V : pv_V) (S : Nat) : Bool := decide (pt_f T 4 ≤ pg_sum V S)
theorem pc_long2 {T : zt_T} {M : cs_S} {V : pv_V} {n : Nat} (hV : pc_V M 0 V) (ho : pv_ok n V) {h : Nat} (hh : h < 6) : gv_longOf T M 0 (pj h) = some (pj (pv_lg V h)) := pc_long hV ho h hh
theorem pc_givers {T : zt_T} {M : cs_S} {V : pv_V} (hV : pc_V M 0 V) (ho : pv_ok (zt_n T) V) : gh_givers T M = some (pj (pg_G V : Nat)) := by
  have hn := ho.1
  unfold gh_givers
  have : zs_loop 5000 (gh_givers_L4 T M) (pj 0, pj 0) = some (pj (pb_set (fun h => decide (0 < pv_lg V h)) (zt_n T) : Nat)) := by
    refine pw_forE (zt_n T) (fun k => (pj (pb_set (fun h => decide (0 < pv_lg V h)) k : Nat), pj (k : Nat))) 5000 (by omega) ?_ ?_
    · intro k hk
      have hlt : (k : Int) < (zt_n T : Nat) := by omega
      have hb := pv_lg_bd ho (show k < 6 by omega)
      have hp := pb_step (fun h => decide (0 < pv_lg V h)) (k := k) (by omega)
      unfold gh_givers_L4 gh_houses
      simp (disch := omega) only [pj_lit, pj_add, pj_sub, pj_neg, pj_mul, pj_lt, pj_eq, pj_nat, pj_ald, pj_ast, pj_ix, pw_bind, pw_ite, pw_some, pw_none, pw_let, Option.bind_some, Int.toNat_natCast, Sum.elim_inl, Sum.elim_inr, Int.cast_ofNat_Int, Int.reduceLT, Int.reduceLE, Int.reduceEq, Int.reduceAdd, Int.reduceSub, Int.reduceMul, Int.reduceNeg, Int.reduceToNat, Nat.reduceAdd, Nat.reduceSub, Nat.reduceMul, Nat.reduceEqDiff, Nat.reduceLT, reduceIte, reduceCtorEq, true_and, and_true, forall_const, not_true_eq_false, not_false_eq_true, false_implies, implies_true, pj_nI, hlt, pc_long2 hV ho (show k < 6 by omega), ← hp]
      by_cases q : 0 < pv_lg V k
      · rw [if_pos q, if_pos (decide_eq_true q)]; rfl
      · rw [if_neg q, if_neg (by simpa using q)]; rfl
    · unfold gh_givers_L4 gh_houses
      simp (disch := omega) only [pj_lit, pj_add, pj_sub, pj_neg, pj_mul, pj_lt, pj_eq, pj_nat, pj_ald, pj_ast, pj_ix, pw_bind, pw_ite, pw_some, pw_none, pw_let, Option.bind_some, Int.toNat_natCast, Sum.elim_inl, Sum.elim_inr, Int.cast_ofNat_Int, Int.reduceLT, Int.reduceLE, Int.reduceEq, Int.reduceAdd, Int.reduceSub, Int.reduceMul, Int.reduceNeg, Int.reduceToNat, Nat.reduceAdd, Nat.reduceSub, Nat.reduceMul, Nat.reduceEqDiff, Nat.reduceLT, reduceIte, reduceCtorEq, true_and, and_true, forall_const, not_true_eq_false, not_false_eq_true, false_implies, implies_true, pj_nI, Int.lt_irrefl]
  rw [pj_0, this, pg_G_n ho]; rfl
theorem pc_isEnough {T : zt_T} {M : cs_S} {V : pv_V} (hT : pt_ok T) (hV : pc_V M 0 V) (ho : pv_ok (zt_n T) V) {S : Nat} (hS : S < 64) : gh_isEnough T M (pj S) = some (pg_en T V S) := by
  have hn := ho.1
  have hb := pg_sum_bd ho S
  have hf := hT.2.2.2.1
  have hz : pv_sm (fun h => if S.testBit h then pv_lg V h else 0) (zt_n T) = pg_sum V S := by
    unfold pg_sum
    have := pv_sm_zero (f := fun h => if S.testBit h then pv_lg V h else 0) (n := zt_n T) (fun x h1 h2 => by rw [pv_lg_no ho h1 h2]; split <;> rfl) (6 - zt_n T) (by omega)
    rw [← this, show zt_n T + (6 - zt_n T) = 6 by omega]
  unfold gh_isEnough
  have : zs_loop 5000 (gh_isEnough_L4 T M (pj S)) (pj 0, pj 0) = some (pj (pv_sm (fun h => if S.testBit h then pv_lg V h else 0) (zt_n T))) := by
    refine pw_forE (zt_n T) (fun k => (pj (pv_sm (fun h => if S.testBit h then pv_lg V h else 0) k), pj (k : Nat))) 5000 (by omega) ?_ ?_
    · intro k hk
      have hlt : (k : Int) < (zt_n T : Nat) := by omega
      show gh_isEnough_L4 T M (pj S) (pj (pv_sm (fun h => if S.testBit h then pv_lg V h else 0) k), pj (k : Nat)) = some (Sum.inl (pj (pv_sm (fun h => if S.testBit h then pv_lg V h else 0) k + if S.testBit k then pv_lg V k else 0), pj ((k + 1 : Nat) : Int)))
      generalize pv_sm (fun h => if S.testBit h then pv_lg V h else 0) k = acc
      unfold gh_isEnough_L4 gh_houses
      simp (disch := omega) only [pj_lit, pj_add, pj_sub, pj_neg, pj_mul, pj_lt, pj_eq, pj_nat, pj_ald, pj_ast, pj_ix, pw_bind, pw_ite, pw_some, pw_none, pw_let, Option.bind_some, Int.toNat_natCast, Sum.elim_inl, Sum.elim_inr, Int.cast_ofNat_Int, Int.reduceLT, Int.reduceLE, Int.reduceEq, Int.reduceAdd, Int.reduceSub, Int.reduceMul, Int.reduceNeg, Int.reduceToNat, Nat.reduceAdd, Nat.reduceSub, Nat.reduceMul, Nat.reduceEqDiff, Nat.reduceLT, reduceIte, reduceCtorEq, true_and, and_true, forall_const, not_true_eq_false, not_false_eq_true, false_implies, implies_true, pj_nI, hlt, pj_bitx hS (show k < 6 by omega), pc_long2 hV ho (show k < 6 by omega)]
      by_cases q : S.testBit k = true
      · rw [if_pos q, if_pos q, Option.bind_some, pj_add]; rfl
      · rw [if_neg q, if_neg q, Option.bind_some, pj_add]; rfl
    · unfold gh_isEnough_L4 gh_houses
      simp (disch := omega) only [pj_lit, pj_add, pj_sub, pj_neg, pj_mul, pj_lt, pj_eq, pj_nat, pj_ald, pj_ast, pj_ix, pw_bind, pw_ite, pw_some, pw_none, pw_let, Option.bind_some, Int.toNat_natCast, Sum.elim_inl, Sum.elim_inr, Int.cast_ofNat_Int, Int.reduceLT, Int.reduceLE, Int.reduceEq, Int.reduceAdd, Int.reduceSub, Int.reduceMul, Int.reduceNeg, Int.reduceToNat, Nat.reduceAdd, Nat.reduceSub, Nat.reduceMul, Nat.reduceEqDiff, Nat.reduceLT, reduceIte, reduceCtorEq, true_and, and_true, forall_const, not_true_eq_false, not_false_eq_true, false_implies, implies_true, pj_nI, Int.lt_irrefl]
  rw [pj_0, this, hz]
  unfold pg_en
  simp (disch := omega) only [pj_lit, pj_add, pj_sub, pj_neg, pj_mul, pj_lt, pj_eq, pj_nat, pj_ald, pj_ast, pj_ix, pw_bind, pw_ite, pw_some, pw_none, pw_let, Option.bind_some, Int.toNat_natCast, Sum.elim_inl, Sum.elim_inr, Int.cast_ofNat_Int, Int.reduceLT, Int.reduceLE, Int.reduceEq, Int.reduceAdd, Int.reduceSub, Int.reduceMul, Int.reduceNeg, Int.reduceToNat, Nat.reduceAdd, Nat.reduceSub, Nat.reduceMul, Nat.reduceEqDiff, Nat.reduceLT, reduceIte, reduceCtorEq, true_and, and_true, forall_const, not_true_eq_false, not_false_eq_true, false_implies, implies_true, pt_f_eq]
  by_cases q : pg_sum V S < pt_f T 4
  · rw [if_pos q, decide_eq_false (by omega)]
  · rw [if_neg q, decide_eq_true (by omega)]
/-- what a house has of it -/
def pg_wo (T : zt_T) (V : pv_V) (S h : Nat) : Int := (if pg_en T V S = true then pt_f T 5 else 0) - (if S.testBit h = true ∧ ¬ 0 < pv_p V h then pv_costs T V h else 0)
theorem pg_costs_bd {T : zt_T} {V : pv_V} {n : Nat} (ho : pv_ok n V) {h : Nat} (hh : h < 6) : 0 ≤ pv_costs T V h ∧ pv_costs T V h ≤ 99 := by
  have := ho.2.1 h hh
  exact pv_lw_bd T V 3 h _ _ (by omega) (by omega)
theorem pg_wo_bd {T : zt_T} {V : pv_V} (hT : pt_ok T) (ho : pv_ok (zt_n T) V) (S : Nat) {h : Nat} (hh : h < 6) : -99 ≤ pg_wo T V S h ∧ pg_wo T V S h ≤ 99 := by
  have h1 := pg_costs_bd (T := T) ho hh
  have h2 := hT.2.2.2.2.1
  unfold pg_wo
  split <;> split <;> omega
theorem pc_worth {T : zt_T} {M : cs_S} {V : pv_V} (hT : pt_ok T) (hV : pc_V M 0 V) (ho : pv_ok (zt_n T) V) {S h : Nat} (hS : S < 64) (hh : h < zt_n T) : pw (gh_worth T M (pj h) (pj S)) (fun p => p.1 = pj (pg_wo T V S h) ∧ pc_e M p.2) := by
  have hn := ho.1
  unfold gh_worth pg_wo
  rw [pc_isEnough hT hV ho hS, Option.bind_some]
  have e5 : (if pg_en T V S = true then some (zt_f T 5) else some 0) = some (pj (if pg_en T V S = true then pt_f T 5 else 0)) := by
    split
    · rw [pt_f_eq]
    · rfl
  rw [e5, Option.bind_some, pw_let]
  generalize (if pg_en T V S = true then pt_f T 5 else 0) = u
  simp (disch := omega) only [pj_lit, pj_add, pj_sub, pj_neg, pj_mul, pj_lt, pj_eq, pj_nat, pj_ald, pj_ast, pj_ix, pw_bind, pw_ite, pw_some, pw_none, pw_let, Option.bind_some, Int.toNat_natCast, Sum.elim_inl, Sum.elim_inr, Int.cast_ofNat_Int, Int.reduceLT, Int.reduceLE, Int.reduceEq, Int.reduceAdd, Int.reduceSub, Int.reduceMul, Int.reduceNeg, Int.reduceToNat, Nat.reduceAdd, Nat.reduceSub, Nat.reduceMul, Nat.reduceEqDiff, Nat.reduceLT, reduceIte, reduceCtorEq, true_and, and_true, forall_const, not_true_eq_false, not_false_eq_true, false_implies, implies_true, pj_bitx hS (show h < 6 by omega), pc_has hV ho h (by omega), decide_eq_true_eq]
  refine ⟨fun q => ⟨fun q2 => ⟨?_, pc_e_rfl M⟩, fun q2 => ?_⟩, fun q => ⟨?_, pc_e_rfl M⟩⟩
  · rw [if_neg (fun z => z.2 q2)]
  · refine pw_mono (pc_costs hT hV ho (by omega) hh) (fun p hp => ⟨?_, hp.2⟩)
    rw [hp.1, pj_sub, if_pos ⟨q, q2⟩]
  · rw [if_neg (fun z => q z.1)]
def pg_rs (T : zt_T) (V : pv_V) (S : Nat) : Bool := (List.range (zt_n T)).all fun h => !(pg_G V).testBit h || decide (pg_wo T V (S ^^^ 1 <<< h) h ≤ pg_wo T V S h)
theorem pg_rs_no {T : zt_T} {V : pv_V} {S h : Nat} (hh : h < zt_n T) (h1 : (pg_G V).testBit h = true) (h2 : pg_wo T V S h < pg_wo T V (S ^^^ 1 <<< h) h) : pg_rs T V S = false := by
  cases c : pg_rs T V S with
  | false => rfl
  | true =>
    have := List.all_eq_true.1 c h (List.mem_range.2 hh)
    rw [h1, Bool.not_true, Bool.false_or, decide_eq_true_eq] at this
    omega
theorem pg_rs_yes {T : zt_T} {V : pv_V} {S : Nat} (h : ∀ j, j < zt_n T → (pg_G V).testBit j = true → pg_wo T V (S ^^^ 1 <<< j) j ≤ pg_wo T V S j) : pg_rs T V S = true := by
  refine List.all_eq_true.2 fun j hj => ?_
  have := h j (List.mem_range.1 hj)
  cases c : (pg_G V).testBit j with
  | false => rfl
  | true => rw [Bool.not_true, Bool.false_or]; exact decide_eq_true (this c)
theorem pc_isRest {T : zt_T} {M : cs_S} {V : pv_V} (hT : pt_ok T) (hV : pc_V M 0 V) (ho : pv_ok (zt_n T) V) {S : Nat} (hS : S < 64) : pw (gh_isRest T M (pj S)) (fun p => p.1 = pg_rs T V S ∧ pc_e M p.2) := by
  have hn := ho.1
  unfold gh_isRest
  refine pw_seq (Q := fun p => p.1 = pg_rs T V S ∧ pc_e M p.2) ?_ (fun M' h => (pw_some _ _).2 h)
  rw [pj_0]
  refine pw_for (zt_n T) (fun k t => ∃ M', t = (pj (k : Nat), M') ∧ pc_e M M' ∧ ∀ j, j < k → (pg_G V).testBit j = true → pg_wo T V (S ^^^ 1 <<< j) j ≤ pg_wo T V S j) 5000 (by omega) ?_ ?_ _ ⟨M, rfl, pc_e_rfl M, fun j hj => absurd hj (Nat.not_lt_zero j)⟩
  · rintro k t hk ⟨M1, rfl, h1, h2⟩
    have hlt : (k : Int) < (zt_n T : Nat) := by omega
    have hV1 := pc_V_e (by omega) h1 hV
    have hx := pj_xor S hS (1 <<< k) (pg_shl (show k < 6 by omega))
    have hS2 := po_rem_lt hS (show k < 6 by omega)
    have w1 := pg_wo_bd hT ho S (show k < 6 by omega)
    have w2 := pg_wo_bd hT ho (S ^^^ 1 <<< k) (show k < 6 by omega)
    unfold gh_isRest_L2 gh_houses
    simp (disch := omega) only [pj_lit, pj_add, pj_sub, pj_neg, pj_mul, pj_lt, pj_eq, pj_nat, pj_ald, pj_ast, pj_ix, pw_bind, pw_ite, pw_some, pw_none, pw_let, Option.bind_some, Int.toNat_natCast, Sum.elim_inl, Sum.elim_inr, Int.cast_ofNat_Int, Int.reduceLT, Int.reduceLE, Int.reduceEq, Int.reduceAdd, Int.reduceSub, Int.reduceMul, Int.reduceNeg, Int.reduceToNat, Nat.reduceAdd, Nat.reduceSub, Nat.reduceMul, Nat.reduceEqDiff, Nat.reduceLT, reduceIte, reduceCtorEq, true_and, and_true, forall_const, not_true_eq_false, not_false_eq_true, false_implies, implies_true, pj_nI, hlt, pc_givers hV1 ho, pj_bitx (pg_G_lt V) (show k < 6 by omega), pj_shl1 k (show k < 7 by omega), hx]
    refine ⟨fun q => ?_, fun q => ⟨M1, rfl, h1, fun j hj hg => ?_⟩⟩
    · refine pw_mono (pc_worth hT hV1 ho hS2 hk) (fun p hp => ?_)
      have h3 := pc_e_trans h1 hp.2
      refine pw_mono (pc_worth hT (pc_V_e (by omega) h3 hV) ho hS hk) (fun p2 hp2 => ?_)
      have h4 := pc_e_trans h3 hp2.2
      simp (disch := omega) only [pj_lit, pj_add, pj_sub, pj_neg, pj_mul, pj_lt, pj_eq, pj_nat, pj_ald, pj_ast, pj_ix, pw_bind, pw_ite, pw_some, pw_none, pw_let, Option.bind_some, Int.toNat_natCast, Sum.elim_inl, Sum.elim_inr, Int.cast_ofNat_Int, Int.reduceLT, Int.reduceLE, Int.reduceEq, Int.reduceAdd, Int.reduceSub, Int.reduceMul, Int.reduceNeg, Int.reduceToNat, Nat.reduceAdd, Nat.reduceSub, Nat.reduceMul, Nat.reduceEqDiff, Nat.reduceLT, reduceIte, reduceCtorEq, true_and, and_true, forall_const, not_true_eq_false, not_false_eq_true, false_implies, implies_true, hp.1, hp2.1]
      refine ⟨fun c => ⟨(pg_rs_no hk q c).symm, h4⟩, fun c => ⟨p2.2, rfl, h4, fun j hj hg => ?_⟩⟩
      by_cases e : j = k
      · rw [e]; omega
      · exact h2 j (by omega) hg
    · by_cases e : j = k
      · rw [e] at hg; exact absurd hg q
      · exact h2 j (by omega) hg
  · rintro t ⟨M1, rfl, h1, h2⟩
    unfold gh_isRest_L2 gh_houses
    simp (disch := omega) only [pj_lit, pj_add, pj_sub, pj_neg, pj_mul, pj_lt, pj_eq, pj_nat, pj_ald, pj_ast, pj_ix, pw_bind, pw_ite, pw_some, pw_none, pw_let, Option.bind_some, Int.toNat_natCast, Sum.elim_inl, Sum.elim_inr, Int.cast_ofNat_Int, Int.reduceLT, Int.reduceLE, Int.reduceEq, Int.reduceAdd, Int.reduceSub, Int.reduceMul, Int.reduceNeg, Int.reduceToNat, Nat.reduceAdd, Nat.reduceSub, Nat.reduceMul, Nat.reduceEqDiff, Nat.reduceLT, reduceIte, reduceCtorEq, true_and, and_true, forall_const, not_true_eq_false, not_false_eq_true, false_implies, implies_true, pj_nI, Int.lt_irrefl]
    exact ⟨(pg_rs_yes h2).symm, h1⟩
def pg_C (T : zt_T) (V : pv_V) (S : Nat) : Bool := decide (S &&& (63 ^^^ pg_G V) = 0) && pg_rs T V S
def pg_R (T : zt_T) (V : pv_V) : Nat → Nat × Int
  | 0 => (0, -2)
  | k + 1 => if pg_C T V k = true then ((pg_R T V k).1 + 1, if (pg_R T V k).2 < 0 ∨ po_pc k < po_pc (pg_R T V k).2.toNat then (k : Nat) else (pg_R T V k).2) else pg_R T V k
theorem pg_R_bd (T : zt_T) (V : pv_V) : ∀ k, (pg_R T V k).1 ≤ k ∧ (((pg_R T V k).1 = 0 ∧ (pg_R T V k).2 = -2) ∨ (0 < (pg_R T V k).1 ∧ 0 ≤ (pg_R T V k).2 ∧ (pg_R T V k).2 < k))
  | 0 => ⟨Nat.le_refl _, Or.inl ⟨rfl, rfl⟩⟩
  | k + 1 => by
    have ih := pg_R_bd T V k
    unfold pg_R
    split
    · refine ⟨by dsimp only; omega, Or.inr ⟨by dsimp only; omega, ?_⟩⟩
      dsimp only
      split <;> omega
    · omega
theorem pg_C_no {T : zt_T} {V : pv_V} (ho : pv_ok (zt_n T) V) {S : Nat} (h1 : 2 ^ zt_n T ≤ S) (h2 : S < 64) : pg_C T V S = false := by
  cases c : pg_C T V S with
  | false => rfl
  | true =>
    unfold pg_C at c
    rw [Bool.and_eq_true, decide_eq_true_eq] at c
    have hsub : ∀ i, S.testBit i = true → (pg_G V).testBit i = true := by
      intro i hi
      have hi6 : i < 6 := po_tb_lt (n := 6) h2 hi
      have : (S &&& (63 ^^^ pg_G V)).testBit i = false := by rw [c.1]; exact Nat.zero_testBit i
      rw [Nat.testBit_and, hi, Bool.true_and, Nat.testBit_xor] at this
      have h63 : (63 : Nat).testBit i = true := by
        match i, hi6 with
        | 0, _ => rfl
        | 1, _ => rfl
        | 2, _ => rfl
        | 3, _ => rfl
        | 4, _ => rfl
        | 5, _ => rfl
      rw [h63] at this
      cases q : (pg_G V).testBit i with
      | true => rfl
      | false => rw [q] at this; cases this
    have hle : S < 2 ^ zt_n T := by
      apply Nat.lt_pow_two_of_testBit
      intro i hi
      cases q : S.testBit i with
      | false => rfl
      | true =>
        have hi6 : i < 6 := po_tb_lt (n := 6) h2 q
        have := hsub i q
        unfold pg_G at this
        rw [pb_bit, Bool.and_eq_true] at this
        have := of_decide_eq_true this.2
        rw [pv_lg_no ho hi hi6] at this
        omega
    omega
theorem pg_R_tail {T : zt_T} {V : pv_V} (ho : pv_ok (zt_n T) V) : ∀ k, 2 ^ zt_n T + k ≤ 64 → pg_R T V (2 ^ zt_n T + k) = pg_R T V (2 ^ zt_n T)
  | 0, _ => rfl
  | k + 1, hk => by
    show pg_R T V ((2 ^ zt_n T + k) + 1) = _
    unfold pg_R
    rw [pg_C_no ho (by omega) (by omega), if_neg (by decide)]
    have := pg_R_tail ho k (by omega)
    rw [this]
    cases hq : 2 ^ zt_n T with
    | zero => rfl
    | succ m => rfl
theorem pg_R_64 {T : zt_T} {V : pv_V} (ho : pv_ok (zt_n T) V) : pg_R T V 64 = pg_R T V (2 ^ zt_n T) := by
  have hp := po_pow ho.1
  have := pg_R_tail ho (64 - 2 ^ zt_n T) (by omega)
  rw [show 2 ^ zt_n T + (64 - 2 ^ zt_n T) = 64 by omega] at this
  exact this
theorem pc_rests {T : zt_T} {M : cs_S} {V : pv_V} (hT : pt_ok T) (hV : pc_V M 0 V) (ho : pv_ok (zt_n T) V) (a : Int32) (ha : 0 ≤ a.toInt ∧ a.toInt ≤ 1) :
    pw (gh_rests T M a) (fun p => p.1 = (if a = 0 then pj ((pg_R T V 64).1 : Nat) else pj (pg_R T V 64).2) ∧ pc_k M p.2) := by
  have hn := ho.1
  have hp := po_pow hn
  rw [pg_R_64 ho]
  unfold gh_rests
  simp (disch := omega) only [pj_lit, pj_add, pj_sub, pj_neg, pj_mul, pj_lt, pj_eq, pj_nat, pj_ald, pj_ast, pj_ix, pw_bind, pw_ite, pw_some, pw_none, pw_let, Option.bind_some, Int.toNat_natCast, Sum.elim_inl, Sum.elim_inr, Int.cast_ofNat_Int, Int.reduceLT, Int.reduceLE, Int.reduceEq, Int.reduceAdd, Int.reduceSub, Int.reduceMul, Int.reduceNeg, Int.reduceToNat, Nat.reduceAdd, Nat.reduceSub, Nat.reduceMul, Nat.reduceEqDiff, Nat.reduceLT, reduceIte, reduceCtorEq, true_and, and_true, forall_const, not_true_eq_false, not_false_eq_true, false_implies, implies_true, pc_isIn, decide_eq_true ha]
  refine pw_mono (Q := fun r : Int32 × Int32 × cs_S => r.1 = pj ((pg_R T V (2 ^ zt_n T)).1 : Nat) ∧ r.2.1 = pj (pg_R T V (2 ^ zt_n T)).2 ∧ pc_e M r.2.2) ?_ ?_
  · refine pw_for (2 ^ zt_n T) (fun k t => ∃ M', t = (pj ((pg_R T V k).1 : Nat), pj (pg_R T V k).2, pj (k : Nat), M') ∧ pc_e M M') 5000 (by omega) ?_ ?_ _ ⟨M, rfl, pc_e_rfl M⟩
    · rintro k t hk ⟨M1, rfl, h1⟩
      have hlt : (k : Int) < ((2 ^ zt_n T : Nat) : Int) := by omega
      have hV1 := pc_V_e (by omega) h1 hV
      have hb := pg_R_bd T V k
      have hnot := pg_not k (by omega) _ (pg_G_lt V)
      have hnl := pg_63 k (by omega) _ (pg_G_lt V)
      have hstep : pg_R T V (k + 1) = if pg_C T V k = true then ((pg_R T V k).1 + 1, if (pg_R T V k).2 < 0 ∨ po_pc k < po_pc (pg_R T V k).2.toNat then ((k : Nat) : Int) else (pg_R T V k).2) else pg_R T V k := rfl
      rw [hstep]
      unfold gh_rests_L19 pg_C
      generalize pg_R T V k = st at hb
      obtain ⟨m, b⟩ := st
      dsimp only at hb ⊢
      have hbc := po_bitc k (by omega)
      have hpk : po_pc k ≤ 6 := by
        have := List.countP_le_length (p := fun h => k.testBit h) (l := List.range 6)
        rw [List.length_range] at this
        exact this
      by_cases c1 : k &&& (63 ^^^ pg_G V) = 0
      · have c1' : ((k &&& (63 ^^^ pg_G V) : Nat) : Int) = 0 := by omega
        simp (disch := omega) only [pj_lit, pj_add, pj_sub, pj_neg, pj_mul, pj_lt, pj_eq, pj_nat, pj_ald, pj_ast, pj_ix, pw_bind, pw_ite, pw_some, pw_none, pw_let, Option.bind_some, Int.toNat_natCast, Sum.elim_inl, Sum.elim_inr, Int.cast_ofNat_Int, Int.reduceLT, Int.reduceLE, Int.reduceEq, Int.reduceAdd, Int.reduceSub, Int.reduceMul, Int.reduceNeg, Int.reduceToNat, Nat.reduceAdd, Nat.reduceSub, Nat.reduceMul, Nat.reduceEqDiff, Nat.reduceLT, reduceIte, reduceCtorEq, true_and, and_true, forall_const, not_true_eq_false, not_false_eq_true, false_implies, implies_true, po_all2 _ hT, hlt, pc_givers hV1 ho, hnot, c1']
        refine pw_mono (pc_isRest hT hV1 ho (show k < 64 by omega)) (fun p hp => ?_)
        have h3 := pc_e_trans h1 hp.2
        rw [decide_eq_true c1, Bool.true_and, hp.1]
        refine ⟨fun q => ⟨fun q2 => ?_, fun q2 => ?_⟩, fun q => ?_⟩
        · rw [if_pos q, if_pos (Or.inl (by omega))]
          exact ⟨p.2, rfl, h3⟩
        · obtain ⟨j, rfl⟩ : ∃ j : Nat, b = j := ⟨b.toNat, by omega⟩
          have hbj := po_bitc j (by omega)
          have hpj : po_pc j ≤ 6 := by
            have := List.countP_le_length (p := fun h => j.testBit h) (l := List.range 6)
            rw [List.length_range] at this
            exact this
          have hj0 : ¬ ((j : Nat) : Int) < 0 := by omega
          rw [if_pos q]
          simp (disch := omega) only [pj_lit, pj_add, pj_sub, pj_neg, pj_mul, pj_lt, pj_eq, pj_nat, pj_ald, pj_ast, pj_ix, pw_bind, pw_ite, pw_some, pw_none, pw_let, Option.bind_some, Int.toNat_natCast, Sum.elim_inl, Sum.elim_inr, Int.cast_ofNat_Int, Int.reduceLT, Int.reduceLE, Int.reduceEq, Int.reduceAdd, Int.reduceSub, Int.reduceMul, Int.reduceNeg, Int.reduceToNat, Nat.reduceAdd, Nat.reduceSub, Nat.reduceMul, Nat.reduceEqDiff, Nat.reduceLT, reduceIte, reduceCtorEq, true_and, and_true, forall_const, not_true_eq_false, not_false_eq_true, false_implies, implies_true, hbc, hbj, hj0, false_or]
          refine ⟨fun q3 => ?_, fun q3 => ?_⟩
          · rw [if_pos (by omega)]; exact ⟨p.2, rfl, h3⟩
          · rw [if_neg (by omega)]; exact ⟨p.2, rfl, h3⟩
        · rw [if_neg q]
          exact ⟨p.2, rfl, h3⟩
      · have c1' : ¬ ((k &&& (63 ^^^ pg_G V) : Nat) : Int) = 0 := by omega
        simp (disch := omega) only [pj_lit, pj_add, pj_sub, pj_neg, pj_mul, pj_lt, pj_eq, pj_nat, pj_ald, pj_ast, pj_ix, pw_bind, pw_ite, pw_some, pw_none, pw_let, Option.bind_some, Int.toNat_natCast, Sum.elim_inl, Sum.elim_inr, Int.cast_ofNat_Int, Int.reduceLT, Int.reduceLE, Int.reduceEq, Int.reduceAdd, Int.reduceSub, Int.reduceMul, Int.reduceNeg, Int.reduceToNat, Nat.reduceAdd, Nat.reduceSub, Nat.reduceMul, Nat.reduceEqDiff, Nat.reduceLT, reduceIte, reduceCtorEq, true_and, and_true, forall_const, not_true_eq_false, not_false_eq_true, false_implies, implies_true, po_all2 _ hT, hlt, pc_givers hV1 ho, hnot, c1', decide_eq_false c1, Bool.false_and, Bool.false_eq_true]
        exact ⟨M1, rfl, h1⟩
    · rintro t ⟨M1, rfl, h1⟩
      unfold gh_rests_L19
      simp (disch := omega) only [pj_lit, pj_add, pj_sub, pj_neg, pj_mul, pj_lt, pj_eq, pj_nat, pj_ald, pj_ast, pj_ix, pw_bind, pw_ite, pw_some, pw_none, pw_let, Option.bind_some, Int.toNat_natCast, Sum.elim_inl, Sum.elim_inr, Int.cast_ofNat_Int, Int.reduceLT, Int.reduceLE, Int.reduceEq, Int.reduceAdd, Int.reduceSub, Int.reduceMul, Int.reduceNeg, Int.reduceToNat, Nat.reduceAdd, Nat.reduceSub, Nat.reduceMul, Nat.reduceEqDiff, Nat.reduceLT, reduceIte, reduceCtorEq, true_and, and_true, forall_const, not_true_eq_false, not_false_eq_true, false_implies, implies_true, po_all2 _ hT, Int.lt_irrefl]
      exact h1
  · rintro ⟨x, y, M1⟩ ⟨q1, q2, q3⟩
    dsimp only at q1 q2 q3
    subst q1 q2
    have hk := pc_e_k q3
    simp (disch := omega) only [pj_lit, pj_add, pj_sub, pj_neg, pj_mul, pj_lt, pj_eq, pj_nat, pj_ald, pj_ast, pj_ix, pw_bind, pw_ite, pw_some, pw_none, pw_let, Option.bind_some, Int.toNat_natCast, Sum.elim_inl, Sum.elim_inr, Int.cast_ofNat_Int, Int.reduceLT, Int.reduceLE, Int.reduceEq, Int.reduceAdd, Int.reduceSub, Int.reduceMul, Int.reduceNeg, Int.reduceToNat, Nat.reduceAdd, Nat.reduceSub, Nat.reduceMul, Nat.reduceEqDiff, Nat.reduceLT, reduceIte, reduceCtorEq, true_and, and_true, forall_const, not_true_eq_false, not_false_eq_true, false_implies, implies_true]
    exact ⟨fun q => ⟨by rw [if_pos q], hk⟩, fun q => ⟨by rw [if_neg q], hk⟩⟩
theorem pc_pivots {T : zt_T} {M : cs_S} {V : pv_V} (hT : pt_ok T) (hV : pc_V M 0 V) (ho : pv_ok (zt_n T) V) : gh_pivots T M = some (pj (pb_set (fun h => !pg_en T V (pg_G V &&& (63 ^^^ 1 <<< h))) (zt_n T) : Nat)) := by
  have hn := ho.1
  unfold gh_pivots
  have : zs_loop 5000 (gh_pivots_L4 T M) (pj 0, pj 0) = some (pj (pb_set (fun h => !pg_en T V (pg_G V &&& (63 ^^^ 1 <<< h))) (zt_n T) : Nat)) := by
    refine pw_forE (zt_n T) (fun k => (pj (pb_set (fun h => !pg_en T V (pg_G V &&& (63 ^^^ 1 <<< h))) k : Nat), pj (k : Nat))) 5000 (by omega) ?_ ?_
    · intro k hk
      have hlt : (k : Int) < (zt_n T : Nat) := by omega
      have hp := pb_step (fun h => !pg_en T V (pg_G V &&& (63 ^^^ 1 <<< h))) (k := k) (by omega)
      have hclr := pg_clr _ (pg_G_lt V) k (by omega)
      have hen := pc_isEnough hT hV ho (S := pg_G V &&& (63 ^^^ 1 <<< k)) (Nat.lt_of_le_of_lt Nat.and_le_left (pg_G_lt V))
      unfold gh_pivots_L4 gh_houses
      simp (disch := omega) only [pj_lit, pj_add, pj_sub, pj_neg, pj_mul, pj_lt, pj_eq, pj_nat, pj_ald, pj_ast, pj_ix, pw_bind, pw_ite, pw_some, pw_none, pw_let, Option.bind_some, Int.toNat_natCast, Sum.elim_inl, Sum.elim_inr, Int.cast_ofNat_Int, Int.reduceLT, Int.reduceLE, Int.reduceEq, Int.reduceAdd, Int.reduceSub, Int.reduceMul, Int.reduceNeg, Int.reduceToNat, Nat.reduceAdd, Nat.reduceSub, Nat.reduceMul, Nat.reduceEqDiff, Nat.reduceLT, reduceIte, reduceCtorEq, true_and, and_true, forall_const, not_true_eq_false, not_false_eq_true, false_implies, implies_true, pj_nI, hlt, pc_givers hV ho, hclr, hen, ← hp]
      by_cases q : pg_en T V (pg_G V &&& (63 ^^^ 1 <<< k)) = true
      · rw [if_pos q, if_neg (by simp [q])]; rfl
      · rw [if_neg q, if_pos (by simpa using q)]; rfl
    · unfold gh_pivots_L4 gh_houses
      simp (disch := omega) only [pj_lit, pj_add, pj_sub, pj_neg, pj_mul, pj_lt, pj_eq, pj_nat, pj_ald, pj_ast, pj_ix, pw_bind, pw_ite, pw_some, pw_none, pw_let, Option.bind_some, Int.toNat_natCast, Sum.elim_inl, Sum.elim_inr, Int.cast_ofNat_Int, Int.reduceLT, Int.reduceLE, Int.reduceEq, Int.reduceAdd, Int.reduceSub, Int.reduceMul, Int.reduceNeg, Int.reduceToNat, Nat.reduceAdd, Nat.reduceSub, Nat.reduceMul, Nat.reduceEqDiff, Nat.reduceLT, reduceIte, reduceCtorEq, true_and, and_true, forall_const, not_true_eq_false, not_false_eq_true, false_implies, implies_true, pj_nI, Int.lt_irrefl]
  rw [pj_0, this]; rfl
