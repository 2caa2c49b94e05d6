set_option maxRecDepth 100000
theorem pw_as {τ ρ κ : Type} (x : Option τ) (f : τ → Option ρ) (g : ρ → Option κ) : (x.bind f).bind g = x.bind (fun a => (f a).bind g) := by cases x <;> rfl
theorem pq_unsplice {T : zt_T} {M : cs_S} {Z : zm_S} {s : Nat} {V : pv_V} {H : List pv_V} {at_ : Nat} (h : pr_R0 T M Z s V H at_) :
    pw (gh_unsplice T M) (fun p => pw (gm_unsplice Z) (fun q => p.1 = q.1 ∧ pr_R T p.2 q.2)) := by
  obtain ⟨hT, hm, ho, hV, hsd, hrow, ⟨k1, k2, k3, k4, k5, k6⟩, -⟩ := id h
  have hn := hT.1
  have hl := pv_len ho
  obtain ⟨Z1, eZ, hc⟩ := pm_copies hm ho hrow
  have hk1 := pm_c_k hc
  have hcu := pm_c_u hc
  have hc47 := pm_c_47 hc
  obtain ⟨hm1, hr1, -⟩ := hc
  have e5 := hV.2.1
  have e24 := hr1.2.1
  unfold gh_unsplice gm_unsplice
  rw [eZ, Option.bind_some]
  by_cases h0 : (pv_r V).length = 0
  · rw [h0] at e5 e24
    rw [e5]
    simp (disch := omega) only [pj_lit, pj_add, pj_sub, pj_neg, pj_mul, pj_lt, pj_eq, pj_nat, pj_ald, pj_ast, pj_ix, pw_bind, pw_ite, pw_some, pw_none, pw_let, Option.bind_some, Int.toNat_natCast, Sum.elim_inl, Sum.elim_inr, Int.cast_ofNat_Int, Int.reduceLT, Int.reduceLE, Int.reduceEq, Int.reduceAdd, Int.reduceSub, Int.reduceMul, Int.reduceNeg, Int.reduceToNat, Nat.reduceAdd, Nat.reduceSub, Nat.reduceMul, Nat.reduceEqDiff, Nat.reduceLT, reduceIte, reduceCtorEq, true_and, and_true, forall_const, not_true_eq_false, not_false_eq_true, false_implies, implies_true, e24]
    exact ⟨s, V, H, at_, pr_R_k (pc_k_rfl M) hk1 h⟩
  · have hk : (pv_r V).length - 1 < (pv_r V).length := by omega
    have e1 : ((pv_r V).length : Int) - 1 = (((pv_r V).length - 1 : Nat) : Int) := by omega
    have e2 : (24 : Int) + ((pv_r V).length : Int) = ((25 + ((pv_r V).length - 1) : Nat) : Int) := by omega
    have er := hV.2.2.1 _ _ (pv_get hk)
    have er' := hr1.2.2.1 _ _ (pv_get hk)
    have hne : ¬ (((pv_r V).length : Int) = 0) := by omega
    obtain ⟨M1, eM1, v1, s1, f1, f2, kp⟩ := pc_keeps (T := T) k1 k2 k3 k4 hV ho
    have hV1 := pc_kp_w kp (by omega) hV
    have e5' := hV1.2.1
    have hok := pv_los_ok ho ((pv_r V).length - 1)
    simp (disch := omega) only [pj_lit, pj_add, pj_sub, pj_neg, pj_mul, pj_lt, pj_eq, pj_nat, pj_ald, pj_ast, pj_ix, pw_bind, pw_ite, pw_some, pw_none, pw_let, Option.bind_some, Int.toNat_natCast, Sum.elim_inl, Sum.elim_inr, Int.cast_ofNat_Int, Int.reduceLT, Int.reduceLE, Int.reduceEq, Int.reduceAdd, Int.reduceSub, Int.reduceMul, Int.reduceNeg, Int.reduceToNat, Nat.reduceAdd, Nat.reduceSub, Nat.reduceMul, Nat.reduceEqDiff, Nat.reduceLT, reduceIte, reduceCtorEq, true_and, and_true, forall_const, not_true_eq_false, not_false_eq_true, false_implies, implies_true, e5, e24, hne, e1, er, eM1, e5', e2, er']
    refine pw_mono (pc_los (T := T) hV1 ho (k := (pv_r V).length - 1) (by omega)) (fun M2 hM2 => ?_)
    obtain ⟨v2, o2, s2⟩ := hM2
    refine pw_mono (pm_los hr1 ho (k := (pv_r V).length - 1) (by omega)) (fun Z2 hZ2 => ?_)
    obtain ⟨hrow', hw6⟩ := hZ2
    have h53 : Z2.1 53 = pj H.length := ((hw6.1 53 (by decide)).trans hc47.2.2).trans k5
    obtain ⟨Z3, e3, hrec⟩ := pm_records k1 h53
    simp (disch := omega) only [pj_lit, pj_add, pj_sub, pj_neg, pj_mul, pj_lt, pj_eq, pj_nat, pj_ald, pj_ast, pj_ix, pw_bind, pw_ite, pw_some, pw_none, pw_let, Option.bind_some, Int.toNat_natCast, Sum.elim_inl, Sum.elim_inr, Int.cast_ofNat_Int, Int.reduceLT, Int.reduceLE, Int.reduceEq, Int.reduceAdd, Int.reduceSub, Int.reduceMul, Int.reduceNeg, Int.reduceToNat, Nat.reduceAdd, Nat.reduceSub, Nat.reduceMul, Nat.reduceEqDiff, Nat.reduceLT, reduceIte, reduceCtorEq, true_and, and_true, forall_const, not_true_eq_false, not_false_eq_true, false_implies, implies_true, e3]
    refine pr_change h hok v2 (s2.trans ((kp.1 _ _ (by omega) (by omega)).trans hsd)) (pc_V_w (by omega) (by omega) (pc_o_w o2) v1) ((o2.1 _ _ (by omega)).trans (s1.trans hsd)) ((o2.1 _ _ (by omega)).trans f1) ((o2.1 _ _ (by omega)).trans f2) (pc_u_trans (pc_kp_u kp) (pc_w0_u (pc_o_w o2))) hrow' ?_ ?_ (pm_u_trans hcu (pm_w_u hw6)) hrec
    · rw [hw6.2.1 47 (by decide) (by decide) (by decide) (by decide) (by decide)]; exact hc47.1
    · rw [hw6.2.1 54 (by decide) (by decide) (by decide) (by decide) (by decide)]; exact hc47.2.1
def pv_drw (V : pv_V) (w : Int32) : pv_V := (pv_h V, pv_p V, pv_s V, pv_g V, pv_r V, pv_y V, pv_d V + w)
theorem pv_long_bd {n : Nat} {V : pv_V} (ho : pv_ok n V) : 0 ≤ pv_long V ∧ pv_long V ≤ 594 := by
  rw [← pv_long_eq ho]
  have b0 := ho.2.1 0 (by omega)
  have b1 := ho.2.1 1 (by omega)
  have b2 := ho.2.1 2 (by omega)
  have b3 := ho.2.1 3 (by omega)
  have b4 := ho.2.1 4 (by omega)
  have b5 := ho.2.1 5 (by omega)
  omega
theorem pc_e_u {v : Nat} {M M' : cs_S} (h : pc_e M M') : pc_u v M M' := pc_w0_u (pc_x_w 0 (pc_e_x h))
theorem pq_haul {T : zt_T} {M : cs_S} {Z : zm_S} {s : Nat} {V : pv_V} {H : List pv_V} {at_ : Nat} (h : pr_R0 T M Z s V H at_) (a : Int32) :
    pw (gh_haul T M a) (fun p => pw (gm_haul Z a) (fun q => p.1 = q.1 ∧ pr_R T p.2 q.2)) := by
  obtain ⟨hT, hm, ho, hV, hsd, hrow, ⟨k1, k2, k3, k4, k5, k6⟩, -⟩ := id h
  have hn := hT.1
  have hl := pv_len ho
  obtain ⟨Z1, eZ, hc⟩ := pm_copies hm ho hrow
  have hk1 := pm_c_k hc
  have hcu := pm_c_u hc
  have hc47 := pm_c_47 hc
  obtain ⟨hm1, hr1, -⟩ := hc
  have hlb := pv_long_bd ho
  have hf := hT.2.2.2.1
  have e27 := hm1.2.2.2.2.2.1
  have hs := hm1.1
  have x27 : zs_ald 2 (Z1.2.1 27) (Z1.1 18) = some (pj (pt_f T 4)) := by rw [hm1.2.1]; simp (disch := omega) only [pj_lit, pj_add, pj_sub, pj_neg, pj_mul, pj_lt, pj_eq, pj_nat, pj_ald, pj_ast, pj_ix, pw_bind, pw_ite, pw_some, pw_none, pw_let, Option.bind_some, Int.toNat_natCast, Sum.elim_inl, Sum.elim_inr, Int.cast_ofNat_Int, Int.reduceLT, Int.reduceLE, Int.reduceEq, Int.reduceAdd, Int.reduceSub, Int.reduceMul, Int.reduceNeg, Int.reduceToNat, Nat.reduceAdd, Nat.reduceSub, Nat.reduceMul, Nat.reduceEqDiff, Nat.reduceLT, reduceIte, reduceCtorEq, true_and, and_true, forall_const, not_true_eq_false, not_false_eq_true, false_implies, implies_true, e27]
  unfold gh_haul gm_haul
  rw [eZ, pc_haulw, pm_weight, Option.bind_some, Option.bind_some, Option.bind_some, pc_isLong hT hV ho, pm_rope hr1 ho, Option.bind_some, Option.bind_some, x27, Option.bind_some]
  by_cases hh : 0 ≤ a.toInt ∧ a.toInt ≤ 999
  · rw [decide_eq_true hh, if_pos rfl, if_pos rfl]
    by_cases hlg : pv_long V < pt_f T 4
    · rw [decide_eq_true hlg, if_neg (by decide), if_pos ((pj_lt (by omega) (by omega)).2 hlg), pw_some, pw_some]
      exact ⟨rfl, s, V, H, at_, pr_R_k (pc_k_rfl M) hk1 h⟩
    · rw [decide_eq_false hlg, if_pos (by decide), if_neg (fun q => hlg ((pj_lt (by omega) (by omega)).1 q))]
      generalize hw : a.toInt = w at hh
      obtain rfl : a = pj w := by rw [← hw, pj_of]
      have hbb := pv_brk_bd T ho w
      refine pw_seq (pc_brk hT hV ho (by omega) (by omega)) (fun p hp => ?_)
      obtain ⟨hp1, hp2⟩ := hp
      have hV0 := pc_V_e (by omega) hp2 hV
      obtain ⟨M1, eM1, v1, s1, f1, f2, kp⟩ := pc_keeps (T := T) (M := p.2) k1 k2 ((hp2.1 _ _ (by omega)).trans k3) ((hp2.1 _ _ (by omega)).trans k4) hV0 ho
      have hsd0 : p.2.1 (10 + 0) 8 = zt_f T 7 := (hp2.1 _ _ (by omega)).trans hsd
      have hV1 := pc_kp_w kp (by omega) hV0
      have kp' : pc_u (2 + at_) M M1 := pc_u_trans (pc_e_u hp2) (pc_kp_u kp)
      rw [eM1, Option.bind_some, hp1]
      by_cases hb : pv_brk T V w < 0
      · have hbl : pj (pv_brk T V w) < 0 := (pj_lt (b := 0) (by omega) (by omega)).2 hb
        rw [if_pos hbl]
        have hok : pv_ok (zt_n T) (pv_drw V (pj w)) := ho
        have e7 := hV1.2.2.2.2
        simp (disch := omega) only [pj_lit, pj_add, pj_sub, pj_neg, pj_mul, pj_lt, pj_eq, pj_nat, pj_ald, pj_ast, pj_ix, pw_bind, pw_ite, pw_some, pw_none, pw_let, Option.bind_some, Int.toNat_natCast, Sum.elim_inl, Sum.elim_inr, Int.cast_ofNat_Int, Int.reduceLT, Int.reduceLE, Int.reduceEq, Int.reduceAdd, Int.reduceSub, Int.reduceMul, Int.reduceNeg, Int.reduceToNat, Nat.reduceAdd, Nat.reduceSub, Nat.reduceMul, Nat.reduceEqDiff, Nat.reduceLT, reduceIte, reduceCtorEq, true_and, and_true, forall_const, not_true_eq_false, not_false_eq_true, false_implies, implies_true]
        refine pw_mono (pm_brk hT hm1 hr1 ho (by omega)) (fun q hq => ?_)
        obtain ⟨hq1, hq2⟩ := hq
        have hr2 := pm_row_e hq2 hr1
        have e32 := hr2.2.2.2.2
        simp (disch := omega) only [pj_lit, pj_add, pj_sub, pj_neg, pj_mul, pj_lt, pj_eq, pj_nat, pj_ald, pj_ast, pj_ix, pw_bind, pw_ite, pw_some, pw_none, pw_let, Option.bind_some, Int.toNat_natCast, Sum.elim_inl, Sum.elim_inr, Int.cast_ofNat_Int, Int.reduceLT, Int.reduceLE, Int.reduceEq, Int.reduceAdd, Int.reduceSub, Int.reduceMul, Int.reduceNeg, Int.reduceToNat, Nat.reduceAdd, Nat.reduceSub, Nat.reduceMul, Nat.reduceEqDiff, Nat.reduceLT, reduceIte, reduceCtorEq, true_and, and_true, forall_const, not_true_eq_false, not_false_eq_true, false_implies, implies_true, hq1, hb, e32, e7]
        have v2 : pc_V (cs_sF M1 (10 + 0) 7 (pv_d V + pj w)) 0 (pv_drw V (pj w)) := by
          obtain ⟨g1, g2, g3, g4, g5⟩ := hV1
          refine ⟨g1, ?_, g3, ?_, ?_⟩
          · rw [pc_sF1n (by omega)]; exact g2
          · rw [pc_sF1n (by omega)]; exact g4
          · rw [pc_sF1s]; rfl
        have w2 : pc_w 0 M1 (cs_sF M1 (10 + 0) 7 (pv_d V + pj w)) := pc_w_F (i := 0) 7 _
        have hrow' : pv_row ((zm_sA q.2 48 (pj 32) (pv_d V + pj w)).2.1 48) (pv_drw V (pj w)) := by
          obtain ⟨g1, g2, g3, g4, g5⟩ := hr2
          have cell : ∀ y, (zm_sA q.2 48 (pj 32) (pv_d V + pj w)).2.1 48 y = if y = 32 then pv_d V + pj w else q.2.2.1 48 y := fun y => by rw [pm_sAs, pj_upd, show pj 32 = pj ((32 : Nat) : Int) from rfl, pj_nat (by omega), Int.toNat_natCast]
          refine ⟨fun x hx => ?_, ?_, fun k x e => ?_, ?_, ?_⟩
          · rw [cell, cell, cell, cell, if_neg (by omega), if_neg (by omega), if_neg (by omega), if_neg (by omega)]; exact g1 x hx
          · rw [cell, if_neg (by omega)]; exact g2
          · have : k < (pv_r V).length := (List.getElem?_eq_some_iff.1 e).1
            rw [cell, if_neg (by omega)]; exact g3 k x e
          · rw [cell, if_neg (by omega)]; exact g4
          · rw [cell, if_pos rfl]; rfl
        have hw6 : pm_w Z1 (zm_sA q.2 48 (pj 32) (pv_d V + pj w)) := pm_w_trans (pm_x_w (pm_e_x hq2)) (pm_w_A _ _)
        generalize zm_sA q.2 48 (pj 32) (pv_d V + pj w) = Z2 at hrow' hw6
        have h53 : Z2.1 53 = pj H.length := ((hw6.1 53 (by decide)).trans hc47.2.2).trans k5
        obtain ⟨Z3, e3, hrec⟩ := pm_records k1 h53
        have r24 : Z3.2.1 47 24 = pj (pv_r V).length := (hrec.2.2.2.2.1 24 (by omega)).trans hrow'.2.1
        have f5 : (cs_sF M1 (10 + 0) 7 (pv_d V + pj w)).1 (10 + 0) 5 = pj (pv_r V).length := v2.2.1
        simp (disch := omega) only [pj_lit, pj_add, pj_sub, pj_neg, pj_mul, pj_lt, pj_eq, pj_nat, pj_ald, pj_ast, pj_ix, pw_bind, pw_ite, pw_some, pw_none, pw_let, Option.bind_some, Int.toNat_natCast, Sum.elim_inl, Sum.elim_inr, Int.cast_ofNat_Int, Int.reduceLT, Int.reduceLE, Int.reduceEq, Int.reduceAdd, Int.reduceSub, Int.reduceMul, Int.reduceNeg, Int.reduceToNat, Nat.reduceAdd, Nat.reduceSub, Nat.reduceMul, Nat.reduceEqDiff, Nat.reduceLT, reduceIte, reduceCtorEq, true_and, and_true, forall_const, not_true_eq_false, not_false_eq_true, false_implies, implies_true, e3, r24]
        refine ⟨f5, pr_change h hok v2 ?_ (pc_V_w (by omega) (by omega) w2 v1) ?_ ?_ ?_ (pc_u_trans kp' (pc_w0_u w2)) hrow' ?_ ?_ (pm_u_trans hcu (pm_w_u hw6)) hrec⟩
        · rw [pc_sF1n (by omega)]; exact (kp.1 _ _ (by omega) (by omega)).trans hsd0
        · rw [pc_sF1n (by omega)]; exact s1.trans hsd0
        · rw [pc_sF1n (by omega)]; exact f1
        · rw [pc_sF1n (by omega)]; exact f2
        · rw [hw6.2.1 47 (by decide) (by decide) (by decide) (by decide) (by decide)]; exact hc47.1
        · rw [hw6.2.1 54 (by decide) (by decide) (by decide) (by decide) (by decide)]; exact hc47.2.1
      · have hbl : ¬ pj (pv_brk T V w) < 0 := fun q => hb ((pj_lt (b := 0) (by omega) (by omega)).1 q)
        rw [if_neg hbl]
        obtain ⟨k, hk⟩ : ∃ k : Nat, pv_brk T V w = k := ⟨(pv_brk T V w).toNat, by omega⟩
        rw [hk] at hbb hb hbl ⊢
        have hd : pj (k : Int) / 2 = pj ((k / 2 : Nat) : Int) := pj_divN (b := 2) (by omega) (by omega)
        have hok := pv_los_ok ho (k / 2)
        rw [hd]
        refine pw_seq (pc_los (T := T) hV1 ho (k := k / 2) (by omega)) (fun M2 hM2 => ?_)
        obtain ⟨v2, o2, s2⟩ := hM2
        have f5 := v2.2.1
        rw [pw_some]
        refine pw_seq (pm_brk hT hm1 hr1 ho (by omega)) (fun q hq => ?_)
        obtain ⟨hq1, hq2⟩ := hq
        have hr2 := pm_row_e hq2 hr1
        rw [hk] at hq1
        rw [hq1, if_neg hbl, hd, pw_as]
        refine pw_seq (pm_los hr2 ho (k := k / 2) (by omega)) (fun Z2 hZ2 => ?_)
        obtain ⟨hrow', hw5⟩ := hZ2
        have hw6 : pm_w Z1 Z2 := pm_w_trans (pm_x_w (pm_e_x hq2)) hw5
        have h53 : Z2.1 53 = pj H.length := ((hw6.1 53 (by decide)).trans hc47.2.2).trans k5
        obtain ⟨Z3, e3, hrec⟩ := pm_records k1 h53
        have r24 : Z3.2.1 47 24 = pj (pv_r (pv_los V (k / 2))).length := (hrec.2.2.2.2.1 24 (by omega)).trans hrow'.2.1
        simp (disch := omega) only [pj_lit, pj_add, pj_sub, pj_neg, pj_mul, pj_lt, pj_eq, pj_nat, pj_ald, pj_ast, pj_ix, pw_bind, pw_ite, pw_some, pw_none, pw_let, Option.bind_some, Int.toNat_natCast, Sum.elim_inl, Sum.elim_inr, Int.cast_ofNat_Int, Int.reduceLT, Int.reduceLE, Int.reduceEq, Int.reduceAdd, Int.reduceSub, Int.reduceMul, Int.reduceNeg, Int.reduceToNat, Nat.reduceAdd, Nat.reduceSub, Nat.reduceMul, Nat.reduceEqDiff, Nat.reduceLT, reduceIte, reduceCtorEq, true_and, and_true, forall_const, not_true_eq_false, not_false_eq_true, false_implies, implies_true, e3, r24]
        refine ⟨f5, pr_change h hok v2 (s2.trans ((kp.1 _ _ (by omega) (by omega)).trans hsd0)) (pc_V_w (by omega) (by omega) (pc_o_w o2) v1) ((o2.1 _ _ (by omega)).trans (s1.trans hsd0)) ((o2.1 _ _ (by omega)).trans f1) ((o2.1 _ _ (by omega)).trans f2) (pc_u_trans kp' (pc_w0_u (pc_o_w o2))) hrow' ?_ ?_ (pm_u_trans hcu (pm_w_u hw6)) hrec⟩
        · rw [hw6.2.1 47 (by decide) (by decide) (by decide) (by decide) (by decide)]; exact hc47.1
        · rw [hw6.2.1 54 (by decide) (by decide) (by decide) (by decide) (by decide)]; exact hc47.2.1
  · rw [decide_eq_false hh, if_neg (by decide), if_neg (by decide), pw_some, pw_some]
    exact ⟨rfl, s, V, H, at_, pr_R_k (pc_k_rfl M) hk1 h⟩
theorem pq_years {T : zt_T} {M : cs_S} {Z : zm_S} {s : Nat} {V : pv_V} {H : List pv_V} {at_ : Nat} (h : pr_R0 T M Z s V H at_) (a : Int32) :
    pw (gh_years T M a) (fun p => pw (gm_years Z a) (fun q => p.1 = q.1 ∧ pr_R T p.2 q.2)) := by
  obtain ⟨hT, hm, ho, hV, hsd, hrow, ⟨k1, k2, k3, k4, k5, k6⟩, -⟩ := id h
  have hn := hT.1
  have hl := pv_len ho
  unfold gh_years gm_years
  rw [pc_ahead, pm_long]
  by_cases hh : 0 ≤ a.toInt ∧ a.toInt ≤ 60
  · obtain ⟨n, rfl, hn60⟩ := pj_60 hh
    rw [decide_eq_true hh, Option.bind_some, Option.bind_some, if_pos rfl, if_pos rfl]
    by_cases h0 : n = 0
    · subst h0
      have hx : (zs_loop 5000 (gh_runs_L3 (pj ((0 : Nat) : Int)) T 0 false) (0, M)) = some M := rfl
      have hlt : ¬ (0 < pj ((0 : Nat) : Int)) := by decide
      have e31 := hrow.2.2.2.1
      have e6 := hV.2.2.2.1
      have x31 : zs_ald 33 (Z.2.1 47) 31 = some (pv_y V) := by rw [pj_lit]; simp (disch := omega) only [pj_lit, pj_add, pj_sub, pj_neg, pj_mul, pj_lt, pj_eq, pj_nat, pj_ald, pj_ast, pj_ix, pw_bind, pw_ite, pw_some, pw_none, pw_let, Option.bind_some, Int.toNat_natCast, Sum.elim_inl, Sum.elim_inr, Int.cast_ofNat_Int, Int.reduceLT, Int.reduceLE, Int.reduceEq, Int.reduceAdd, Int.reduceSub, Int.reduceMul, Int.reduceNeg, Int.reduceToNat, Nat.reduceAdd, Nat.reduceSub, Nat.reduceMul, Nat.reduceEqDiff, Nat.reduceLT, reduceIte, reduceCtorEq, true_and, and_true, forall_const, not_true_eq_false, not_false_eq_true, false_implies, implies_true, e31]
      unfold gh_runs
      rw [if_neg hlt, Option.bind_some, hx, Option.bind_some, Option.bind_some, if_pos (show pj ((0 : Nat) : Int) = 0 from rfl), x31, Option.bind_some, pw_some, pw_some]
      exact ⟨e6, s, V, H, at_, h⟩
    · have hlt : 0 < pj (n : Int) := (pj_lt (a := 0) (by omega) (by omega)).2 (by omega)
      have hne : ¬ pj (n : Int) = 0 := fun q => h0 (by have := (pj_eq (b := 0) (by omega) (by omega)).1 q; omega)
      obtain ⟨Z1, eZ, hc⟩ := pm_copies hm ho hrow
      have hcu := pm_c_u hc
      have hc47 := pm_c_47 hc
      obtain ⟨hm1, hr1, h49, h50, -⟩ := hc
      obtain ⟨M1, eM1, v1, s1, f1, f2, kp⟩ := pc_keeps (T := T) k1 k2 k3 k4 hV ho
      have hV1 := pc_kp_w kp (by omega) hV
      have hsd1 : M1.1 (10 + 0) 8 = zt_f T 7 := (kp.1 _ _ (by omega) (by omega)).trans hsd
      have hok := pv_run_ok ho (zt_f T 7) false n
      rw [if_pos hlt, eM1, Option.bind_some, Option.bind_some, if_neg hne, eZ, Option.bind_some]
      refine pw_seq (pc_runs hT hV1 ho (by omega) false hn60 hsd1) (fun M2 hM2 => ?_)
      obtain ⟨v2, w2, s2⟩ := hM2
      rw [pw_some]
      refine pw_seq (pm_goes hm1 hr1 ho (st := false) h50 hn60 h49) (fun Z2 hZ2 => ?_)
      obtain ⟨hrow', hw6⟩ := hZ2
      have h53 : Z2.1 53 = pj H.length := ((hw6.1 53 (by decide)).trans hc47.2.2).trans k5
      obtain ⟨Z3, e3, hrec⟩ := pm_records k1 h53
      have r31 : Z3.2.1 47 31 = pv_y (pv_run T (zt_f T 7) false V n) := (hrec.2.2.2.2.1 31 (by omega)).trans hrow'.2.2.2.1
      have f6 := v2.2.2.2.1
      simp (disch := omega) only [pj_lit, pj_add, pj_sub, pj_neg, pj_mul, pj_lt, pj_eq, pj_nat, pj_ald, pj_ast, pj_ix, pw_bind, pw_ite, pw_some, pw_none, pw_let, Option.bind_some, Int.toNat_natCast, Sum.elim_inl, Sum.elim_inr, Int.cast_ofNat_Int, Int.reduceLT, Int.reduceLE, Int.reduceEq, Int.reduceAdd, Int.reduceSub, Int.reduceMul, Int.reduceNeg, Int.reduceToNat, Nat.reduceAdd, Nat.reduceSub, Nat.reduceMul, Nat.reduceEqDiff, Nat.reduceLT, reduceIte, reduceCtorEq, true_and, and_true, forall_const, not_true_eq_false, not_false_eq_true, false_implies, implies_true, e3, r31]
      refine ⟨f6, pr_change h hok v2 s2 (pc_V_w (by omega) (by omega) w2 v1) ((w2.1 _ _ (by omega) (by omega)).trans (s1.trans hsd)) ((w2.1 _ _ (by omega) (by omega)).trans f1) ((w2.1 _ _ (by omega) (by omega)).trans f2) (pc_u_trans (pc_kp_u kp) (pc_w0_u w2)) hrow' ?_ ?_ (pm_u_trans hcu (pm_w_u hw6)) hrec⟩
      · rw [hw6.2.1 47 (by decide) (by decide) (by decide) (by decide) (by decide)]; exact hc47.1
      · rw [hw6.2.1 54 (by decide) (by decide) (by decide) (by decide) (by decide)]; exact hc47.2.1
  · rw [decide_eq_false hh, Option.bind_some, Option.bind_some, if_neg (by decide), if_neg (by decide), pw_some, pw_some]
    exact ⟨rfl, s, V, H, at_, h⟩
/-! undo, hold, restore -/
theorem pm_undo {Z : zm_S} {n : Nat} (hn : n < 40) (h53 : Z.1 53 = pj ((n + 1 : Nat) : Int)) : ∃ Z', gm_undo Z = some (true, Z') ∧ Z'.1 53 = pj n ∧ (∀ k, k ≠ 53 → Z'.1 k = Z.1 k) ∧ Z'.2.2 = Z.2.2 ∧ (∀ k, k ≠ 47 → Z'.2.1 k = Z.2.1 k) ∧ ∀ x, x < 33 → Z'.2.1 47 x = Z.2.1 54 (33 * n + x) := by
  have hne : ¬ Z.1 53 = 0 := by
    rw [h53]
    intro q
    have := (pj_eq (b := 0) (by omega) (by omega)).1 q
    omega
  have e1 : Z.1 53 - 1 = pj n := by rw [h53, pj_1, pj_sub]; congr 1; omega
  have hs : (zm_sF Z 53 (pj n)).1 53 = pj n := pm_sF1s _ _ _
  have hz := pw_for (b := gm_undo_L21) (Q := fun p : Bool × zm_S => p.1 = true ∧ p.2.1 = (zm_sF Z 53 (pj n)).1 ∧ p.2.2.2 = Z.2.2 ∧ (∀ k, k ≠ 47 → p.2.2.1 k = Z.2.1 k) ∧ ∀ x, x < 33 → p.2.2.1 47 x = Z.2.1 54 (33 * n + x)) 33
    (fun k t => ∃ Z', t = (pj (k : Nat), Z') ∧ Z'.1 = (zm_sF Z 53 (pj n)).1 ∧ Z'.2.2 = Z.2.2 ∧ (∀ k, k ≠ 47 → Z'.2.1 k = Z.2.1 k) ∧ ∀ x, x < k → Z'.2.1 47 x = Z.2.1 54 (33 * n + x)) 5000 (by omega) ?_ ?_ (pj 0, zm_sF Z 53 (pj n)) ⟨_, rfl, rfl, rfl, fun _ _ => rfl, fun x hx => absurd hx (Nat.not_lt_zero x)⟩
  · obtain ⟨⟨b, Z'⟩, e, q1, q2, q3, q4, q5⟩ := hz
    dsimp only at q1 q2 q3 q4 q5
    subst q1
    refine ⟨Z', ?_, by rw [q2]; exact hs, fun k hk => by rw [q2, pm_sF1n hk], q3, q4, q5⟩
    unfold gm_undo
    rw [if_neg hne, Option.bind_some, e1, pj_0, e]; rfl
  · rintro k t hk ⟨Z1, rfl, q1, q2, q3, q4⟩
    have hlt : (k : Int) < 33 := by omega
    have e : (33 : Int) * n + k = ((33 * n + k : Nat) : Int) := by omega
    have e53 : Z1.1 53 = pj n := by rw [q1]; exact hs
    have e54 : Z1.2.1 54 = Z.2.1 54 := q3 54 (by decide)
    unfold gm_undo_L21
    simp (disch := omega) only [pj_lit, pj_add, pj_sub, pj_neg, pj_mul, pj_lt, pj_eq, pj_nat, pj_ald, pj_ast, pj_ix, pw_bind, pw_ite, pw_some, pw_none, pw_let, Option.bind_some, Int.toNat_natCast, Sum.elim_inl, Sum.elim_inr, Int.cast_ofNat_Int, Int.reduceLT, Int.reduceLE, Int.reduceEq, Int.reduceAdd, Int.reduceSub, Int.reduceMul, Int.reduceNeg, Int.reduceToNat, Nat.reduceAdd, Nat.reduceSub, Nat.reduceMul, Nat.reduceEqDiff, Nat.reduceLT, reduceIte, reduceCtorEq, true_and, and_true, forall_const, not_true_eq_false, not_false_eq_true, false_implies, implies_true, hlt, e53, e, e54]
    refine ⟨zm_sA Z1 47 (pj k) (Z.2.1 54 (33 * n + k)), rfl, q1, q2, fun j hj => (pm_sAn hj).trans (q3 j hj), fun x hx => ?_⟩
    rw [pm_sAs, pj_upd, pj_nat (by omega), Int.toNat_natCast]
    by_cases c : x = k
    · rw [if_pos c, c]
    · rw [if_neg c]; exact q4 x (by omega)
  · rintro t ⟨Z1, rfl, q1, q2, q3, q4⟩
    unfold gm_undo_L21
    simp (disch := omega) only [pj_lit, pj_add, pj_sub, pj_neg, pj_mul, pj_lt, pj_eq, pj_nat, pj_ald, pj_ast, pj_ix, pw_bind, pw_ite, pw_some, pw_none, pw_let, Option.bind_some, Int.toNat_natCast, Sum.elim_inl, Sum.elim_inr, Int.cast_ofNat_Int, Int.reduceLT, Int.reduceLE, Int.reduceEq, Int.reduceAdd, Int.reduceSub, Int.reduceMul, Int.reduceNeg, Int.reduceToNat, Nat.reduceAdd, Nat.reduceSub, Nat.reduceMul, Nat.reduceEqDiff, Nat.reduceLT, reduceIte, reduceCtorEq, true_and, and_true, forall_const, not_true_eq_false, not_false_eq_true, false_implies, implies_true, Int.lt_irrefl]
    exact ⟨q1, q2, q3, q4⟩
theorem pq_undo {T : zt_T} {M : cs_S} {Z : zm_S} {s : Nat} {V : pv_V} {H : List pv_V} {at_ : Nat} (h : pr_R0 T M Z s V H at_) :
    pw (gh_undo T M) (fun p => pw (gm_undo Z) (fun q => p.1 = q.1 ∧ pr_R T p.2 q.2)) := by
  obtain ⟨hT, hm, ho, hV, hsd, hrow, ⟨k1, k2, k3, k4, k5, k6⟩, h8, h9, h10, h11, h12, h13⟩ := id h
  by_cases h0 : H.length = 0
  · rw [h0] at k3 k5
    unfold gh_undo gm_undo
    rw [if_pos (show M.1 0 5 = 0 from k3), if_pos (show Z.1 53 = 0 from k5), pw_some, pw_some]
    exact ⟨rfl, s, V, H, at_, h⟩
  · have hne : ¬ M.1 0 5 = 0 := by
      rw [k3]
      intro q
      have := (pj_eq (b := 0) (by omega) (by omega)).1 q
      omega
    obtain ⟨m, hm1⟩ : ∃ m, H.length = m + 1 := ⟨H.length - 1, by omega⟩
    obtain ⟨Z', e1, z1, z2, z3, z4, z5⟩ := pm_undo (Z := Z) (n := m) (by omega) (by rw [k5, hm1])
    have hlast : H[m]? = some H[m] := List.getElem?_eq_getElem (by omega)
    generalize H[m] = W at hlast
    obtain ⟨w1, w2, w3, w4⟩ := k6 m W hlast
    have hix : (at_ + 40 - H.length + m) % 40 = (at_ + 39) % 40 := by omega
    rw [hix] at w2 w3
    have hr : zs_rem (pj ((at_ : Int) + 40 - 1)) (pj 40) = pj (((at_ + 39) % 40 : Nat) : Int) := by
      rw [show (at_ : Int) + 40 - 1 = ((at_ + 39 : Nat) : Int) by omega]
      exact pj_remN (a := at_ + 39) (b := 40) (by omega) (by omega)
    have hlt40 : (at_ + 39) % 40 < 40 := Nat.mod_lt _ (by omega)
    have e5 : M.1 0 5 - 1 = pj m := by rw [k3, hm1, pj_1, pj_sub]; congr 1; omega
    have e6 : (cs_sF M 0 5 (pj m)).1 0 6 = pj at_ := by rw [pc_sF1n (by omega)]; exact k4
    have w2' : pc_V (cs_sF (cs_sF M 0 5 (pj m)) 0 6 (pj (((at_ + 39) % 40 : Nat) : Int))) (2 + (at_ + 39) % 40) W := by
      obtain ⟨g1, g2, g3, g4, g5⟩ := w2
      refine ⟨g1, ?_, g3, ?_, ?_⟩
      · rw [pc_sF1n (by omega), pc_sF1n (by omega)]; exact g2
      · rw [pc_sF1n (by omega), pc_sF1n (by omega)]; exact g4
      · rw [pc_sF1n (by omega), pc_sF1n (by omega)]; exact g5
    obtain ⟨M1, eM1, v1, s1, o1⟩ := pc_becomes T (i := 0) (v := 2 + (at_ + 39) % 40) (by omega) w2' w1
    have key : gh_undo T M = some (true, M1) := by
      unfold gh_undo
      rw [if_neg hne, e5]
      simp (disch := omega) only [pj_lit, pj_add, pj_sub, pj_neg, pj_mul, pj_lt, pj_eq, pj_nat, pj_ald, pj_ast, pj_ix, pw_bind, pw_ite, pw_some, pw_none, pw_let, Option.bind_some, Int.toNat_natCast, Sum.elim_inl, Sum.elim_inr, Int.cast_ofNat_Int, Int.reduceLT, Int.reduceLE, Int.reduceEq, Int.reduceAdd, Int.reduceSub, Int.reduceMul, Int.reduceNeg, Int.reduceToNat, Nat.reduceAdd, Nat.reduceSub, Nat.reduceMul, Nat.reduceEqDiff, Nat.reduceLT, reduceIte, reduceCtorEq, true_and, and_true, forall_const, not_true_eq_false, not_false_eq_true, false_implies, implies_true, e6, hr, pc_sF1s, eM1]
    rw [key, pw_some, e1, pw_some]
    have oF : ∀ o f, o ≠ 10 → ¬ (o = 0 ∧ (f = 5 ∨ f = 6)) → M1.1 o f = M.1 o f := fun o f a b => by rw [o1.1 o f a, pc_sF1n (by omega), pc_sF1n (by omega)]
    have oA : ∀ o f, o ≠ 10 → M1.2 o f = M.2 o f := fun o f a => o1.2 o f a
    have hv : ∀ i X, i ≠ 0 → pc_V M i X → pc_V M1 i X := by
      rintro i X hi ⟨g1, g2, g3, g4, g5⟩
      refine ⟨fun k hk => ?_, ?_, fun k x e => ?_, ?_, ?_⟩
      · rw [oA _ _ (by omega), oA _ _ (by omega), oA _ _ (by omega), oA _ _ (by omega)]; exact g1 k hk
      · rw [oF _ _ (by omega) (by omega)]; exact g2
      · rw [oA _ _ (by omega)]; exact g3 k x e
      · rw [oF _ _ (by omega) (by omega)]; exact g4
      · rw [oF _ _ (by omega) (by omega)]; exact g5
    refine ⟨rfl, s, W, H.dropLast, (at_ + 39) % 40, hT, pm_T_tx ⟨z2 18 (by decide), fun k q => z4 k (by omega)⟩ hm, w1, v1, ?_, ?_, ?_, ?_, ?_, ?_, ?_, ?_, (congrFun (oA 0 16 (by omega)) 0).trans h13⟩
    · rw [s1, pc_sF1n (by omega), pc_sF1n (by omega)]; exact w3
    · exact pv_row_congr w1 (fun x hx => z5 x hx) w4
    · have hdl : H.dropLast.length = m := by rw [List.length_dropLast, hm1]; rfl
      refine ⟨by omega, hlt40, ?_, ?_, by rw [hdl]; exact z1, fun j X e => ?_⟩
      · rw [hdl, o1.1 0 5 (by omega), pc_sF1n (by omega), pc_sF1s]
      · rw [o1.1 0 6 (by omega), pc_sF1s]
      · have hj : j < m := by have := (List.getElem?_eq_some_iff.1 e).1; omega
        rw [List.getElem?_dropLast] at e
        rw [if_pos (by omega)] at e
        obtain ⟨x1, x2, x3, x4⟩ := k6 j X e
        have hix2 : ((at_ + 39) % 40 + 40 - m + j) % 40 = (at_ + 40 - H.length + j) % 40 := by omega
        rw [hdl, hix2]
        refine ⟨x1, hv _ _ (by omega) x2, (oF _ _ (by omega) (by omega)).trans x3, ?_⟩
        rw [z4 54 (by decide)]; exact x4
    · intro k hk
      obtain ⟨q1, q2⟩ := h8 k hk
      rw [oA _ _ (by omega), z4 69 (by decide)]
      refine ⟨q1, q2.imp id (fun q => ⟨q.1, ?_⟩)⟩
      obtain ⟨X, x1, x2, x3, x4⟩ := q.2
      refine ⟨X, x1, hv _ _ (by omega) x2, (oF _ _ (by omega) (by omega)).trans x3, ?_⟩
      rw [z4 70 (by decide)]; exact x4
    · obtain ⟨t, t1, t2, t3, t4⟩ := h9
      refine ⟨t, t1, (oF _ _ (by omega) (by omega)).trans t2, (z2 63 (by decide)).trans t3, fun j hj => ?_⟩
      rw [oA _ _ (by omega), oA _ _ (by omega), oA _ _ (by omega), z4 64 (by decide), z4 65 (by decide), z4 66 (by decide)]
      exact t4 j hj
    · obtain ⟨p, p1, p2, p3, p4⟩ := h10
      refine ⟨p, p1, (oF _ _ (by omega) (by omega)).trans p2, (z2 2 (by decide)).trans p3, fun j hj => ?_⟩
      rw [oA _ _ (by omega), z4 1 (by decide)]
      exact p4 j hj
    · rw [oF _ _ (by omega) (by omega), z2 17 (by decide)]; exact h11
    · unfold pr_K; rw [z3]; exact h12
theorem pq_hold {T : zt_T} {M : cs_S} {Z : zm_S} {s : Nat} {V : pv_V} {H : List pv_V} {at_ : Nat} (h : pr_R0 T M Z s V H at_) (a : Int32) :
    pw (gh_hold T M a) (fun p => pw (gm_hold Z a) (fun q => p.1 = q.1 ∧ pr_R T p.2 q.2)) := by
  obtain ⟨hT, hm, ho, hV, hsd, hrow, ⟨k1, k2, k3, k4, k5, k6⟩, h8, h9, h10, h11, h12, h13⟩ := id h
  by_cases hh : 0 ≤ a.toInt ∧ a.toInt ≤ 2
  · obtain ⟨c, rfl, -, hc⟩ := pj_range (lo := 0) (hi := 2) hh
    obtain ⟨M1, eM1, v1, s1, o1⟩ := pc_becomes T (i := 42 + c) (v := 0) (by omega) hV ho
    have hnar : vp_nar .boolean (pj 1) = pj 1 := by decide
    have key : gh_hold T M (pj c) = some (true, cs_sA M1 0 13 (pj c) (pj 1)) := by
      unfold gh_hold
      simp (disch := omega) only [pj_lit, pj_add, pj_sub, pj_neg, pj_mul, pj_lt, pj_eq, pj_nat, pj_ald, pj_ast, pj_ix, pw_bind, pw_ite, pw_some, pw_none, pw_let, Option.bind_some, Int.toNat_natCast, Sum.elim_inl, Sum.elim_inr, Int.cast_ofNat_Int, Int.reduceLT, Int.reduceLE, Int.reduceEq, Int.reduceAdd, Int.reduceSub, Int.reduceMul, Int.reduceNeg, Int.reduceToNat, Nat.reduceAdd, Nat.reduceSub, Nat.reduceMul, Nat.reduceEqDiff, Nat.reduceLT, reduceIte, reduceCtorEq, true_and, and_true, forall_const, not_true_eq_false, not_false_eq_true, false_implies, implies_true, pc_isIn, decide_eq_true hh, eM1, hnar]
    have hz := pw_for (b := gm_hold_L20 (pj c)) (Q := fun p : Bool × zm_S => p.1 = true ∧ p.2.1 = Z.1 ∧ p.2.2.2 = Z.2.2 ∧ (∀ k, k ≠ 70 → p.2.2.1 k = (zm_sA Z 69 (pj c) (pj 1)).2.1 k) ∧ ∀ j, p.2.2.1 70 j = if 33 * c ≤ j ∧ j < 33 * c + 33 then Z.2.1 47 (j - 33 * c) else Z.2.1 70 j) 33
      (fun k t => ∃ Z', t = (pj (k : Nat), Z') ∧ Z'.1 = Z.1 ∧ Z'.2.2 = Z.2.2 ∧ (∀ k, k ≠ 70 → Z'.2.1 k = (zm_sA Z 69 (pj c) (pj 1)).2.1 k) ∧ ∀ j, Z'.2.1 70 j = if 33 * c ≤ j ∧ j < 33 * c + k then Z.2.1 47 (j - 33 * c) else Z.2.1 70 j) 5000 (by omega) ?_ ?_ (pj 0, zm_sA Z 69 (pj c) (pj 1)) ⟨_, rfl, rfl, rfl, fun _ _ => rfl, fun j => ?_⟩
    · obtain ⟨⟨b, Z'⟩, e, q1, q2, q3, q4, q5⟩ := hz
      dsimp only at q1 q2 q3 q4 q5
      subst q1
      have key2 : gm_hold Z (pj c) = some (true, Z') := by
        unfold gm_hold
        simp (disch := omega) only [pj_lit, pj_add, pj_sub, pj_neg, pj_mul, pj_lt, pj_eq, pj_nat, pj_ald, pj_ast, pj_ix, pw_bind, pw_ite, pw_some, pw_none, pw_let, Option.bind_some, Int.toNat_natCast, Sum.elim_inl, Sum.elim_inr, Int.cast_ofNat_Int, Int.reduceLT, Int.reduceLE, Int.reduceEq, Int.reduceAdd, Int.reduceSub, Int.reduceMul, Int.reduceNeg, Int.reduceToNat, Nat.reduceAdd, Nat.reduceSub, Nat.reduceMul, Nat.reduceEqDiff, Nat.reduceLT, reduceIte, reduceCtorEq, true_and, and_true, forall_const, not_true_eq_false, not_false_eq_true, false_implies, implies_true, pm_isIn, decide_eq_true hh, hnar, e]
      have oF : ∀ o f, o ≠ 10 + (42 + c) → (cs_sA M1 0 13 (pj c) (pj 1)).1 o f = M.1 o f := fun o f a => o1.1 o f a
      have oA : ∀ o f, o ≠ 10 + (42 + c) → ¬ (o = 0 ∧ f = 13) → (cs_sA M1 0 13 (pj c) (pj 1)).2 o f = M.2 o f := fun o f a b => by rw [pc_sA2n b]; exact o1.2 o f a
      have zA : ∀ k, k ≠ 70 → k ≠ 69 → Z'.2.1 k = Z.2.1 k := fun k a b => by rw [q4 k a, pm_sAn b]
      have hv : ∀ i X, i ≠ 42 + c → pc_V M i X → pc_V (cs_sA M1 0 13 (pj c) (pj 1)) i X := by
        rintro i X hi ⟨g1, g2, g3, g4, g5⟩
        refine ⟨fun k hk => ?_, ?_, fun k x e => ?_, ?_, ?_⟩
        · rw [oA _ _ (by omega) (by omega), oA _ _ (by omega) (by omega), oA _ _ (by omega) (by omega), oA _ _ (by omega) (by omega)]; exact g1 k hk
        · rw [oF _ _ (by omega)]; exact g2
        · rw [oA _ _ (by omega) (by omega)]; exact g3 k x e
        · rw [oF _ _ (by omega)]; exact g4
        · rw [oF _ _ (by omega)]; exact g5
      have v1' : pc_V (cs_sA M1 0 13 (pj c) (pj 1)) (42 + c) V := by
        obtain ⟨g1, g2, g3, g4, g5⟩ := v1
        refine ⟨fun k hk => ?_, g2, fun k x e => ?_, g4, g5⟩
        · rw [pc_sA2n (by omega), pc_sA2n (by omega), pc_sA2n (by omega), pc_sA2n (by omega)]; exact g1 k hk
        · rw [pc_sA2n (by omega)]; exact g3 k x e
      rw [key, key2, pw_some, pw_some]
      refine ⟨rfl, s, V, H, at_, hT, pm_T_tx ⟨by rw [q2], fun k q => zA k (by omega) (by omega)⟩ hm, ho, hv _ _ (by omega) hV, (oF _ _ (by omega)).trans hsd, ?_, ?_, ?_, ?_, ?_, ?_, ?_, (congrFun (oA 0 16 (by omega) (by omega)) 0).trans h13⟩
      · rw [zA 47 (by decide) (by decide)]; exact hrow
      · refine ⟨k1, k2, (oF _ _ (by omega)).trans k3, (oF _ _ (by omega)).trans k4, by rw [q2]; exact k5, fun j X e => ?_⟩
        obtain ⟨x1, x2, x3, x4⟩ := k6 j X e
        have hlt40 : (at_ + 40 - H.length + j) % 40 < 40 := Nat.mod_lt _ (by omega)
        refine ⟨x1, hv _ _ (by omega) x2, (oF _ _ (by omega)).trans x3, ?_⟩
        rw [zA 54 (by decide) (by decide)]; exact x4
      · intro k hk
        have eA : (cs_sA M1 0 13 (pj c) (pj 1)).2 0 13 k = if k = c then pj 1 else M.2 0 13 k := by rw [pc_sA2s, pj_upd, pj_nat (by omega), Int.toNat_natCast, o1.2 0 13 (by omega)]
        have eZ : Z'.2.1 69 k = if k = c then pj 1 else Z.2.1 69 k := by rw [q4 69 (by decide), pm_sAs, pj_upd, pj_nat (by omega), Int.toNat_natCast]
        rw [eA, eZ]
        by_cases ck : k = c
        · rw [if_pos ck, if_pos ck]
          subst ck
          refine ⟨rfl, Or.inr ⟨rfl, V, ho, v1', s1.trans hsd, pv_row_congr ho (fun x hx => ?_) hrow⟩⟩
          show Z'.2.1 70 (33 * k + x) = _
          rw [q5, if_pos (by omega)]; exact congrArg _ (by omega)
        · rw [if_neg ck, if_neg ck]
          obtain ⟨u1, u2⟩ := h8 k hk
          refine ⟨u1, u2.imp id (fun q => ⟨q.1, ?_⟩)⟩
          obtain ⟨X, x1, x2, x3, x4⟩ := q.2
          refine ⟨X, x1, hv _ _ (by omega) x2, (oF _ _ (by omega)).trans x3, pv_row_congr x1 (fun x hx => ?_) x4⟩
          show Z'.2.1 70 (33 * k + x) = Z.2.1 70 (33 * k + x)
          rw [q5, if_neg (by omega)]
      · obtain ⟨t, t1, t2, t3, t4⟩ := h9
        refine ⟨t, t1, (oF _ _ (by omega)).trans t2, by rw [q2]; exact t3, fun j hj => ?_⟩
        rw [oA _ _ (by omega) (by omega), oA _ _ (by omega) (by omega), oA _ _ (by omega) (by omega), zA 64 (by decide) (by decide), zA 65 (by decide) (by decide), zA 66 (by decide) (by decide)]
        exact t4 j hj
      · obtain ⟨p, p1, p2, p3, p4⟩ := h10
        refine ⟨p, p1, (oF _ _ (by omega)).trans p2, by rw [q2]; exact p3, fun j hj => ?_⟩
        rw [oA _ _ (by omega) (by omega), zA 1 (by decide) (by decide)]
        exact p4 j hj
      · rw [oF _ _ (by omega), q2]; exact h11
      · unfold pr_K; rw [q3]; exact h12
    · rintro k t hk ⟨Z1, rfl, q1, q2, q3, q4⟩
      have hlt : (k : Int) < 33 := by omega
      have e : (33 : Int) * c + k = ((33 * c + k : Nat) : Int) := by omega
      have e47 : Z1.2.1 47 = Z.2.1 47 := by rw [q3 47 (by decide), pm_sAn (by decide)]
      unfold gm_hold_L20
      simp (disch := omega) only [pj_lit, pj_add, pj_sub, pj_neg, pj_mul, pj_lt, pj_eq, pj_nat, pj_ald, pj_ast, pj_ix, pw_bind, pw_ite, pw_some, pw_none, pw_let, Option.bind_some, Int.toNat_natCast, Sum.elim_inl, Sum.elim_inr, Int.cast_ofNat_Int, Int.reduceLT, Int.reduceLE, Int.reduceEq, Int.reduceAdd, Int.reduceSub, Int.reduceMul, Int.reduceNeg, Int.reduceToNat, Nat.reduceAdd, Nat.reduceSub, Nat.reduceMul, Nat.reduceEqDiff, Nat.reduceLT, reduceIte, reduceCtorEq, true_and, and_true, forall_const, not_true_eq_false, not_false_eq_true, false_implies, implies_true, hlt, e, e47]
      refine ⟨zm_sA Z1 70 (pj ((33 * c + k : Nat) : Int)) (Z.2.1 47 k), rfl, q1, q2, fun j hj => (pm_sAn hj).trans (q3 j hj), fun j => ?_⟩
      rw [pm_sAs, pj_upd, pj_nat (by omega), Int.toNat_natCast, q4 j]
      by_cases u : j = 33 * c + k
      · rw [if_pos u, if_pos (by omega)]; exact congrArg _ (by omega)
      · rw [if_neg u]
        by_cases u2 : 33 * c ≤ j ∧ j < 33 * c + k
        · rw [if_pos u2, if_pos (by omega)]
        · rw [if_neg u2, if_neg (by omega)]
    · rintro t ⟨Z1, rfl, q1, q2, q3, q4⟩
      unfold gm_hold_L20
      simp (disch := omega) only [pj_lit, pj_add, pj_sub, pj_neg, pj_mul, pj_lt, pj_eq, pj_nat, pj_ald, pj_ast, pj_ix, pw_bind, pw_ite, pw_some, pw_none, pw_let, Option.bind_some, Int.toNat_natCast, Sum.elim_inl, Sum.elim_inr, Int.cast_ofNat_Int, Int.reduceLT, Int.reduceLE, Int.reduceEq, Int.reduceAdd, Int.reduceSub, Int.reduceMul, Int.reduceNeg, Int.reduceToNat, Nat.reduceAdd, Nat.reduceSub, Nat.reduceMul, Nat.reduceEqDiff, Nat.reduceLT, reduceIte, reduceCtorEq, true_and, and_true, forall_const, not_true_eq_false, not_false_eq_true, false_implies, implies_true, Int.lt_irrefl]
      exact ⟨q1, q2, q3, q4⟩
    · rw [if_neg (by omega), pm_sAn (by decide)]
  · unfold gh_hold gm_hold
    simp (disch := omega) only [pj_lit, pj_add, pj_sub, pj_neg, pj_mul, pj_lt, pj_eq, pj_nat, pj_ald, pj_ast, pj_ix, pw_bind, pw_ite, pw_some, pw_none, pw_let, Option.bind_some, Int.toNat_natCast, Sum.elim_inl, Sum.elim_inr, Int.cast_ofNat_Int, Int.reduceLT, Int.reduceLE, Int.reduceEq, Int.reduceAdd, Int.reduceSub, Int.reduceMul, Int.reduceNeg, Int.reduceToNat, Nat.reduceAdd, Nat.reduceSub, Nat.reduceMul, Nat.reduceEqDiff, Nat.reduceLT, reduceIte, reduceCtorEq, true_and, and_true, forall_const, not_true_eq_false, not_false_eq_true, false_implies, implies_true, pc_isIn, pm_isIn, decide_eq_false hh, Bool.false_eq_true]
    exact ⟨s, V, H, at_, h⟩
theorem pq_restore {T : zt_T} {M : cs_S} {Z : zm_S} {s : Nat} {V : pv_V} {H : List pv_V} {at_ : Nat} (h : pr_R0 T M Z s V H at_) (a : Int32) :
    pw (gh_restore T M a) (fun p => pw (gm_restore Z a) (fun q => p.1 = q.1 ∧ pr_R T p.2 q.2)) := by
  obtain ⟨hT, hm, ho, hV, hsd, hrow, ⟨k1, k2, k3, k4, k5, k6⟩, h8, h9, h10, h11, h12, h13⟩ := id h
  by_cases hh : 0 ≤ a.toInt ∧ a.toInt ≤ 2
  · obtain ⟨c, rfl, -, hc⟩ := pj_range (lo := 0) (hi := 2) hh
    obtain ⟨u1, u2⟩ := h8 c (by omega)
    rcases u2 with u2 | ⟨u2, W, w1, w2, w3, w4⟩
    · have u2' : M.2 0 13 c = pj 0 := u2
      have u1' : Z.2.1 69 c = pj 0 := u1.symm.trans u2
      unfold gh_restore gm_restore
      simp (disch := omega) only [pj_lit, pj_add, pj_sub, pj_neg, pj_mul, pj_lt, pj_eq, pj_nat, pj_ald, pj_ast, pj_ix, pw_bind, pw_ite, pw_some, pw_none, pw_let, Option.bind_some, Int.toNat_natCast, Sum.elim_inl, Sum.elim_inr, Int.cast_ofNat_Int, Int.reduceLT, Int.reduceLE, Int.reduceEq, Int.reduceAdd, Int.reduceSub, Int.reduceMul, Int.reduceNeg, Int.reduceToNat, Nat.reduceAdd, Nat.reduceSub, Nat.reduceMul, Nat.reduceEqDiff, Nat.reduceLT, reduceIte, reduceCtorEq, true_and, and_true, forall_const, not_true_eq_false, not_false_eq_true, false_implies, implies_true, pc_isIn, pm_isIn, decide_eq_true hh, u2', u1']
      exact ⟨s, V, H, at_, h⟩
    · obtain ⟨M1, eM1, v1, s1, o1⟩ := pc_becomes T (i := 0) (v := 42 + c) (by omega) w2 w1
      have u2' : M.2 0 13 c = pj 1 := u2
      have u1' : Z.2.1 69 c = pj 1 := u1.symm.trans u2
      have key : gh_restore T M (pj c) = some (true, cs_sF M1 0 5 (pj 0)) := by
        unfold gh_restore
        simp (disch := omega) only [pj_lit, pj_add, pj_sub, pj_neg, pj_mul, pj_lt, pj_eq, pj_nat, pj_ald, pj_ast, pj_ix, pw_bind, pw_ite, pw_some, pw_none, pw_let, Option.bind_some, Int.toNat_natCast, Sum.elim_inl, Sum.elim_inr, Int.cast_ofNat_Int, Int.reduceLT, Int.reduceLE, Int.reduceEq, Int.reduceAdd, Int.reduceSub, Int.reduceMul, Int.reduceNeg, Int.reduceToNat, Nat.reduceAdd, Nat.reduceSub, Nat.reduceMul, Nat.reduceEqDiff, Nat.reduceLT, reduceIte, reduceCtorEq, true_and, and_true, forall_const, not_true_eq_false, not_false_eq_true, false_implies, implies_true, pc_isIn, decide_eq_true hh, u2', eM1]
      have l1 : ∀ (Z' : zm_S) (k : Nat), Z'.1 = Z.1 → Z'.2.2 = Z.2.2 → (∀ k, k ≠ 47 → Z'.2.1 k = Z.2.1 k) → k < 33 → gm_restore_L22 (pj c) (pj k, Z') = some (Sum.inl (pj ((k : Int) + 1), zm_sA Z' 47 (pj ((0 + k : Nat) : Int)) (Z'.2.1 70 (33 * c + k)))) := by
        intro Z' k _ _ _ hk
        have hk' : (k : Int) < 33 := by omega
        have e : (33 : Int) * c + k = ((33 * c + k : Nat) : Int) := by omega
        unfold gm_restore_L22
        simp (disch := omega) only [pj_lit, pj_add, pj_sub, pj_neg, pj_mul, pj_lt, pj_eq, pj_nat, pj_ald, pj_ast, pj_ix, pw_bind, pw_ite, pw_some, pw_none, pw_let, Option.bind_some, Int.toNat_natCast, Sum.elim_inl, Sum.elim_inr, Int.cast_ofNat_Int, Int.reduceLT, Int.reduceLE, Int.reduceEq, Int.reduceAdd, Int.reduceSub, Int.reduceMul, Int.reduceNeg, Int.reduceToNat, Nat.reduceAdd, Nat.reduceSub, Nat.reduceMul, Nat.reduceEqDiff, Nat.reduceLT, reduceIte, reduceCtorEq, true_and, and_true, forall_const, not_true_eq_false, not_false_eq_true, false_implies, implies_true, hk', e]
        rw [Nat.zero_add]
      have l2 : ∀ Z' : zm_S, Z'.1 = Z.1 → Z'.2.2 = Z.2.2 → (∀ k, k ≠ 47 → Z'.2.1 k = Z.2.1 k) → gm_restore_L22 (pj c) (pj (33 : Nat), Z') = some (Sum.inr Z') := by
        intro Z' _ _ _
        unfold gm_restore_L22
        simp (disch := omega) only [pj_lit, pj_add, pj_sub, pj_neg, pj_mul, pj_lt, pj_eq, pj_nat, pj_ald, pj_ast, pj_ix, pw_bind, pw_ite, pw_some, pw_none, pw_let, Option.bind_some, Int.toNat_natCast, Sum.elim_inl, Sum.elim_inr, Int.cast_ofNat_Int, Int.reduceLT, Int.reduceLE, Int.reduceEq, Int.reduceAdd, Int.reduceSub, Int.reduceMul, Int.reduceNeg, Int.reduceToNat, Nat.reduceAdd, Nat.reduceSub, Nat.reduceMul, Nat.reduceEqDiff, Nat.reduceLT, reduceIte, reduceCtorEq, true_and, and_true, forall_const, not_true_eq_false, not_false_eq_true, false_implies, implies_true, Int.lt_irrefl]
      obtain ⟨Z1, e, q1, q2, q3, q4⟩ := pm_cploop (b := gm_restore_L22 (pj c)) (N := 33) (dst := 47) (g := fun Z x => Z.2.1 70 (33 * c + x)) Z 0 (by omega) (by omega) (fun Z' _ _ h x _ _ => by show Z'.2.1 70 _ = _; rw [h 70 (by decide)]) l1 l2
      have key2 : gm_restore Z (pj c) = some (true, zm_sF Z1 53 (pj 0)) := by
        unfold gm_restore
        simp (disch := omega) only [pj_lit, pj_add, pj_sub, pj_neg, pj_mul, pj_lt, pj_eq, pj_nat, pj_ald, pj_ast, pj_ix, pw_bind, pw_ite, pw_some, pw_none, pw_let, Option.bind_some, Int.toNat_natCast, Sum.elim_inl, Sum.elim_inr, Int.cast_ofNat_Int, Int.reduceLT, Int.reduceLE, Int.reduceEq, Int.reduceAdd, Int.reduceSub, Int.reduceMul, Int.reduceNeg, Int.reduceToNat, Nat.reduceAdd, Nat.reduceSub, Nat.reduceMul, Nat.reduceEqDiff, Nat.reduceLT, reduceIte, reduceCtorEq, true_and, and_true, forall_const, not_true_eq_false, not_false_eq_true, false_implies, implies_true, pm_isIn, decide_eq_true hh, u1', e]
      have oF : ∀ o f, o ≠ 10 → ¬ (o = 0 ∧ f = 5) → (cs_sF M1 0 5 (pj 0)).1 o f = M.1 o f := fun o f a b => by rw [pc_sF1n b]; exact o1.1 o f a
      have oA : ∀ o f, o ≠ 10 → (cs_sF M1 0 5 (pj 0)).2 o f = M.2 o f := fun o f a => o1.2 o f a
      have zF : ∀ k, k ≠ 53 → (zm_sF Z1 53 (pj 0)).1 k = Z.1 k := fun k a => by rw [pm_sF1n a, q1]
      have zA : ∀ k, k ≠ 47 → (zm_sF Z1 53 (pj 0)).2.1 k = Z.2.1 k := fun k a => q3 k a
      have hv : ∀ i X, i ≠ 0 → pc_V M i X → pc_V (cs_sF M1 0 5 (pj 0)) i X := by
        rintro i X hi ⟨g1, g2, g3, g4, g5⟩
        refine ⟨fun k hk => ?_, ?_, fun k x e => ?_, ?_, ?_⟩
        · rw [oA _ _ (by omega), oA _ _ (by omega), oA _ _ (by omega), oA _ _ (by omega)]; exact g1 k hk
        · rw [oF _ _ (by omega) (by omega)]; exact g2
        · rw [oA _ _ (by omega)]; exact g3 k x e
        · rw [oF _ _ (by omega) (by omega)]; exact g4
        · rw [oF _ _ (by omega) (by omega)]; exact g5
      have v1' : pc_V (cs_sF M1 0 5 (pj 0)) 0 W := by
        obtain ⟨g1, g2, g3, g4, g5⟩ := v1
        refine ⟨g1, ?_, g3, ?_, ?_⟩
        · rw [pc_sF1n (by omega)]; exact g2
        · rw [pc_sF1n (by omega)]; exact g4
        · rw [pc_sF1n (by omega)]; exact g5
      rw [key, key2, pw_some, pw_some]
      refine ⟨rfl, s, W, [], at_, hT, pm_T_tx ⟨zF 18 (by decide), fun k q => zA k (by omega)⟩ hm, w1, v1', ?_, ?_, ?_, ?_, ?_, ?_, ?_, ?_, (congrFun (oA 0 16 (by omega)) 0).trans h13⟩
      · rw [pc_sF1n (by omega), s1]; exact w3
      · refine pv_row_congr w1 (fun x hx => ?_) w4
        show Z1.2.1 47 x = _
        rw [q4 x, if_pos (by omega)]; rfl
      · refine ⟨by simp, k2, pc_sF1s _ _ _ _, (oF _ _ (by omega) (by omega)).trans k4, pm_sF1s _ _ _, fun j X e => by cases e⟩
      · intro k hk
        obtain ⟨q1, q2⟩ := h8 k hk
        rw [oA _ _ (by omega), zA 69 (by decide)]
        refine ⟨q1, q2.imp id (fun q => ⟨q.1, ?_⟩)⟩
        obtain ⟨X, x1, x2, x3, x4⟩ := q.2
        refine ⟨X, x1, hv _ _ (by omega) x2, (oF _ _ (by omega) (by omega)).trans x3, ?_⟩
        rw [zA 70 (by decide)]; exact x4
      · obtain ⟨t, t1, t2, t3, t4⟩ := h9
        refine ⟨t, t1, (oF _ _ (by omega) (by omega)).trans t2, (zF 63 (by decide)).trans t3, fun j hj => ?_⟩
        rw [oA _ _ (by omega), oA _ _ (by omega), oA _ _ (by omega), zA 64 (by decide), zA 65 (by decide), zA 66 (by decide)]
        exact t4 j hj
      · obtain ⟨p, p1, p2, p3, p4⟩ := h10
        refine ⟨p, p1, (oF _ _ (by omega) (by omega)).trans p2, (zF 2 (by decide)).trans p3, fun j hj => ?_⟩
        rw [oA _ _ (by omega), zA 1 (by decide)]
        exact p4 j hj
      · rw [oF _ _ (by omega) (by omega), zF 17 (by decide)]; exact h11
      · unfold pr_K; rw [show (zm_sF Z1 53 (pj 0)).2.2 = Z1.2.2 from rfl, q2]; exact h12
  · unfold gh_restore gm_restore
    simp (disch := omega) only [pj_lit, pj_add, pj_sub, pj_neg, pj_mul, pj_lt, pj_eq, pj_nat, pj_ald, pj_ast, pj_ix, pw_bind, pw_ite, pw_some, pw_none, pw_let, Option.bind_some, Int.toNat_natCast, Sum.elim_inl, Sum.elim_inr, Int.cast_ofNat_Int, Int.reduceLT, Int.reduceLE, Int.reduceEq, Int.reduceAdd, Int.reduceSub, Int.reduceMul, Int.reduceNeg, Int.reduceToNat, Nat.reduceAdd, Nat.reduceSub, Nat.reduceMul, Nat.reduceEqDiff, Nat.reduceLT, reduceIte, reduceCtorEq, true_and, and_true, forall_const, not_true_eq_false, not_false_eq_true, false_implies, implies_true, pc_isIn, pm_isIn, decide_eq_false hh, Bool.false_eq_true]
    exact ⟨s, V, H, at_, h⟩
/-! orders of houses, told once and for all -/
/-- all rows of unlike houses that are not in a set, each ahead of those it begins -/
def po_ords : Nat → Nat → List (List Nat)
  | 0, _ => []
  | f + 1, S => (List.range 6).flatMap fun h => if S.testBit h then [] else [h] :: (po_ords f (S ||| 1 <<< h)).map (h :: ·)
def po_all : List (List Nat) := po_ords 6 0
def po_set : List Nat → Nat
  | [] => 0
  | h :: o => 1 <<< h ||| po_set o
/-- of a set the rows with that house at the top -/
def po_arr : Nat → Nat → Nat → List (List Nat)
  | 0, _, _ => []
  | f + 1, S, h => if S.testBit h then (if S ^^^ 1 <<< h = 0 then [[h]] else (List.range 6).flatMap fun x => (po_arr f (S ^^^ 1 <<< h) x).map (h :: ·)) else []
def po_sets (S : Nat) : List (List Nat) := (List.range 6).flatMap (po_arr 6 S)
def po_eqb : List (List Nat) → List (List Nat) → Bool
  | [], [] => true
  | a :: l, b :: m => a == b && po_eqb l m
  | _, _ => false
theorem po_eqb_eq : ∀ l m, po_eqb l m = true → l = m
  | [], [], _ => rfl
  | a :: l, b :: m, h => by
    unfold po_eqb at h
    rw [Bool.and_eq_true, beq_iff_eq] at h
    rw [h.1, po_eqb_eq l m h.2]
  | [], _ :: _, h => by cases h
  | _ :: _, [], h => by cases h
theorem po_F1b : ((List.range 64).all fun S => po_eqb (po_all.filter fun o => po_set o == S) (po_sets S)) = true := by decide +kernel
theorem po_F1 {S : Nat} (h : S < 64) : po_all.filter (fun o => po_set o == S) = po_sets S := po_eqb_eq _ _ (List.all_eq_true.1 po_F1b S (List.mem_range.2 h))
theorem po_F0b : (po_all.all fun o => decide (po_set o < 64) && decide (o.length ≤ 6) && decide (1 ≤ o.length) && o.all fun h => decide (h < 6)) = true := by decide +kernel
/-- the house behind another that is in a set and not in a row -/
def po_nf (H : Nat) (o : List Nat) (h : Nat) : Option Nat := (List.range 6).find? fun k => decide (h ≤ k) && H.testBit k && !o.contains k
/-- rows from the bottom: back to where there is a next one -/
def po_up (H : Nat) : List Nat → Option (List Nat)
  | [] => none
  | x :: r => match po_nf H r (x + 1) with
    | some k => some (k :: r)
    | none => po_up H r
def po_next (H : Nat) (r : List Nat) : Option (List Nat) := match po_nf H r 0 with
  | some k => some (k :: r)
  | none => po_up H r
def po_chk (H : Nat) : List Nat → List (List Nat) → Bool
  | r, [] => (po_next H r).isNone
  | r, o :: os => po_next H r == some o.reverse && po_chk H o.reverse os
def po_in (H : Nat) (o : List Nat) : Bool := o.all fun h => H.testBit h
def po_lst (H : Nat) : List (List Nat) := po_all.filter (po_in H)
theorem po_F2b : ((List.range 64).all fun H => po_chk H [] (po_lst H)) = true := by decide +kernel
theorem po_F2 {H : Nat} (h : H < 64) : po_chk H [] (po_lst H) = true := List.all_eq_true.1 po_F2b H (List.mem_range.2 h)
def po_num (o : List Nat) : Nat := o.foldl (fun a h => 6 * a + h) 0
def po_srt : List (List Nat) → Bool
  | a :: b :: l => decide (po_num a < po_num b) && po_srt (b :: l)
  | _ => true
theorem po_F3b : ((List.range 7).all fun m => po_srt (po_all.filter fun o => o.length == m)) = true := by decide +kernel
theorem po_lenb : po_all.length = 1956 := by decide +kernel
/-! counting rows by sets -/
theorem po_F4b : ((List.range 63).all fun S => (List.range 6).all fun x => po_eqb (po_arr 5 S x) (po_arr 6 S x)) = true := by decide +kernel
theorem po_F4 {S x : Nat} (h : S < 63) (hx : x < 6) : po_arr 5 S x = po_arr 6 S x := po_eqb_eq _ _ (List.all_eq_true.1 (List.all_eq_true.1 po_F4b S (List.mem_range.2 h)) x (List.mem_range.2 hx))
/-- how long, how strong, what joins bear, how long it must be -/
abbrev po_P : Type := (Nat → Int) × (Nat → Int) × (Nat → Nat → Int) × Int
def po_sum (P : po_P) (o : List Nat) : Int := (o.map P.1).sum
def po_ok (P : po_P) (w : Int) : List Nat → Bool
  | [] => true
  | h :: o => decide (0 < P.1 h) && decide (w + po_sum P o ≤ P.2.1 h) && (match o with
    | [] => true
    | x :: _ => decide (w + po_sum P o ≤ P.2.2.1 h x)) && po_ok P w o
def po_sumS (P : po_P) (S : Nat) : Int := pv_sm (fun h => if S.testBit h then P.1 h else 0) 6
theorem po_tb {S h x : Nat} : (S ^^^ 1 <<< h).testBit x = (S.testBit x ^^ decide (x = h)) := by
  rw [Nat.testBit_xor, Nat.one_shiftLeft, Nat.testBit_two_pow]
  congr 1
  exact decide_eq_decide.2 eq_comm
theorem po_sumS_rem (P : po_P) {S h : Nat} (hh : h < 6) (hb : S.testBit h = true) : po_sumS P S = P.1 h + po_sumS P (S ^^^ 1 <<< h) := by
  unfold po_sumS
  simp only [pv_sm, po_tb]
  match h, hh with
  | 0, _ => simp [hb]; omega
  | 1, _ => simp [hb]; omega
  | 2, _ => simp [hb]; omega
  | 3, _ => simp [hb]; omega
  | 4, _ => simp [hb]; omega
  | 5, _ => simp [hb]; omega
theorem po_rem_lt {S h : Nat} (hS : S < 64) (hh : h < 6) : S ^^^ 1 <<< h < 64 := Nat.xor_lt_two_pow (n := 6) hS (by rw [Nat.one_shiftLeft]; exact Nat.pow_lt_pow_right (by omega) hh)
theorem po_rem_63 {S h : Nat} (hS : S < 64) (hh : h < 6) (hb : S.testBit h = true) : S ^^^ 1 <<< h < 63 := by
  have h1 := po_rem_lt hS hh
  have h2 : S ^^^ 1 <<< h ≠ 63 := by
    intro e
    have := po_tb (S := S) (h := h) (x := h)
    rw [e, hb] at this
    simp at this
    match h, hh with
    | 0, _ => exact absurd this (by decide)
    | 1, _ => exact absurd this (by decide)
    | 2, _ => exact absurd this (by decide)
    | 3, _ => exact absurd this (by decide)
    | 4, _ => exact absurd this (by decide)
    | 5, _ => exact absurd this (by decide)
  omega
theorem po_sumS_0 (P : po_P) : po_sumS P 0 = 0 := by
  unfold po_sumS
  simp [pv_sm]
theorem po_arr_mem (P : po_P) : ∀ (f S h : Nat) (o : List Nat), S < 64 → h < 6 → o ∈ po_arr f S h → (∃ o', o = h :: o') ∧ po_sum P o = po_sumS P S
  | 0, _, _, o, _, _, h => by cases h
  | f + 1, S, h, o, hS, hh, hm => by
    unfold po_arr at hm
    by_cases hb : S.testBit h = true
    · rw [if_pos hb] at hm
      have hr := po_sumS_rem P hh hb
      by_cases h0 : S ^^^ 1 <<< h = 0
      · rw [if_pos h0, List.mem_singleton] at hm
        subst hm
        refine ⟨⟨[], rfl⟩, ?_⟩
        rw [hr, h0, po_sumS_0]
        simp [po_sum]
      · rw [if_neg h0, List.mem_flatMap] at hm
        obtain ⟨x, hx, hm⟩ := hm
        rw [List.mem_map] at hm
        obtain ⟨o', h1, rfl⟩ := hm
        have := (po_arr_mem P f _ x o' (po_rem_lt hS hh) (List.mem_range.1 hx) h1).2
        refine ⟨⟨o', rfl⟩, ?_⟩
        rw [hr, ← this]
        simp [po_sum]
    · rw [if_neg hb] at hm; cases hm
theorem po_countP_flatMap {α β : Type} (p : β → Bool) (f : α → List β) : ∀ l : List α, (l.flatMap f).countP p = (l.map fun x => (f x).countP p).sum
  | [] => rfl
  | x :: l => by rw [List.flatMap_cons, List.countP_append, po_countP_flatMap p f l, List.map_cons, List.sum_cons]
/-- how many rows of a set with a house at the top hold -/
def po_cnt (P : po_P) (w : Int) (S h : Nat) : Nat := (po_arr 6 S h).countP (po_ok P w)
theorem po_cnt_no (P : po_P) (w : Int) {S h : Nat} (hb : S.testBit h = false) : po_cnt P w S h = 0 := by
  unfold po_cnt po_arr
  rw [if_neg (by rw [hb]; decide)]
  rfl
theorem po_cnt_rec (P : po_P) (w : Int) {S h : Nat} (hS : S < 64) (hh : h < 6) (hb : S.testBit h = true) :
    po_cnt P w S h = if ¬ 0 < P.1 h ∨ P.2.1 h < w + po_sumS P (S ^^^ 1 <<< h) then 0 else if S ^^^ 1 <<< h = 0 then 1 else ((List.range 6).map fun x => if P.2.2.1 h x < w + po_sumS P (S ^^^ 1 <<< h) then 0 else po_cnt P w (S ^^^ 1 <<< h) x).sum := by
  have hR := po_rem_lt hS hh
  have hR63 := po_rem_63 hS hh hb
  have e0 : po_cnt P w S h = (po_arr (5 + 1) S h).countP (po_ok P w) := rfl
  rw [e0]
  unfold po_arr
  rw [if_pos hb]
  generalize S ^^^ 1 <<< h = R at hR hR63
  by_cases h0 : R = 0
  · subst h0
    rw [if_pos rfl, if_pos rfl, po_sumS_0]
    rw [List.countP_singleton]
    by_cases c : ¬ 0 < P.1 h ∨ P.2.1 h < w + 0
    · rw [if_pos c, if_neg]
      unfold po_ok
      simp only [po_sum, List.map_nil, List.sum_nil, Bool.and_eq_true, decide_eq_true_eq]
      omega
    · rw [if_neg c, if_pos]
      have c1 : 0 < P.1 h := by omega
      have c2 : w + 0 ≤ P.2.1 h := by omega
      simp [po_ok, po_sum, c1]
      omega
  · rw [if_neg h0, if_neg h0, po_countP_flatMap]
    have key : ∀ x, x < 6 → ((po_arr 5 R x).map (h :: ·)).countP (po_ok P w) = if ¬ 0 < P.1 h ∨ P.2.1 h < w + po_sumS P R then 0 else if P.2.2.1 h x < w + po_sumS P R then 0 else po_cnt P w R x := by
      intro x hx
      rw [List.countP_map, po_F4 hR63 hx]
      by_cases c : ¬ 0 < P.1 h ∨ P.2.1 h < w + po_sumS P R
      · rw [if_pos c, List.countP_eq_zero]
        intro o ho
        obtain ⟨⟨o', rfl⟩, e2⟩ := po_arr_mem P 6 R x o hR hx ho
        show ¬ po_ok P w (h :: x :: o') = true
        unfold po_ok
        rw [e2]
        simp only [Bool.and_eq_true, decide_eq_true_eq]
        omega
      · rw [if_neg c]
        by_cases c2 : P.2.2.1 h x < w + po_sumS P R
        · rw [if_pos c2, List.countP_eq_zero]
          intro o ho
          obtain ⟨⟨o', rfl⟩, e2⟩ := po_arr_mem P 6 R x o hR hx ho
          show ¬ po_ok P w (h :: x :: o') = true
          unfold po_ok
          rw [e2]
          simp only [Bool.and_eq_true, decide_eq_true_eq]
          omega
        · rw [if_neg c2]
          unfold po_cnt
          refine List.countP_congr fun o ho => ?_
          obtain ⟨⟨o', rfl⟩, e2⟩ := po_arr_mem P 6 R x o hR hx ho
          show po_ok P w (h :: x :: o') = true ↔ _
          have : po_ok P w (h :: x :: o') = (decide (0 < P.1 h) && decide (w + po_sum P (x :: o') ≤ P.2.1 h) && decide (w + po_sum P (x :: o') ≤ P.2.2.1 h x) && po_ok P w (x :: o')) := rfl
          rw [this, e2, decide_eq_true (show 0 < P.1 h by omega), decide_eq_true (show w + po_sumS P R ≤ P.2.1 h by omega), decide_eq_true (show w + po_sumS P R ≤ P.2.2.1 h x by omega)]
          rfl
    by_cases c : ¬ 0 < P.1 h ∨ P.2.1 h < w + po_sumS P R
    · rw [if_pos c]
      have : ((List.range 6).map fun x => ((po_arr 5 R x).map (h :: ·)).countP (po_ok P w)) = (List.range 6).map fun _ => 0 := List.map_congr_left fun x hx => by rw [key x (List.mem_range.1 hx), if_pos c]
      rw [this]; rfl
    · rw [if_neg c]
      congr 1
      exact List.map_congr_left fun x hx => by rw [key x (List.mem_range.1 hx), if_neg c]
theorem po_part_aux (N k c : Nat) (f : Nat → Nat) (hk : k < N) : ((List.range N).map fun S => f S + if k = S then c else 0).sum = ((List.range N).map f).sum + c := by
  induction N with
  | zero => omega
  | succ N ih =>
    rw [List.range_succ, List.map_append, List.map_append, List.sum_append, List.sum_append]
    simp only [List.map_cons, List.map_nil, List.sum_cons, List.sum_nil]
    by_cases e : k = N
    · rw [if_pos e]
      have : ((List.range N).map fun S => f S + if k = S then c else 0) = (List.range N).map f := List.map_congr_left fun S hS => by
        rw [if_neg (by have := List.mem_range.1 hS; omega)]; rfl
      rw [this]; omega
    · rw [if_neg e, ih (by omega)]; omega
theorem po_part {α : Type} (key : α → Nat) (p : α → Bool) (N : Nat) : ∀ l : List α, (∀ x ∈ l, key x < N) → l.countP p = ((List.range N).map fun S => (l.filter fun x => key x == S).countP p).sum
  | [], _ => by
    have : ((List.range N).map fun S => (([] : List α).filter fun x => key x == S).countP p) = (List.range N).map fun _ => 0 := rfl
    rw [this]
    induction N with
    | zero => rfl
    | succ N ih => rw [List.range_succ, List.map_append, List.sum_append, ← ih (by simp) rfl]; rfl
  | x :: l, h => by
    have hx := h x List.mem_cons_self
    rw [List.countP_cons, po_part key p N l (fun y hy => h y (List.mem_cons_of_mem _ hy))]
    rw [← po_part_aux N (key x) (if p x = true then 1 else 0) _ hx]
    congr 1
    refine List.map_congr_left fun S _ => ?_
    rw [List.filter_cons]
    by_cases e : key x = S
    · rw [if_pos e, if_pos (show (key x == S) = true from beq_iff_eq.2 e), List.countP_cons]
    · rw [if_neg e, if_neg (show ¬ (key x == S) = true from fun q => e (beq_iff_eq.1 q))]; rfl
/-! what a row bears; all rows and all sets -/
def po_fw (P : po_P) : Option Nat → List Nat → Int × Int
  | _, [] => (999, 0)
  | p, h :: o => ((match p with
    | some q => if P.2.2.1 q h - ((po_fw P (some h) o).2 + P.1 h) < (if P.2.1 h - (po_fw P (some h) o).2 < (po_fw P (some h) o).1 then P.2.1 h - (po_fw P (some h) o).2 else (po_fw P (some h) o).1) then P.2.2.1 q h - ((po_fw P (some h) o).2 + P.1 h) else (if P.2.1 h - (po_fw P (some h) o).2 < (po_fw P (some h) o).1 then P.2.1 h - (po_fw P (some h) o).2 else (po_fw P (some h) o).1)
    | none => if P.2.1 h - (po_fw P (some h) o).2 < (po_fw P (some h) o).1 then P.2.1 h - (po_fw P (some h) o).2 else (po_fw P (some h) o).1), (po_fw P (some h) o).2 + P.1 h)
def po_sp (P : po_P) (o : List Nat) : Int := if (po_fw P none o).2 < P.2.2.2 then -1 else if (po_fw P none o).1 < 0 then -1 else (po_fw P none o).1
theorem po_fw2 (P : po_P) : ∀ (o : List Nat) (p : Option Nat), (po_fw P p o).2 = po_sum P o
  | [], _ => rfl
  | h :: o, p => by
    show (po_fw P (some h) o).2 + P.1 h = _
    rw [po_fw2 P o]
    simp [po_sum]
    omega
def po_okp (P : po_P) (w : Int) : Option Nat → List Nat → Prop
  | _, [] => True
  | p, h :: o => w + po_sum P o ≤ P.2.1 h ∧ (∀ q, p = some q → w + po_sum P (h :: o) ≤ P.2.2.1 q h) ∧ po_okp P w (some h) o
theorem po_sum_cons (P : po_P) (h : Nat) (o : List Nat) : po_sum P (h :: o) = P.1 h + po_sum P o := by simp [po_sum]
theorem po_le_if (w a b : Int) : w ≤ (if a < b then a else b) ↔ w ≤ a ∧ w ≤ b := by split <;> omega
theorem po_fw1 (P : po_P) {w : Int} (hw : w ≤ 999) : ∀ (o : List Nat) (p : Option Nat), w ≤ (po_fw P p o).1 ↔ po_okp P w p o
  | [], p => ⟨fun _ => trivial, fun _ => hw⟩
  | h :: o, p => by
    have ih := po_fw1 P hw o (some h)
    have e2 := po_fw2 P o (some h)
    have ec := po_sum_cons P h o
    cases p with
    | none =>
      show w ≤ (if P.2.1 h - (po_fw P (some h) o).2 < (po_fw P (some h) o).1 then P.2.1 h - (po_fw P (some h) o).2 else (po_fw P (some h) o).1) ↔ w + po_sum P o ≤ P.2.1 h ∧ (∀ q, none = some q → w + po_sum P (h :: o) ≤ P.2.2.1 q h) ∧ po_okp P w (some h) o
      rw [e2, ← ih]
      constructor
      · intro q
        refine ⟨?_, fun q e => (by cases e), ?_⟩
        · split at q <;> omega
        · split at q <;> omega
      · rintro ⟨q1, -, q2⟩
        split <;> omega
    | some q =>
      show w ≤ (if P.2.2.1 q h - ((po_fw P (some h) o).2 + P.1 h) < (if P.2.1 h - (po_fw P (some h) o).2 < (po_fw P (some h) o).1 then P.2.1 h - (po_fw P (some h) o).2 else (po_fw P (some h) o).1) then P.2.2.1 q h - ((po_fw P (some h) o).2 + P.1 h) else (if P.2.1 h - (po_fw P (some h) o).2 < (po_fw P (some h) o).1 then P.2.1 h - (po_fw P (some h) o).2 else (po_fw P (some h) o).1)) ↔ w + po_sum P o ≤ P.2.1 h ∧ (∀ q', some q = some q' → w + po_sum P (h :: o) ≤ P.2.2.1 q' h) ∧ po_okp P w (some h) o
      rw [e2, ← ih, ec]
      generalize po_sum P o = s
      generalize (po_fw P (some h) o).1 = l
      rw [po_le_if, po_le_if]
      constructor
      · rintro ⟨a, b, c⟩
        refine ⟨by omega, fun q' e => ?_, c⟩
        injection e with e
        subst e
        omega
      · rintro ⟨q1, q2, q3⟩
        have q2 := q2 q rfl
        exact ⟨by omega, by omega, q3⟩
theorem po_okp_ok (P : po_P) (w : Int) : ∀ (o : List Nat), ((∀ h ∈ o, 0 < P.1 h) ∧ po_okp P w none o) ↔ po_ok P w o = true
  | [] => ⟨fun _ => rfl, fun _ => ⟨fun _ h => (by cases h), trivial⟩⟩
  | [h] => by
    simp [po_okp, po_ok]
  | h :: x :: o => by
    have ih := po_okp_ok P w (x :: o)
    have e : po_ok P w (h :: x :: o) = (decide (0 < P.1 h) && decide (w + po_sum P (x :: o) ≤ P.2.1 h) && decide (w + po_sum P (x :: o) ≤ P.2.2.1 h x) && po_ok P w (x :: o)) := rfl
    rw [e]
    simp only [Bool.and_eq_true, decide_eq_true_eq]
    rw [← ih]
    show (_ ∧ (w + po_sum P (x :: o) ≤ P.2.1 h ∧ (∀ q, none = some q → _) ∧ (w + po_sum P o ≤ P.2.1 x ∧ (∀ q, some h = some q → w + po_sum P (x :: o) ≤ P.2.2.1 q x) ∧ po_okp P w (some x) o))) ↔ (_ ∧ (_ ∧ (w + po_sum P o ≤ P.2.1 x ∧ (∀ q, none = some q → _) ∧ po_okp P w (some x) o)))
    constructor
    · rintro ⟨a, b, -, c, d, e⟩
      exact ⟨⟨⟨a h List.mem_cons_self, b⟩, d h rfl⟩, fun y hy => a y (List.mem_cons_of_mem _ hy), c, fun q z => (by cases z), e⟩
    · rintro ⟨⟨⟨a, b⟩, d⟩, a2, c, -, e⟩
      refine ⟨fun y hy => ?_, b, fun q z => (by cases z), c, fun q z => ?_, e⟩
      · rcases List.mem_cons.1 hy with rfl | hy
        · exact a
        · exact a2 y hy
      · injection z with z; subst z; exact d
theorem po_iff (P : po_P) {w : Int} (h0 : 0 ≤ w) (hw : w ≤ 999) (o : List Nat) : ((∀ h ∈ o, 0 < P.1 h) ∧ w ≤ po_sp P o) ↔ (po_ok P w o = true ∧ P.2.2.2 ≤ po_sum P o) := by
  rw [← po_okp_ok, ← po_fw1 P hw]
  unfold po_sp
  rw [po_fw2]
  constructor
  · rintro ⟨a, b⟩
    refine ⟨⟨a, ?_⟩, ?_⟩
    · split at b
      · omega
      · split at b <;> omega
    · split at b <;> omega
  · rintro ⟨⟨a, b⟩, c⟩
    refine ⟨a, ?_⟩
    rw [if_neg (by omega), if_neg (by omega)]
    exact b
/-- the houses that could be in a row -/
def po_H (P : po_P) : Nat := pb_set (fun h => decide (0 < P.1 h)) 6
theorem po_H_lt (P : po_P) : po_H P < 64 := pb_lt64 _ (by omega)
theorem po_F0 {o : List Nat} (h : o ∈ po_all) : po_set o < 64 ∧ o.length ≤ 6 ∧ 1 ≤ o.length ∧ ∀ x ∈ o, x < 6 := by
  have := List.all_eq_true.1 po_F0b o h
  simp only [Bool.and_eq_true, decide_eq_true_eq, List.all_eq_true] at this
  exact ⟨this.1.1.1, this.1.1.2, this.1.2, this.2⟩
theorem po_in_iff (P : po_P) {o : List Nat} (h : o ∈ po_all) : po_in (po_H P) o = true ↔ ∀ x ∈ o, 0 < P.1 x := by
  have h6 := (po_F0 h).2.2.2
  unfold po_in
  rw [List.all_eq_true]
  constructor
  · intro q x hx
    have := q x hx
    unfold po_H at this
    rw [pb_bit, Bool.and_eq_true, decide_eq_true_eq] at this
    exact of_decide_eq_true this.2
  · intro q x hx
    unfold po_H
    rw [pb_bit, Bool.and_eq_true, decide_eq_true_eq]
    exact ⟨h6 x hx, decide_eq_true (q x hx)⟩
/-- how many rows bear so much -/
def po_N (P : po_P) (w : Int) : Nat := (po_lst (po_H P)).countP fun o => decide (w ≤ po_sp P o)
/-- of a set -/
def po_rch (P : po_P) (w : Int) (S : Nat) : Nat := if P.2.2.2 ≤ po_sumS P S then ((List.range 6).map fun h => po_cnt P w S h).sum else 0
theorem po_sets_mem (P : po_P) {S : Nat} (hS : S < 64) {o : List Nat} (h : o ∈ po_sets S) : po_sum P o = po_sumS P S := by
  unfold po_sets at h
  rw [List.mem_flatMap] at h
  obtain ⟨x, hx, h⟩ := h
  exact (po_arr_mem P 6 S x o hS (List.mem_range.1 hx) h).2
theorem po_rch_eq (P : po_P) (w : Int) {S : Nat} (hS : S < 64) : po_rch P w S = (po_all.filter fun o => po_set o == S).countP fun o => po_ok P w o && decide (P.2.2.2 ≤ po_sum P o) := by
  rw [po_F1 hS]
  unfold po_rch
  by_cases c : P.2.2.2 ≤ po_sumS P S
  · rw [if_pos c]
    have : (po_sets S).countP (fun o => po_ok P w o && decide (P.2.2.2 ≤ po_sum P o)) = (po_sets S).countP (po_ok P w) := List.countP_congr fun o ho => by
      rw [po_sets_mem P hS ho, decide_eq_true c, Bool.and_true]
    rw [this]
    unfold po_sets
    rw [po_countP_flatMap]
    rfl
  · rw [if_neg c]
    symm
    rw [List.countP_eq_zero]
    intro o ho
    rw [po_sets_mem P hS ho, decide_eq_false c, Bool.and_false]
    decide
theorem po_N_all (P : po_P) {w : Int} (h0 : 0 ≤ w) (hw : w ≤ 999) : po_N P w = po_all.countP fun o => po_ok P w o && decide (P.2.2.2 ≤ po_sum P o) := by
  unfold po_N po_lst
  rw [List.countP_filter]
  refine List.countP_congr fun o ho => ?_
  have h1 := po_iff P h0 hw o
  have h2 := po_in_iff P ho
  simp only [Bool.and_eq_true, decide_eq_true_eq]
  rw [h2]
  exact ⟨fun q => h1.1 ⟨q.2, q.1⟩, fun q => ⟨(h1.2 q).2, (h1.2 q).1⟩⟩
theorem po_N_eq (P : po_P) {w : Int} (h0 : 0 ≤ w) (hw : w ≤ 999) : po_N P w = ((List.range 64).map fun S => po_rch P w S).sum := by
  rw [po_N_all P h0 hw, po_part po_set _ 64 po_all (fun o ho => (po_F0 ho).1)]
  congr 1
  exact List.map_congr_left fun S hS => (po_rch_eq P w (List.mem_range.1 hS)).symm
theorem po_rch_pos (P : po_P) (w : Int) {S : Nat} (hS : S < 64) : 0 < po_rch P w S ↔ ∃ o ∈ po_all, po_set o = S ∧ po_ok P w o = true ∧ P.2.2.2 ≤ po_sum P o := by
  rw [po_rch_eq P w hS, List.countP_pos_iff]
  constructor
  · rintro ⟨o, h1, h2⟩
    rw [List.mem_filter, beq_iff_eq] at h1
    rw [Bool.and_eq_true, decide_eq_true_eq] at h2
    exact ⟨o, h1.1, h1.2, h2.1, h2.2⟩
  · rintro ⟨o, h1, h2, h3, h4⟩
    refine ⟨o, ?_, ?_⟩
    · rw [List.mem_filter, beq_iff_eq]; exact ⟨h1, h2⟩
    · rw [Bool.and_eq_true, decide_eq_true_eq]; exact ⟨h3, h4⟩
theorem po_cnt_le (P : po_P) (w : Int) {S : Nat} (hS : S < 64) : ((List.range 6).map fun h => po_cnt P w S h).sum ≤ 1956 := by
  have e : ((List.range 6).map fun h => po_cnt P w S h).sum = (po_sets S).countP (po_ok P w) := by
    unfold po_sets
    rw [po_countP_flatMap]
    rfl
  rw [e, ← po_F1 hS]
  refine Nat.le_trans List.countP_le_length (Nat.le_trans (List.length_filter_le _ _) ?_)
  rw [po_lenb]
  exact Nat.le_refl _
theorem po_rch_le (P : po_P) (w : Int) {S : Nat} (hS : S < 64) : po_rch P w S ≤ 1956 := by
  unfold po_rch
  split
  · exact po_cnt_le P w hS
  · omega
/-! the component's ways -/
def po_low (S : Nat) : Nat := ((List.range 6).find? fun h => S.testBit h).getD 0
theorem po_ntz : ∀ S, S < 64 → S ≠ 0 → g_J16_numberOfTrailingZeros (pj (S : Nat)) = some (pj (po_low S : Nat)) ∧ pj (S : Nat) &&& pj ((S : Int) - 1) = pj ((S ^^^ 1 <<< po_low S : Nat) : Int) ∧ S.testBit (po_low S) = true ∧ po_low S < 6 := by decide +kernel
theorem po_clr : ∀ S, S < 64 → ∀ h, h < 6 → S.testBit h = true → pj (S : Nat) &&& (zs_shl (pj 1) (pj (h : Nat)) ^^^ pj (-1)) = pj ((S ^^^ 1 <<< h : Nat) : Int) := by decide +kernel
theorem po_rem_lts : ∀ S, S < 64 → ∀ h, h < 6 → S.testBit h = true → S ^^^ 1 <<< h < S := by decide +kernel
theorem po_tb_lt {S n h : Nat} (hS : S < 2 ^ n) (hb : S.testBit h = true) : h < n := by
  have h1 := Nat.ge_two_pow_of_testBit hb
  by_cases q : h < n
  · exact q
  · have : 2 ^ n ≤ 2 ^ h := Nat.pow_le_pow_right (by omega) (by omega)
    omega
theorem po_pow {n : Nat} (h : n ≤ 6) : 2 ^ n ≤ 64 ∧ 1 ≤ 2 ^ n := ⟨show 2 ^ n ≤ 2 ^ 6 from Nat.pow_le_pow_right (by omega) h, Nat.one_le_two_pow⟩
theorem po_all2 {T : zt_T} (M : cs_S) (hT : pt_ok T) : gh_allHouses T M = some (pj ((2 ^ zt_n T : Nat) : Int)) := by
  have hn := hT.1
  unfold gh_allHouses gh_houses
  simp (disch := omega) only [pj_lit, pj_add, pj_sub, pj_neg, pj_mul, pj_lt, pj_eq, pj_nat, pj_ald, pj_ast, pj_ix, pw_bind, pw_ite, pw_some, pw_none, pw_let, Option.bind_some, Int.toNat_natCast, Sum.elim_inl, Sum.elim_inr, Int.cast_ofNat_Int, Int.reduceLT, Int.reduceLE, Int.reduceEq, Int.reduceAdd, Int.reduceSub, Int.reduceMul, Int.reduceNeg, Int.reduceToNat, Nat.reduceAdd, Nat.reduceSub, Nat.reduceMul, Nat.reduceEqDiff, Nat.reduceLT, reduceIte, reduceCtorEq, true_and, and_true, forall_const, not_true_eq_false, not_false_eq_true, false_implies, implies_true, pj_nI, pj_shl1 _ (show zt_n T < 7 by omega)]
  rw [Nat.one_shiftLeft]
def pv_lg (V : pv_V) (h : Nat) : Int := if 0 < pv_p V h then pv_p V h else pv_h V h
theorem pv_lg_bd {n : Nat} {V : pv_V} (ho : pv_ok n V) {h : Nat} (hh : h < 6) : 0 ≤ pv_lg V h ∧ pv_lg V h ≤ 99 := by
  have := ho.2.1 h hh
  unfold pv_lg
  split <;> omega
theorem pv_lg_no {n : Nat} {V : pv_V} (ho : pv_ok n V) {h : Nat} (hn : n ≤ h) (hh : h < 6) : pv_lg V h = 0 := by
  have h1 := ho.2.1 h hh
  have h2 : ¬ 0 < pv_p V h := fun q => by have := ho.2.2.2.1 h (h1.2.2.2.2.2.2.1 q); omega
  unfold pv_lg
  rw [if_neg h2]
  exact (ho.2.2.2.2 h hn hh).1
/-- what the ways are of -/
def po_PT (T : zt_T) (V : pv_V) (jn : Nat → Nat → Int) : po_P := (pv_lg V, pv_st T V, jn, pt_f T 4)
theorem po_sumS_bd {P : po_P} (h : ∀ x, x < 6 → 0 ≤ P.1 x ∧ P.1 x ≤ 99) (S : Nat) : 0 ≤ po_sumS P S ∧ po_sumS P S ≤ 594 := by
  have key : ∀ k, k ≤ 6 → 0 ≤ pv_sm (fun h => if S.testBit h then P.1 h else 0) k ∧ pv_sm (fun h => if S.testBit h then P.1 h else 0) k ≤ 99 * k := by
    intro k
    induction k with
    | zero => intro _; exact ⟨Int.le_refl _, Int.le_refl _⟩
    | succ k ih =>
      intro hk
      have h1 := ih (by omega)
      have h2 := h k (by omega)
      show 0 ≤ _ + (if S.testBit k then P.1 k else 0) ∧ _ + (if S.testBit k then P.1 k else 0) ≤ 99 * ((k + 1 : Nat) : Int)
      split <;> omega
  exact key 6 (by omega)
def po_sm (f : Nat → Nat) (k : Nat) : Nat := ((List.range k).map f).sum
theorem po_sm_succ (f : Nat → Nat) (k : Nat) : po_sm f (k + 1) = po_sm f k + f k := by
  unfold po_sm
  rw [List.range_succ, List.map_append, List.sum_append]
  simp
theorem po_sm_zero {f : Nat → Nat} {n : Nat} (h : ∀ x, n ≤ x → x < 6 → f x = 0) : ∀ k, n + k ≤ 6 → po_sm f (n + k) = po_sm f n
  | 0, _ => rfl
  | k + 1, hk => by
    show po_sm f ((n + k) + 1) = _
    rw [po_sm_succ, h _ (by omega) (by omega), po_sm_zero h k (by omega), Nat.add_zero]
theorem po_sm_6 {f : Nat → Nat} {n : Nat} (hn : n ≤ 6) (h : ∀ x, n ≤ x → x < 6 → f x = 0) : po_sm f 6 = po_sm f n := by
  have := po_sm_zero h (6 - n) (by omega)
  rw [show n + (6 - n) = 6 by omega] at this
  exact this
/-- all but the ways and sums -/
def pc_d (M M' : cs_S) : Prop := M'.1 = M.1 ∧ (∀ o f, o ≠ 60 → ¬ (o = 0 ∧ f = 16) → M'.2 o f = M.2 o f) ∧ M'.2 0 16 0 = M.2 0 16 0
theorem pc_d_rfl (M : cs_S) : pc_d M M := ⟨rfl, fun _ _ _ _ => rfl, rfl⟩
theorem pc_d_trans {A B C : cs_S} (h : pc_d A B) (g : pc_d B C) : pc_d A C := ⟨g.1.trans h.1, fun o f a b => (g.2.1 o f a b).trans (h.2.1 o f a b), g.2.2.trans h.2.2⟩
theorem pc_d_k {M M' : cs_S} (h : pc_d M M') : pc_k M M' := ⟨fun o f _ _ _ => by rw [h.1], fun o f _ _ a _ _ b => h.2.1 o f a (by omega), h.2.2⟩
theorem pc_V_d {M M' : cs_S} {i : Nat} {V : pv_V} (hi : i < 45) (h : pc_d M M') (g : pc_V M i V) : pc_V M' i V := by
  obtain ⟨g1, g2, g3, g4, g5⟩ := g
  have a : ∀ f, M'.2 (10 + i) f = M.2 (10 + i) f := fun f => h.2.1 _ _ (by omega) (by omega)
  refine ⟨fun k hk => ?_, ?_, fun k x e => ?_, ?_, ?_⟩
  · rw [a, a, a, a]; exact g1 k hk
  · rw [h.1]; exact g2
  · rw [a]; exact g3 k x e
  · rw [h.1]; exact g4
  · rw [h.1]; exact g5
/-- sums and ways of the sets below one -/
def po_W (T : zt_T) (P : po_P) (w : Int) (M : cs_S) (k : Nat) : Prop := ∀ S, S < k → M.2 0 16 S = pj (po_sumS P S) ∧ (0 < S → ∀ h, h < zt_n T → M.2 60 S h = pj (po_cnt P w S h : Nat))
def po_Jn (T : zt_T) (M : cs_S) (jn : Nat → Nat → Int) : Prop := ∀ a b, a < zt_n T → b < zt_n T → a ≠ b → M.2 61 a b = pj (jn a b) ∧ 0 ≤ jn a b ∧ jn a b ≤ 999
theorem pc_waysOf {T : zt_T} {M : cs_S} {i : Nat} {V : pv_V} {jn : Nat → Nat → Int} (hT : pt_ok T) (hV : pc_V M i V) (ho : pv_ok (zt_n T) V) (hi : i < 45) (hJ : ∀ a b, a < zt_n T → b < zt_n T → a ≠ b → M.2 61 a b = pj (jn a b) ∧ 0 ≤ jn a b ∧ jn a b ≤ 999) {w : Int} (hw : 0 ≤ w ∧ w ≤ 999)
    {S h : Nat} (hS : S < 2 ^ zt_n T) (hh : h < zt_n T) (hb : S.testBit h = true) (hW : po_W T (po_PT T V jn) w M S) : gh_waysOf T M i (pj w) (pj S) (pj h) = some (pj (po_cnt (po_PT T V jn) w S h : Nat)) := by
  have hn := hT.1
  have hp := po_pow hn
  have hS64 : S < 64 := by omega
  have hR := po_rem_lt hS64 (show h < 6 by omega)
  have hRS := po_rem_lts S hS64 h (by omega) hb
  have hrec := po_cnt_rec (po_PT T V jn) w hS64 (show h < 6 by omega) hb
  have hclr := po_clr S hS64 h (by omega) hb
  have hRh : (S ^^^ 1 <<< h).testBit h = false := by rw [po_tb, hb]; simp
  rw [hrec]
  have hlg := pv_lg_bd ho (show h < 6 by omega)
  have hst := pv_st_bd hT ho hh
  have hbd : ∀ x, x < 6 → 0 ≤ (po_PT T V jn).1 x ∧ (po_PT T V jn).1 x ≤ 99 := fun x hx => pv_lg_bd ho hx
  have hsb := po_sumS_bd hbd (S ^^^ 1 <<< h)
  have hWR := hW _ hRS
  have hlong : gv_longOf T M i (pj h) = some (pj (pv_lg V h)) := pc_long hV ho h (by omega)
  show _ = some (pj ((if ¬ 0 < pv_lg V h ∨ pv_st T V h < w + po_sumS (po_PT T V jn) (S ^^^ 1 <<< h) then 0 else if S ^^^ 1 <<< h = 0 then 1 else ((List.range 6).map fun x => if jn h x < w + po_sumS (po_PT T V jn) (S ^^^ 1 <<< h) then 0 else po_cnt (po_PT T V jn) w (S ^^^ 1 <<< h) x).sum : Nat) : Int))
  have hRn : ∀ x, zt_n T ≤ x → (S ^^^ 1 <<< h).testBit x = false := by
    intro x hx
    rw [po_tb]
    have h1 : S.testBit x = false := by
      cases q : S.testBit x with
      | false => rfl
      | true => have := po_tb_lt hS q; omega
    rw [h1, decide_eq_false (by omega)]; rfl
  generalize S ^^^ 1 <<< h = R at hR hRS hclr hRh hsb hWR hRn
  have hR16 := hWR.1
  unfold gh_waysOf
  simp (disch := omega) only [pj_lit, pj_add, pj_sub, pj_neg, pj_mul, pj_lt, pj_eq, pj_nat, pj_ald, pj_ast, pj_ix, pw_bind, pw_ite, pw_some, pw_none, pw_let, Option.bind_some, Int.toNat_natCast, Sum.elim_inl, Sum.elim_inr, Int.cast_ofNat_Int, Int.reduceLT, Int.reduceLE, Int.reduceEq, Int.reduceAdd, Int.reduceSub, Int.reduceMul, Int.reduceNeg, Int.reduceToNat, Nat.reduceAdd, Nat.reduceSub, Nat.reduceMul, Nat.reduceEqDiff, Nat.reduceLT, reduceIte, reduceCtorEq, true_and, and_true, forall_const, not_true_eq_false, not_false_eq_true, false_implies, implies_true, hclr, hlong, hR16, pc_str hT hV ho h hh]
  by_cases c1 : pv_lg V h = 0
  · have c1' : ¬ 0 < pv_lg V h ∨ pv_st T V h < w + po_sumS (po_PT T V jn) R := Or.inl (by omega)
    rw [if_pos c1, if_pos c1']; rfl
  · rw [if_neg c1]
    by_cases c2 : pv_st T V h < w + po_sumS (po_PT T V jn) R
    · rw [if_pos c2, if_pos (Or.inr c2)]; rfl
    · rw [if_neg c2, if_neg (show ¬ (¬ 0 < pv_lg V h ∨ pv_st T V h < w + po_sumS (po_PT T V jn) R) by omega)]
      by_cases c3 : R = 0
      · have c3' : ((R : Nat) : Int) = 0 := by omega
        rw [if_pos c3', if_pos c3]; rfl
      · have c3' : ¬ ((R : Nat) : Int) = 0 := by omega
        rw [if_neg c3', if_neg c3]
        have hsum : ((List.range 6).map fun x => if jn h x < w + po_sumS (po_PT T V jn) R then 0 else po_cnt (po_PT T V jn) w R x).sum = po_sm (fun x => if jn h x < w + po_sumS (po_PT T V jn) R then 0 else po_cnt (po_PT T V jn) w R x) (zt_n T) := by
          rw [← po_sm_6 hn]
          · rfl
          · intro x hx _
            rw [po_cnt_no _ _ (hRn x hx)]
            split <;> rfl
        rw [hsum]
        have : zs_loop 5000 (gh_waysOf_L56 T M (pj (R : Nat)) (pj (h : Nat)) (pj w)) (pj 0, pj 0) = some (pj (po_sm (fun x => if jn h x < w + po_sumS (po_PT T V jn) R then 0 else po_cnt (po_PT T V jn) w R x) (zt_n T) : Nat)) := by
          refine pw_forE (zt_n T) (fun k => (pj (po_sm (fun x => if jn h x < w + po_sumS (po_PT T V jn) R then 0 else po_cnt (po_PT T V jn) w R x) k : Nat), pj (k : Nat))) 5000 (by omega) ?_ ?_
          · intro k hk
            have hlt : (k : Int) < (zt_n T : Nat) := by omega
            have hway := hWR.2 (by omega) k hk
            show gh_waysOf_L56 T M (pj (R : Nat)) (pj (h : Nat)) (pj w) (pj (po_sm (fun x => if jn h x < w + po_sumS (po_PT T V jn) R then 0 else po_cnt (po_PT T V jn) w R x) k : Nat), pj (k : Nat)) = some (Sum.inl (pj (po_sm (fun x => if jn h x < w + po_sumS (po_PT T V jn) R then 0 else po_cnt (po_PT T V jn) w R x) (k + 1) : Nat), pj ((k + 1 : Nat) : Int)))
            rw [po_sm_succ]
            generalize po_sm (fun x => if jn h x < w + po_sumS (po_PT T V jn) R then 0 else po_cnt (po_PT T V jn) w R x) k = acc
            by_cases e : k = h
            · subst e
              have hz := po_cnt_no (po_PT T V jn) w hRh
              rw [hz] at hway
              have hway' : M.2 60 R k = pj 0 := hway
              unfold gh_waysOf_L56 gh_houses
              simp (disch := omega) only [pj_lit, pj_add, pj_sub, pj_neg, pj_mul, pj_lt, pj_eq, pj_nat, pj_ald, pj_ast, pj_ix, pw_bind, pw_ite, pw_some, pw_none, pw_let, Option.bind_some, Int.toNat_natCast, Sum.elim_inl, Sum.elim_inr, Int.cast_ofNat_Int, Int.reduceLT, Int.reduceLE, Int.reduceEq, Int.reduceAdd, Int.reduceSub, Int.reduceMul, Int.reduceNeg, Int.reduceToNat, Nat.reduceAdd, Nat.reduceSub, Nat.reduceMul, Nat.reduceEqDiff, Nat.reduceLT, reduceIte, reduceCtorEq, true_and, and_true, forall_const, not_true_eq_false, not_false_eq_true, false_implies, implies_true, pj_nI, hlt, hR16, hway', Int.add_zero, hz, ite_self, Nat.add_zero]
              rfl
            · obtain ⟨j1, j2, j3⟩ := hJ h k hh hk (fun q => e q.symm)
              unfold gh_waysOf_L56 gh_houses
              simp (disch := omega) only [pj_lit, pj_add, pj_sub, pj_neg, pj_mul, pj_lt, pj_eq, pj_nat, pj_ald, pj_ast, pj_ix, pw_bind, pw_ite, pw_some, pw_none, pw_let, Option.bind_some, Int.toNat_natCast, Sum.elim_inl, Sum.elim_inr, Int.cast_ofNat_Int, Int.reduceLT, Int.reduceLE, Int.reduceEq, Int.reduceAdd, Int.reduceSub, Int.reduceMul, Int.reduceNeg, Int.reduceToNat, Nat.reduceAdd, Nat.reduceSub, Nat.reduceMul, Nat.reduceEqDiff, Nat.reduceLT, reduceIte, reduceCtorEq, true_and, and_true, forall_const, not_true_eq_false, not_false_eq_true, false_implies, implies_true, pj_nI, hlt, hR16, j1, hway]
              by_cases c : jn h k < w + po_sumS (po_PT T V jn) R
              · rw [if_pos c, if_pos c]; simp (disch := omega) only [pj_lit, pj_add, pj_sub, pj_neg, pj_mul, pj_lt, pj_eq, pj_nat, pj_ald, pj_ast, pj_ix, pw_bind, pw_ite, pw_some, pw_none, pw_let, Option.bind_some, Int.toNat_natCast, Sum.elim_inl, Sum.elim_inr, Int.cast_ofNat_Int, Int.reduceLT, Int.reduceLE, Int.reduceEq, Int.reduceAdd, Int.reduceSub, Int.reduceMul, Int.reduceNeg, Int.reduceToNat, Nat.reduceAdd, Nat.reduceSub, Nat.reduceMul, Nat.reduceEqDiff, Nat.reduceLT, reduceIte, reduceCtorEq, true_and, and_true, forall_const, not_true_eq_false, not_false_eq_true, false_implies, implies_true, Nat.add_zero]; rfl
              · rw [if_neg c, if_neg c]; simp (disch := omega) only [pj_lit, pj_add, pj_sub, pj_neg, pj_mul, pj_lt, pj_eq, pj_nat, pj_ald, pj_ast, pj_ix, pw_bind, pw_ite, pw_some, pw_none, pw_let, Option.bind_some, Int.toNat_natCast, Sum.elim_inl, Sum.elim_inr, Int.cast_ofNat_Int, Int.reduceLT, Int.reduceLE, Int.reduceEq, Int.reduceAdd, Int.reduceSub, Int.reduceMul, Int.reduceNeg, Int.reduceToNat, Nat.reduceAdd, Nat.reduceSub, Nat.reduceMul, Nat.reduceEqDiff, Nat.reduceLT, reduceIte, reduceCtorEq, true_and, and_true, forall_const, not_true_eq_false, not_false_eq_true, false_implies, implies_true]; rfl
          · unfold gh_waysOf_L56 gh_houses
            simp (disch := omega) only [pj_lit, pj_add, pj_sub, pj_neg, pj_mul, pj_lt, pj_eq, pj_nat, pj_ald, pj_ast, pj_ix, pw_bind, pw_ite, pw_some, pw_none, pw_let, Option.bind_some, Int.toNat_natCast, Sum.elim_inl, Sum.elim_inr, Int.cast_ofNat_Int, Int.reduceLT, Int.reduceLE, Int.reduceEq, Int.reduceAdd, Int.reduceSub, Int.reduceMul, Int.reduceNeg, Int.reduceToNat, Nat.reduceAdd, Nat.reduceSub, Nat.reduceMul, Nat.reduceEqDiff, Nat.reduceLT, reduceIte, reduceCtorEq, true_and, and_true, forall_const, not_true_eq_false, not_false_eq_true, false_implies, implies_true, pj_nI, Int.lt_irrefl]
        rw [this]; rfl
theorem pc_laysWays {T : zt_T} {M : cs_S} {i : Nat} {V : pv_V} {jn : Nat → Nat → Int} (hT : pt_ok T) (hV : pc_V M i V) (ho : pv_ok (zt_n T) V) (hi : i < 45) (hJ : po_Jn T M jn) (h0 : M.2 0 16 0 = pj 0) {w : Int} (hw : 0 ≤ w ∧ w ≤ 999) :
    pw (gh_laysWays T M i (pj w)) (fun M' => po_W T (po_PT T V jn) w M' (2 ^ zt_n T) ∧ pc_d M M') := by
  have hn := hT.1
  have hp := po_pow hn
  have hbd : ∀ x, x < 6 → 0 ≤ (po_PT T V jn).1 x ∧ (po_PT T V jn).1 x ≤ 99 := fun x hx => pv_lg_bd ho hx
  unfold gh_laysWays
  refine pw_seq (Q := fun M' => po_W T (po_PT T V jn) w M' (2 ^ zt_n T) ∧ pc_d M M') ?_ (fun M' h => (pw_some _ _).2 h)
  refine pw_for (2 ^ zt_n T - 1) (fun k t => ∃ M', t = (pj ((k + 1 : Nat) : Int), M') ∧ po_W T (po_PT T V jn) w M' (k + 1) ∧ pc_d M M') 5000 (by omega) ?_ ?_ _ ⟨M, rfl, fun S hS => ?_, pc_d_rfl M⟩
  · rintro k t hk ⟨M1, rfl, hW, hd⟩
    generalize hSe : k + 1 = S at hW
    have hS : S < 2 ^ zt_n T := by omega
    have hS64 : S < 64 := by omega
    obtain ⟨z1, z2, z3, z4⟩ := po_ntz S hS64 (by omega)
    have hRS := po_rem_lts S hS64 _ z4 z3
    have hlow := po_tb_lt hS z3
    have hsum := po_sumS_rem (po_PT T V jn) z4 z3
    generalize po_low S = l at z1 z2 z3 z4 hRS hlow hsum
    have hV1 := pc_V_d hi hd hV
    have hlt : (S : Int) < ((2 ^ zt_n T : Nat) : Int) := by omega
    have hR16 := (hW _ hRS).1
    have hlong : gv_longOf T M1 i (pj l) = some (pj (pv_lg V l)) := pc_long hV1 ho l z4
    have hR64 := po_rem_lt hS64 z4
    have hss : po_sumS (po_PT T V jn) (S ^^^ 1 <<< l) + pv_lg V l = po_sumS (po_PT T V jn) S := by rw [hsum]; show _ = pv_lg V l + _; omega
    unfold gh_laysWays_L2
    simp (disch := omega) only [pj_lit, pj_add, pj_sub, pj_neg, pj_mul, pj_lt, pj_eq, pj_nat, pj_ald, pj_ast, pj_ix, pw_bind, pw_ite, pw_some, pw_none, pw_let, Option.bind_some, Int.toNat_natCast, Sum.elim_inl, Sum.elim_inr, Int.cast_ofNat_Int, Int.reduceLT, Int.reduceLE, Int.reduceEq, Int.reduceAdd, Int.reduceSub, Int.reduceMul, Int.reduceNeg, Int.reduceToNat, Nat.reduceAdd, Nat.reduceSub, Nat.reduceMul, Nat.reduceEqDiff, Nat.reduceLT, reduceIte, reduceCtorEq, true_and, and_true, forall_const, not_true_eq_false, not_false_eq_true, false_implies, implies_true, po_all2 _ hT, hlt, z1, z2, hR16, hlong, hss]
    have hd2 : pc_d M (cs_sA M1 0 16 (pj (S : Nat)) (pj (po_sumS (po_PT T V jn) S))) := by
      refine pc_d_trans hd ⟨rfl, fun o f a b => pc_sA2n (by omega), ?_⟩
      rw [pc_sA2s, pj_nat (by omega), Int.toNat_natCast, pj_upd, if_neg (by omega)]
    have hs16 : ∀ S', S' < S + 1 → (cs_sA M1 0 16 (pj (S : Nat)) (pj (po_sumS (po_PT T V jn) S))).2 0 16 S' = pj (po_sumS (po_PT T V jn) S') := fun S' h' => by
      rw [pc_sA2s, pj_nat (by omega), Int.toNat_natCast, pj_upd]
      by_cases e : S' = S
      · rw [if_pos e, e]
      · rw [if_neg e]; exact (hW S' (by omega)).1
    have hs60 : ∀ S', S' < S → 0 < S' → ∀ h, h < zt_n T → (cs_sA M1 0 16 (pj (S : Nat)) (pj (po_sumS (po_PT T V jn) S))).2 60 S' h = pj (po_cnt (po_PT T V jn) w S' h : Nat) := fun S' h' h2 h hh => by
      rw [pc_sA2n (by omega)]; exact (hW S' h').2 h2 h hh
    generalize cs_sA M1 0 16 (pj (S : Nat)) (pj (po_sumS (po_PT T V jn) S)) = M2 at hd2 hs16 hs60
    refine pw_mono (Q := fun M' => po_W T (po_PT T V jn) w M' (S + 1) ∧ pc_d M M') ?_ (fun M' h => ⟨M', by congr 2, h.1, h.2⟩)
    refine pw_for (zt_n T) (fun k t => ∃ M', t = (pj (k : Nat), M') ∧ pc_d M M' ∧ (∀ S', S' < S + 1 → M'.2 0 16 S' = pj (po_sumS (po_PT T V jn) S')) ∧ (∀ S', S' < S → 0 < S' → ∀ h, h < zt_n T → M'.2 60 S' h = pj (po_cnt (po_PT T V jn) w S' h : Nat)) ∧ ∀ h, h < k → M'.2 60 S h = pj (po_cnt (po_PT T V jn) w S h : Nat)) 5000 (by omega) ?_ ?_ _ ⟨M2, rfl, hd2, hs16, hs60, fun h hh => absurd hh (Nat.not_lt_zero h)⟩
    · rintro j t hj ⟨M3, rfl, g1, g2, g3, g4⟩
      have hltj : (j : Int) < (zt_n T : Nat) := by omega
      have hV3 := pc_V_d hi g1 hV
      have hJ3 : ∀ a b, a < zt_n T → b < zt_n T → a ≠ b → M3.2 61 a b = pj (jn a b) ∧ 0 ≤ jn a b ∧ jn a b ≤ 999 := fun a b ha hb hab => by rw [g1.2.1 61 a (by omega) (by omega)]; exact hJ a b ha hb hab
      have hW3 : po_W T (po_PT T V jn) w M3 S := fun S' h' => ⟨g2 S' (by omega), fun h2 => g3 S' h' h2⟩
      have fin : ∀ x, x = pj (po_cnt (po_PT T V jn) w S j : Nat) → ∃ M', (pj ((j : Int) + 1), cs_sA M3 60 S (pj (j : Nat)) x) = (pj ((j + 1 : Nat) : Int), M') ∧ pc_d M M' ∧ (∀ S', S' < S + 1 → M'.2 0 16 S' = pj (po_sumS (po_PT T V jn) S')) ∧ (∀ S', S' < S → 0 < S' → ∀ h, h < zt_n T → M'.2 60 S' h = pj (po_cnt (po_PT T V jn) w S' h : Nat)) ∧ ∀ h, h < j + 1 → M'.2 60 S h = pj (po_cnt (po_PT T V jn) w S h : Nat) := by
        intro x hx
        refine ⟨_, rfl, pc_d_trans g1 ⟨rfl, fun o f a b => pc_sA2n (by omega), by rw [pc_sA2n (by omega)]⟩, fun S' h' => ?_, fun S' h' h2 h hh => ?_, fun h hh => ?_⟩
        · rw [pc_sA2n (by omega)]; exact g2 S' h'
        · rw [pc_sA2n (by omega)]; exact g3 S' h' h2 h hh
        · rw [pc_sA2s, pj_nat (by omega), Int.toNat_natCast, pj_upd]
          by_cases e : h = j
          · rw [if_pos e, e, hx]
          · rw [if_neg e]; exact g4 h (by omega)
      unfold gh_laysWays_L42 gh_houses
      simp (disch := omega) only [pj_lit, pj_add, pj_sub, pj_neg, pj_mul, pj_lt, pj_eq, pj_nat, pj_ald, pj_ast, pj_ix, pw_bind, pw_ite, pw_some, pw_none, pw_let, Option.bind_some, Int.toNat_natCast, Sum.elim_inl, Sum.elim_inr, Int.cast_ofNat_Int, Int.reduceLT, Int.reduceLE, Int.reduceEq, Int.reduceAdd, Int.reduceSub, Int.reduceMul, Int.reduceNeg, Int.reduceToNat, Nat.reduceAdd, Nat.reduceSub, Nat.reduceMul, Nat.reduceEqDiff, Nat.reduceLT, reduceIte, reduceCtorEq, true_and, and_true, forall_const, not_true_eq_false, not_false_eq_true, false_implies, implies_true, pj_nI, hltj, pj_bitx hS64 (show j < 6 by omega)]
      refine ⟨fun q => ?_, fun q => ?_⟩
      · rw [pc_waysOf hT hV3 ho hi hJ3 hw hS hj q hW3, pw_some]
        exact fin _ rfl
      · refine fin _ ?_
        rw [po_cnt_no _ _ (by simpa using q)]; rfl
    · rintro t ⟨M3, rfl, g1, g2, g3, g4⟩
      unfold gh_laysWays_L42 gh_houses
      simp (disch := omega) only [pj_lit, pj_add, pj_sub, pj_neg, pj_mul, pj_lt, pj_eq, pj_nat, pj_ald, pj_ast, pj_ix, pw_bind, pw_ite, pw_some, pw_none, pw_let, Option.bind_some, Int.toNat_natCast, Sum.elim_inl, Sum.elim_inr, Int.cast_ofNat_Int, Int.reduceLT, Int.reduceLE, Int.reduceEq, Int.reduceAdd, Int.reduceSub, Int.reduceMul, Int.reduceNeg, Int.reduceToNat, Nat.reduceAdd, Nat.reduceSub, Nat.reduceMul, Nat.reduceEqDiff, Nat.reduceLT, reduceIte, reduceCtorEq, true_and, and_true, forall_const, not_true_eq_false, not_false_eq_true, false_implies, implies_true, pj_nI, Int.lt_irrefl]
      refine ⟨fun S' h' => ⟨g2 S' h', fun h2 h hh => ?_⟩, g1⟩
      by_cases e : S' = S
      · rw [e]; exact g4 h hh
      · exact g3 S' (by omega) h2 h hh
  · rintro t ⟨M1, rfl, hW, hd⟩
    have e : 2 ^ zt_n T - 1 + 1 = 2 ^ zt_n T := by omega
    rw [e] at hW ⊢
    unfold gh_laysWays_L2
    simp (disch := omega) only [pj_lit, pj_add, pj_sub, pj_neg, pj_mul, pj_lt, pj_eq, pj_nat, pj_ald, pj_ast, pj_ix, pw_bind, pw_ite, pw_some, pw_none, pw_let, Option.bind_some, Int.toNat_natCast, Sum.elim_inl, Sum.elim_inr, Int.cast_ofNat_Int, Int.reduceLT, Int.reduceLE, Int.reduceEq, Int.reduceAdd, Int.reduceSub, Int.reduceMul, Int.reduceNeg, Int.reduceToNat, Nat.reduceAdd, Nat.reduceSub, Nat.reduceMul, Nat.reduceEqDiff, Nat.reduceLT, reduceIte, reduceCtorEq, true_and, and_true, forall_const, not_true_eq_false, not_false_eq_true, false_implies, implies_true, po_all2 _ hT, Int.lt_irrefl]
    exact ⟨hW, hd⟩
  · have : S = 0 := by omega
    subst this
    refine ⟨?_, fun q => absurd q (Nat.lt_irrefl 0)⟩
    rw [h0, po_sumS_0]
/-- sets that reach: what they come to -/
theorem pc_reaching {T : zt_T} {M : cs_S} {P : po_P} {w : Int} (hT : pt_ok T) (hP : P.2.2.2 = pt_f T 4) (hbd : ∀ x, x < 6 → 0 ≤ P.1 x ∧ P.1 x ≤ 99) (hW : po_W T P w M (2 ^ zt_n T)) {S : Nat} (hS : S < 2 ^ zt_n T) (h1 : 0 < S) : gh_reaching T M (pj S) = some (pj (po_rch P w S : Nat)) := by
  have hn := hT.1
  have hp := po_pow hn
  obtain ⟨a1, a2⟩ := hW S hS
  have hsb := po_sumS_bd hbd S
  have hf := hT.2.2.2.1
  unfold gh_reaching po_rch
  rw [hP]
  by_cases c : pt_f T 4 ≤ po_sumS P S
  · have c' : ¬ po_sumS P S < pt_f T 4 := by omega
    rw [if_pos c]
    have hz : ∀ x, zt_n T ≤ x → x < 6 → po_cnt P w S x = 0 := fun x hx _ => po_cnt_no _ _ (by
      cases q : S.testBit x with
      | false => rfl
      | true => have := po_tb_lt hS q; omega)
    have hs : ((List.range 6).map fun h => po_cnt P w S h).sum = po_sm (fun h => po_cnt P w S h) (zt_n T) := by
      rw [← po_sm_6 hn hz]; rfl
    rw [hs]
    have : zs_loop 5000 (gh_reaching_L4 T M (pj (S : Nat))) (pj 0, pj 0) = some (pj (po_sm (fun h => po_cnt P w S h) (zt_n T) : Nat)) := by
      refine pw_forE (zt_n T) (fun k => (pj (po_sm (fun h => po_cnt P w S h) k : Nat), pj (k : Nat))) 5000 (by omega) ?_ ?_
      · intro k hk
        have hlt : (k : Int) < (zt_n T : Nat) := by omega
        have e60 := a2 h1 k hk
        show gh_reaching_L4 T M (pj (S : Nat)) (pj (po_sm (fun h => po_cnt P w S h) k : Nat), pj (k : Nat)) = some (Sum.inl (pj (po_sm (fun h => po_cnt P w S h) (k + 1) : Nat), pj ((k + 1 : Nat) : Int)))
        rw [po_sm_succ]
        generalize po_sm (fun h => po_cnt P w S h) k = acc
        unfold gh_reaching_L4 gh_houses
        simp (disch := omega) only [pj_lit, pj_add, pj_sub, pj_neg, pj_mul, pj_lt, pj_eq, pj_nat, pj_ald, pj_ast, pj_ix, pw_bind, pw_ite, pw_some, pw_none, pw_let, Option.bind_some, Int.toNat_natCast, Sum.elim_inl, Sum.elim_inr, Int.cast_ofNat_Int, Int.reduceLT, Int.reduceLE, Int.reduceEq, Int.reduceAdd, Int.reduceSub, Int.reduceMul, Int.reduceNeg, Int.reduceToNat, Nat.reduceAdd, Nat.reduceSub, Nat.reduceMul, Nat.reduceEqDiff, Nat.reduceLT, reduceIte, reduceCtorEq, true_and, and_true, forall_const, not_true_eq_false, not_false_eq_true, false_implies, implies_true, pj_nI, hlt, a1, pt_f_eq, c', e60]
        rfl
      · unfold gh_reaching_L4 gh_houses
        simp (disch := omega) only [pj_lit, pj_add, pj_sub, pj_neg, pj_mul, pj_lt, pj_eq, pj_nat, pj_ald, pj_ast, pj_ix, pw_bind, pw_ite, pw_some, pw_none, pw_let, Option.bind_some, Int.toNat_natCast, Sum.elim_inl, Sum.elim_inr, Int.cast_ofNat_Int, Int.reduceLT, Int.reduceLE, Int.reduceEq, Int.reduceAdd, Int.reduceSub, Int.reduceMul, Int.reduceNeg, Int.reduceToNat, Nat.reduceAdd, Nat.reduceSub, Nat.reduceMul, Nat.reduceEqDiff, Nat.reduceLT, reduceIte, reduceCtorEq, true_and, and_true, forall_const, not_true_eq_false, not_false_eq_true, false_implies, implies_true, pj_nI, Int.lt_irrefl]
    rw [pj_0, this]; rfl
  · have c' : po_sumS P S < pt_f T 4 := by omega
    rw [if_neg c]
    have : zs_loop 5000 (gh_reaching_L4 T M (pj (S : Nat))) (pj 0, pj 0) = some (pj 0) := by
      refine pw_forE 0 (fun _ => (pj 0, pj 0)) 5000 (by omega) (fun k hk => absurd hk (Nat.not_lt_zero k)) ?_
      by_cases q : 0 < (zt_n T : Int)
      · unfold gh_reaching_L4 gh_houses
        simp (disch := omega) only [pj_lit, pj_add, pj_sub, pj_neg, pj_mul, pj_lt, pj_eq, pj_nat, pj_ald, pj_ast, pj_ix, pw_bind, pw_ite, pw_some, pw_none, pw_let, Option.bind_some, Int.toNat_natCast, Sum.elim_inl, Sum.elim_inr, Int.cast_ofNat_Int, Int.reduceLT, Int.reduceLE, Int.reduceEq, Int.reduceAdd, Int.reduceSub, Int.reduceMul, Int.reduceNeg, Int.reduceToNat, Nat.reduceAdd, Nat.reduceSub, Nat.reduceMul, Nat.reduceEqDiff, Nat.reduceLT, reduceIte, reduceCtorEq, true_and, and_true, forall_const, not_true_eq_false, not_false_eq_true, false_implies, implies_true, pj_nI, q, a1, pt_f_eq, c']
      · unfold gh_reaching_L4 gh_houses
        simp (disch := omega) only [pj_lit, pj_add, pj_sub, pj_neg, pj_mul, pj_lt, pj_eq, pj_nat, pj_ald, pj_ast, pj_ix, pw_bind, pw_ite, pw_some, pw_none, pw_let, Option.bind_some, Int.toNat_natCast, Sum.elim_inl, Sum.elim_inr, Int.cast_ofNat_Int, Int.reduceLT, Int.reduceLE, Int.reduceEq, Int.reduceAdd, Int.reduceSub, Int.reduceMul, Int.reduceNeg, Int.reduceToNat, Nat.reduceAdd, Nat.reduceSub, Nat.reduceMul, Nat.reduceEqDiff, Nat.reduceLT, reduceIte, reduceCtorEq, true_and, and_true, forall_const, not_true_eq_false, not_false_eq_true, false_implies, implies_true, pj_nI, q]
    rw [pj_0, this]; rfl
theorem po_set_lt {n : Nat} : ∀ (o : List Nat), (∀ x ∈ o, x < n) → po_set o < 2 ^ n
  | [], _ => Nat.one_le_two_pow
  | x :: o, h => by
    unfold po_set
    refine Nat.or_lt_two_pow ?_ (po_set_lt o (fun y hy => h y (List.mem_cons_of_mem _ hy)))
    rw [Nat.one_shiftLeft]
    exact Nat.pow_lt_pow_right (by omega) (h x List.mem_cons_self)
theorem po_ok_pos (P : po_P) (w : Int) : ∀ o, po_ok P w o = true → ∀ x ∈ o, 0 < P.1 x := fun o h => ((po_okp_ok P w o).2 h).1
theorem po_rch_no {P : po_P} {w : Int} {n S : Nat} (hz : ∀ x, n ≤ x → x < 6 → P.1 x = 0) (hn : n ≤ 6) (hS : S < 64) (h : 2 ^ n ≤ S) : po_rch P w S = 0 := by
  by_cases q : po_rch P w S = 0
  · exact q
  · obtain ⟨o, h1, h2, h3, h4⟩ := (po_rch_pos P w hS).1 (by omega)
    have := po_set_lt (n := n) o (fun x hx => by
      have a := po_ok_pos P w o h3 x hx
      have b := (po_F0 h1).2.2.2 x hx
      by_cases c : x < n
      · exact c
      · rw [hz x (by omega) b] at a; omega)
    omega
theorem po_rch_0 {P : po_P} {w : Int} (h : 1 ≤ P.2.2.2) : po_rch P w 0 = 0 := by
  unfold po_rch
  rw [po_sumS_0, if_neg (by omega)]
theorem po_sm_tail {f : Nat → Nat} {m : Nat} (h : ∀ x, m ≤ x → x < 64 → f x = 0) : ∀ k, m + k ≤ 64 → po_sm f (m + k) = po_sm f m
  | 0, _ => rfl
  | k + 1, hk => by
    show po_sm f ((m + k) + 1) = _
    rw [po_sm_succ, h _ (by omega) (by omega), po_sm_tail h k (by omega), Nat.add_zero]
theorem po_N_sm {P : po_P} {w : Int} {n : Nat} (h0 : 0 ≤ w) (hw : w ≤ 999) (hz : ∀ x, n ≤ x → x < 6 → P.1 x = 0) (hn : n ≤ 6) : po_sm (po_rch P w) (2 ^ n) = po_N P w := by
  rw [po_N_eq P h0 hw]
  have hp := po_pow hn
  have := po_sm_tail (f := po_rch P w) (m := 2 ^ n) (fun x h1 h2 => po_rch_no hz hn h2 h1) (64 - 2 ^ n) (by omega)
  rw [show 2 ^ n + (64 - 2 ^ n) = 64 by omega] at this
  rw [← this]
  rfl
theorem pc_laysOrders {T : zt_T} {M : cs_S} {i : Nat} {V : pv_V} {jn : Nat → Nat → Int} (hT : pt_ok T) (hV : pc_V M i V) (ho : pv_ok (zt_n T) V) (hi : i < 45) (hJ : po_Jn T M jn) (h0 : M.2 0 16 0 = pj 0) {w : Int} (hw : 0 ≤ w ∧ w ≤ 999) :
    pw (gh_laysOrders T M i (pj w)) (fun p => p.1 = pj (po_N (po_PT T V jn) w : Nat) ∧ pc_d M p.2) := by
  have hn := hT.1
  have hp := po_pow hn
  have hf := hT.2.2.2.1
  have hbd : ∀ x, x < 6 → 0 ≤ (po_PT T V jn).1 x ∧ (po_PT T V jn).1 x ≤ 99 := fun x hx => pv_lg_bd ho hx
  unfold gh_laysOrders
  refine pw_seq (pc_laysWays hT hV ho hi hJ h0 hw) (fun M1 hM1 => ?_)
  obtain ⟨hW, hd⟩ := hM1
  refine pw_seq (Q := fun p => p.1 = pj (po_N (po_PT T V jn) w : Nat) ∧ pc_d M p.2) ?_ (fun M' h => (pw_some _ _).2 h)
  refine pw_eq (a := (pj (po_sm (po_rch (po_PT T V jn) w) (2 ^ zt_n T) : Nat), M1)) ?_ ⟨by rw [po_N_sm hw.1 hw.2 (fun x h1 h2 => pv_lg_no ho h1 h2) hn], hd⟩
  have hone : po_sm (po_rch (po_PT T V jn) w) 1 = 0 := by
    rw [po_sm_succ, po_rch_0 hf.1]; rfl
  have := pw_forE (b := gh_laysOrders_L11 T M1) (r := (pj (po_sm (po_rch (po_PT T V jn) w) (2 ^ zt_n T) : Nat), M1)) (2 ^ zt_n T - 1) (fun k => (pj (po_sm (po_rch (po_PT T V jn) w) (k + 1) : Nat), pj ((k + 1 : Nat) : Int))) 5000 (by omega) ?_ ?_
  · rw [Nat.zero_add, hone] at this
    exact this
  · intro k hk
    have hlt : ((k + 1 : Nat) : Int) < ((2 ^ zt_n T : Nat) : Int) := by omega
    have hr := pc_reaching hT (P := po_PT T V jn) rfl hbd hW (S := k + 1) (by omega) (by omega)
    show gh_laysOrders_L11 T M1 (pj (po_sm (po_rch (po_PT T V jn) w) (k + 1) : Nat), pj ((k + 1 : Nat) : Int)) = some (Sum.inl (pj (po_sm (po_rch (po_PT T V jn) w) (k + 1 + 1) : Nat), pj ((k + 1 + 1 : Nat) : Int)))
    rw [po_sm_succ (po_rch (po_PT T V jn) w) (k + 1)]
    generalize po_sm (po_rch (po_PT T V jn) w) (k + 1) = acc
    unfold gh_laysOrders_L11
    simp (disch := omega) only [pj_lit, pj_add, pj_sub, pj_neg, pj_mul, pj_lt, pj_eq, pj_nat, pj_ald, pj_ast, pj_ix, pw_bind, pw_ite, pw_some, pw_none, pw_let, Option.bind_some, Int.toNat_natCast, Sum.elim_inl, Sum.elim_inr, Int.cast_ofNat_Int, Int.reduceLT, Int.reduceLE, Int.reduceEq, Int.reduceAdd, Int.reduceSub, Int.reduceMul, Int.reduceNeg, Int.reduceToNat, Nat.reduceAdd, Nat.reduceSub, Nat.reduceMul, Nat.reduceEqDiff, Nat.reduceLT, reduceIte, reduceCtorEq, true_and, and_true, forall_const, not_true_eq_false, not_false_eq_true, false_implies, implies_true, po_all2 _ hT, hlt, hr]
    rfl
  · have e : 2 ^ zt_n T - 1 + 1 = 2 ^ zt_n T := by omega
    rw [e]
    unfold gh_laysOrders_L11
    simp (disch := omega) only [pj_lit, pj_add, pj_sub, pj_neg, pj_mul, pj_lt, pj_eq, pj_nat, pj_ald, pj_ast, pj_ix, pw_bind, pw_ite, pw_some, pw_none, pw_let, Option.bind_some, Int.toNat_natCast, Sum.elim_inl, Sum.elim_inr, Int.cast_ofNat_Int, Int.reduceLT, Int.reduceLE, Int.reduceEq, Int.reduceAdd, Int.reduceSub, Int.reduceMul, Int.reduceNeg, Int.reduceToNat, Nat.reduceAdd, Nat.reduceSub, Nat.reduceMul, Nat.reduceEqDiff, Nat.reduceLT, reduceIte, reduceCtorEq, true_and, and_true, forall_const, not_true_eq_false, not_false_eq_true, false_implies, implies_true, po_all2 _ hT, Int.lt_irrefl]
