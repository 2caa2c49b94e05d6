set_option maxRecDepth 100000
/-! the law: all calls answer alike. Printed by gen/lawplain.py -/
section LW
variable {w : Nat → Nat} {c m b L : Nat} {xs : Nat → Int32} {k : Nat} {s : ls_S}
theorem pi_set (h : pi_I w c m b L xs (k + 1) s) {A : cs_S} {Z' : zm_S} (hR : pr_R s.1 A Z') : pi_I w c m b L xs k (s.1, (A, s.2.1.2), Z') := by
  obtain ⟨h1, h2, h3, h4, h5, h6, h7, h8, h9⟩ := h
  exact ⟨hR, h2, h3, h4, h5, h6, h7, by show 6010 + 5010 * k ≤ s.2.1.2.2.2.1; omega, by show 40057 + 25057 * k ≤ s.2.1.2.2.2.2; omega⟩
theorem pi_down (h : pi_I w c m b L xs (k + 1) s) : pi_I w c m b L xs k s := pi_set h h.1
theorem lw_st2 {α : Type} [DecidableEq α] {x : Option (α × cs_S)} {g : zm_S → Option (α × zm_S)} {tn : Int32} {Q : (Int32 × ls_S) ⊕ (Bool × ls_S) → Prop} (hI : pi_I w c m b L xs (k + 1) s) (h : pw x (fun p => pw (g s.2.2) (fun q => p.1 = q.1 ∧ pr_R s.1 p.2 q.2))) (hJ : ∀ s', pi_I w c m b L xs k s' → Q (Sum.inl (tn, s'))) :
    pw ((x.map fun z => (z.1, ls_uC s z.2)).bind fun p => ((g p.2.2.2).map fun z => (z.1, ls_uM p.2 z.2)).bind fun r => if p.1 = r.1 then some (Sum.inl (tn, r.2)) else some (Sum.inr (false, r.2))) Q := by
  obtain ⟨p, e, q, e2, hq, hR⟩ := h
  rw [e]
  show pw (((g s.2.2).map _).bind _) Q
  rw [e2]
  show pw (if p.1 = q.1 then _ else _) Q
  rw [if_pos hq, pw_some]
  exact hJ _ (pi_set hI hR)
theorem lw_st2b {x : Option (Bool × cs_S)} {g : zm_S → Option (Bool × zm_S)} {tn : Int32} {Q : (Int32 × ls_S) ⊕ (Bool × ls_S) → Prop} (hI : pi_I w c m b L xs (k + 1) s) (h : pw x (fun p => pw (g s.2.2) (fun q => p.1 = q.1 ∧ pr_R s.1 p.2 q.2))) (hJ : ∀ s', pi_I w c m b L xs k s' → Q (Sum.inl (tn, s'))) :
    pw ((x.map fun z => (z.1, ls_uC s z.2)).bind fun p => ((g p.2.2.2).map fun z => (z.1, ls_uM p.2 z.2)).bind fun r => if zs_b p.1 = zs_b r.1 then some (Sum.inl (tn, r.2)) else some (Sum.inr (false, r.2))) Q := by
  obtain ⟨p, e, q, e2, hq, hR⟩ := h
  rw [e]
  show pw (((g s.2.2).map _).bind _) Q
  rw [e2]
  show pw (if zs_b p.1 = zs_b q.1 then _ else _) Q
  rw [if_pos (by rw [hq]), pw_some]
  exact hJ _ (pi_set hI hR)
theorem lw_st1 {α : Type} [DecidableEq α] {x : Option α} {g : Option (α × zm_S)} {tn : Int32} {Q : (Int32 × ls_S) ⊕ (Bool × ls_S) → Prop} (hI : pi_I w c m b L xs (k + 1) s) (h : pw x (fun p => pw g (fun q => p = q.1 ∧ pr_R s.1 s.2.1.1 q.2))) (hJ : ∀ s', pi_I w c m b L xs k s' → Q (Sum.inl (tn, s'))) :
    pw (x.bind fun p => (g.map fun z => (z.1, ls_uM s z.2)).bind fun r => if p = r.1 then some (Sum.inl (tn, r.2)) else some (Sum.inr (false, r.2))) Q := by
  obtain ⟨p, e, q, e2, hq, hR⟩ := h
  rw [e, e2]
  show pw (if p = q.1 then _ else _) Q
  rw [if_pos hq, pw_some]
  exact hJ _ (pi_set hI hR)
theorem lw_st0 {α : Type} [DecidableEq α] {x g : Option α} {tn : Int32} {Q : (Int32 × ls_S) ⊕ (Bool × ls_S) → Prop} (hI : pi_I w c m b L xs (k + 1) s) (h : pw x (fun p => pw g (fun q => p = q))) (hJ : ∀ s', pi_I w c m b L xs k s' → Q (Sum.inl (tn, s'))) :
    pw (x.bind fun p => g.bind fun r => if p = r then some (Sum.inl (tn, s)) else some (Sum.inr (false, s))) Q := by
  obtain ⟨p, e, q, e2, hq⟩ := h
  rw [e, e2]
  show pw (if p = q then _ else _) Q
  rw [if_pos hq, pw_some]
  exact hJ _ (pi_down hI)
set_option maxHeartbeats 4000000 in
theorem lw_step (hd : m + 49 ≤ c ∨ c + 561 ≤ m) (hds : ¬ (m ≤ b ∧ b < m + 49) ∧ ¬ (c ≤ b ∧ b < c + 561)) (hI : pi_I w c m b L xs (k + 1) s) {i : Nat} (hi : 6 * i + 6 ≤ L) (hL : L ≤ 384) {Q : (Int32 × ls_S) ⊕ (Bool × ls_S) → Prop} (hJ : ∀ s', pi_I w c m b L xs k s' → Q (Sum.inl (pj ((6 * i : Nat) : Int) + 6, s'))) : pw (g_L_law_L18 L xs w (ls_P c m) c m b (pj ((6 * i : Nat) : Int), s)) Q := by
  have hk : ∀ j, j < 6 → zs_ald L xs (pj ((6 * i : Nat) : Int) + pj (j : Nat)) = some (xs (6 * i + j)) := fun j hj => by
    rw [pj_add, show ((6 * i : Nat) : Int) + (j : Nat) = ((6 * i + j : Nat) : Int) by omega, pj_ald (by omega) (by omega), Int.toNat_natCast]
  have h0 : zs_ald L xs (pj ((6 * i : Nat) : Int)) = some (xs (6 * i)) := by
    rw [pj_ald (by omega) (by omega), Int.toNat_natCast]
  have h1 : zs_ald L xs (pj ((6 * i : Nat) : Int) + 1) = some (xs (6 * i + 1)) := hk 1 (by omega)
  have h2 : zs_ald L xs (pj ((6 * i : Nat) : Int) + 2) = some (xs (6 * i + 2)) := hk 2 (by omega)
  have h3 : zs_ald L xs (pj ((6 * i : Nat) : Int) + 3) = some (xs (6 * i + 3)) := hk 3 (by omega)
  have h4 : zs_ald L xs (pj ((6 * i : Nat) : Int) + 4) = some (xs (6 * i + 4)) := hk 4 (by omega)
  have h5 : zs_ald L xs (pj ((6 * i : Nat) : Int) + 5) = some (xs (6 * i + 5)) := hk 5 (by omega)
  have hlt : ¬ nI L - 6 < pj ((6 * i : Nat) : Int) := by
    rw [pj_nI, show (6 : Int32) = pj 6 from rfl, pj_sub, pj_lt (by omega) (by omega)]; omega
  obtain ⟨sd, V, H, at_, hR⟩ := id hI.1
  unfold g_L_law_L18
  dsimp only
  rw [if_neg hlt, h0, Option.bind_some, pw_let]
  generalize hx : xs (6 * i) &&& 63 = z
  by_cases e0 : z = 0
  · rw [if_pos e0]
    simp only [h1, h2, h3, h4, h5, Option.bind_some]
    exact lw_st2 (g := fun Z => gm_feed Z (xs (6 * i + 1)) (xs (6 * i + 2)) (xs (6 * i + 3)) (xs (6 * i + 4)) (xs (6 * i + 5))) hI (pq_feed hR (xs (6 * i + 1)) (xs (6 * i + 2)) (xs (6 * i + 3)) (xs (6 * i + 4)) (xs (6 * i + 5))) hJ
  rw [if_neg e0]
  by_cases e1 : z = 1
  · rw [if_pos e1]
    simp only [h1, Option.bind_some]
    exact lw_st2 (g := fun Z => gm_back Z (xs (6 * i + 1))) hI (pq_back hR (xs (6 * i + 1))) hJ
  rw [if_neg e1]
  by_cases e2 : z = 2
  · rw [if_pos e2]
    obtain ⟨p, e, q, q1, q2, q3⟩ := pq_read (k := k) hI hd hds
    rw [e, Option.bind_some, q1]
    show pw (if p.1 = q.1 then _ else _) Q
    rw [if_pos q2, pw_some]
    exact hJ _ q3
  rw [if_neg e2]
  by_cases e3 : z = 3
  · rw [if_pos e3]
    exact lw_st0 hI (pq_place hR) hJ
  rw [if_neg e3]
  by_cases e4 : z = 4
  · rw [if_pos e4]
    simp only [h1, h2, Option.bind_some]
    exact lw_st2 (g := fun Z => gm_house Z (xs (6 * i + 1)) (xs (6 * i + 2))) hI (pq_house hR (xs (6 * i + 1)) (xs (6 * i + 2))) hJ
  rw [if_neg e4]
  by_cases e5 : z = 5
  · rw [if_pos e5]
    simp only [h1, h2, Option.bind_some]
    exact lw_st0 hI (pq_likes hR (xs (6 * i + 1)) (xs (6 * i + 2))) hJ
  rw [if_neg e5]
  by_cases e6 : z = 6
  · rw [if_pos e6]
    simp only [h1, h2, Option.bind_some]
    exact lw_st2 (g := fun Z => gm_joins Z (xs (6 * i + 1)) (xs (6 * i + 2))) hI (pq_joins hR (xs (6 * i + 1)) (xs (6 * i + 2))) hJ
  rw [if_neg e6]
  by_cases e7 : z = 7
  · rw [if_pos e7]
    simp only [h1, Option.bind_some]
    exact lw_st0 hI (pq_at hR (xs (6 * i + 1))) hJ
  rw [if_neg e7]
  by_cases e8 : z = 8
  · rw [if_pos e8]
    simp only [h1, Option.bind_some]
    exact lw_st2 (g := fun Z => gm_splice Z (xs (6 * i + 1))) hI (pq_splice hR (xs (6 * i + 1))) hJ
  rw [if_neg e8]
  by_cases e9 : z = 9
  · rw [if_pos e9]
    exact lw_st2 (g := fun Z => gm_unsplice Z ) hI (pq_unsplice hR) hJ
  rw [if_neg e9]
  by_cases e10 : z = 10
  · rw [if_pos e10]
    simp only [h1, Option.bind_some]
    exact lw_st2 (g := fun Z => gm_haul Z (xs (6 * i + 1))) hI (pq_haul hR (xs (6 * i + 1))) hJ
  rw [if_neg e10]
  by_cases e11 : z = 11
  · rw [if_pos e11]
    simp only [h1, Option.bind_some]
    exact lw_st2 (g := fun Z => gm_years Z (xs (6 * i + 1))) hI (pq_years hR (xs (6 * i + 1))) hJ
  rw [if_neg e11]
  by_cases e12 : z = 12
  · rw [if_pos e12]
    exact lw_st2b (g := fun Z => gm_undo Z ) hI (pq_undo hR) hJ
  rw [if_neg e12]
  by_cases e13 : z = 13
  · rw [if_pos e13]
    exact lw_st2 (g := fun Z => gm_most Z ) hI (pq_most hR) hJ
  rw [if_neg e13]
  by_cases e14 : z = 14
  · rw [if_pos e14]
    simp only [h1, Option.bind_some]
    exact lw_st2 (g := fun Z => gm_weakest Z (xs (6 * i + 1))) hI (pq_weakest hR (xs (6 * i + 1))) hJ
  rw [if_neg e14]
  by_cases e15 : z = 15
  · rw [if_pos e15]
    simp only [h1, Option.bind_some]
    exact lw_st1 hI (pq_below hR (xs (6 * i + 1))) hJ
  rw [if_neg e15]
  by_cases e16 : z = 16
  · rw [if_pos e16]
    simp only [h1, Option.bind_some]
    exact lw_st2 (g := fun Z => gm_orders Z (xs (6 * i + 1))) hI (pq_orders hR (xs (6 * i + 1))) hJ
  rw [if_neg e16]
  by_cases e17 : z = 17
  · rw [if_pos e17]
    exact lw_st2 (g := fun Z => gm_peak Z ) hI (pq_peak hR) hJ
  rw [if_neg e17]
  by_cases e18 : z = 18
  · rw [if_pos e18]
    simp only [h1, h2, Option.bind_some]
    exact lw_st2 (g := fun Z => gm_fewest Z (xs (6 * i + 1)) (xs (6 * i + 2))) hI (pq_fewest hR (xs (6 * i + 1)) (xs (6 * i + 2))) hJ
  rw [if_neg e18]
  by_cases e19 : z = 19
  · rw [if_pos e19]
    simp only [h1, Option.bind_some]
    exact lw_st2 (g := fun Z => gm_needed Z (xs (6 * i + 1))) hI (pq_needed hR (xs (6 * i + 1))) hJ
  rw [if_neg e19]
  by_cases e20 : z = 20
  · rw [if_pos e20]
    simp only [h1, Option.bind_some]
    exact lw_st2 (g := fun Z => gm_soon Z (xs (6 * i + 1))) hI (pq_soon hR (xs (6 * i + 1))) hJ
  rw [if_neg e20]
  by_cases e21 : z = 21
  · rw [if_pos e21]
    simp only [h1, h2, Option.bind_some]
    exact lw_st2 (g := fun Z => gm_peace Z (xs (6 * i + 1)) (xs (6 * i + 2))) hI (pq_peace hR (xs (6 * i + 1)) (xs (6 * i + 2))) hJ
  rw [if_neg e21]
  by_cases e22 : z = 22
  · rw [if_pos e22]
    simp only [h1, Option.bind_some]
    exact lw_st2 (g := fun Z => gm_rests Z (xs (6 * i + 1))) hI (pq_rests hR (xs (6 * i + 1))) hJ
  rw [if_neg e22]
  by_cases e23 : z = 23
  · rw [if_pos e23]
    exact lw_st1 hI (pq_pivots hR) hJ
  rw [if_neg e23]
  by_cases e24 : z = 24
  · rw [if_pos e24]
    simp only [h1, Option.bind_some]
    exact lw_st1 hI (pq_share hR (xs (6 * i + 1))) hJ
  rw [if_neg e24]
  by_cases e25 : z = 25
  · rw [if_pos e25]
    simp only [h1, Option.bind_some]
    exact lw_st2 (g := fun Z => gm_lasts Z (xs (6 * i + 1))) hI (pq_lasts hR (xs (6 * i + 1))) hJ
  rw [if_neg e25]
  by_cases e26 : z = 26
  · rw [if_pos e26]
    simp only [h1, h2, h3, Option.bind_some]
    exact lw_st2 (g := fun Z => gm_harvest Z (xs (6 * i + 1)) (xs (6 * i + 2)) (xs (6 * i + 3))) hI (pq_harvest hR (xs (6 * i + 1)) (xs (6 * i + 2)) (xs (6 * i + 3))) hJ
  rw [if_neg e26]
  by_cases e27 : z = 27
  · rw [if_pos e27]
    exact lw_st2 (g := fun Z => gm_swap Z ) hI (pq_swap hR) hJ
  rw [if_neg e27]
  by_cases e28 : z = 28
  · rw [if_pos e28]
    simp only [h1, Option.bind_some]
    exact lw_st2 (g := fun Z => gm_quarrel Z (xs (6 * i + 1))) hI (pq_quarrel hR (xs (6 * i + 1))) hJ
  rw [if_neg e28]
  by_cases e29 : z = 29
  · rw [if_pos e29]
    simp only [h1, Option.bind_some]
    exact lw_st0 hI (pq_greyest hR (xs (6 * i + 1))) hJ
  rw [if_neg e29]
  by_cases e30 : z = 30
  · rw [if_pos e30]
    simp only [h1, h2, h3, Option.bind_some]
    exact lw_st2 (g := fun Z => gm_then Z (xs (6 * i + 1)) (xs (6 * i + 2)) (xs (6 * i + 3))) hI (pq_then hR (xs (6 * i + 1)) (xs (6 * i + 2)) (xs (6 * i + 3))) hJ
  rw [if_neg e30]
  by_cases e31 : z = 31
  · rw [if_pos e31]
    simp only [h1, h2, h3, h4, Option.bind_some]
    exact lw_st2 (g := fun Z => gm_year Z (xs (6 * i + 1)) (xs (6 * i + 2)) (xs (6 * i + 3)) (xs (6 * i + 4))) hI (pq_year hR (xs (6 * i + 1)) (xs (6 * i + 2)) (xs (6 * i + 3)) (xs (6 * i + 4))) hJ
  rw [if_neg e31]
  by_cases e32 : z = 32
  · rw [if_pos e32]
    have hb : (if xs (6 * i + 3) = 0 then (some (0 : Int32)) else some 1) = some (if xs (6 * i + 3) = 0 then 0 else 1) := by split <;> rfl
    simp only [h1, h2, h3, Option.bind_some, hb]
    exact lw_st2 (g := fun Z => gm_tell Z (xs (6 * i + 1)) (xs (6 * i + 2)) (if xs (6 * i + 3) = 0 then 0 else 1)) hI (pq_tell hR (xs (6 * i + 1)) (xs (6 * i + 2)) (if xs (6 * i + 3) = 0 then 0 else 1) (by split <;> decide)) hJ
  rw [if_neg e32]
  by_cases e33 : z = 33
  · rw [if_pos e33]
    exact lw_st2 (g := fun Z => gm_forget Z ) hI (pq_forget hR) hJ
  rw [if_neg e33]
  by_cases e34 : z = 34
  · rw [if_pos e34]
    simp only [h1, h2, h3, Option.bind_some]
    exact lw_st2 (g := fun Z => gm_rows Z (xs (6 * i + 1)) (xs (6 * i + 2)) (xs (6 * i + 3))) hI (pq_rows hR (xs (6 * i + 1)) (xs (6 * i + 2)) (xs (6 * i + 3))) hJ
  rw [if_neg e34]
  by_cases e35 : z = 35
  · rw [if_pos e35]
    simp only [h1, h2, h3, Option.bind_some]
    exact lw_st2 (g := fun Z => gm_feel Z (xs (6 * i + 1)) (xs (6 * i + 2)) (xs (6 * i + 3))) hI (pq_feel hR (xs (6 * i + 1)) (xs (6 * i + 2)) (xs (6 * i + 3))) hJ
  rw [if_neg e35]
  by_cases e36 : z = 36
  · rw [if_pos e36]
    simp only [h1, Option.bind_some]
    exact lw_st2b (g := fun Z => gm_hold Z (xs (6 * i + 1))) hI (pq_hold hR (xs (6 * i + 1))) hJ
  rw [if_neg e36]
  by_cases e37 : z = 37
  · rw [if_pos e37]
    simp only [h1, Option.bind_some]
    exact lw_st2b (g := fun Z => gm_restore Z (xs (6 * i + 1))) hI (pq_restore hR (xs (6 * i + 1))) hJ
  rw [if_neg e37]
  by_cases e38 : z = 38
  · rw [if_pos e38]
    simp only [h1, Option.bind_some]
    exact lw_st1 hI (pq_count hR (xs (6 * i + 1))) hJ
  rw [if_neg e38]
  exact (pw_some _ _).2 (hJ _ (pi_down hI))
end LW
theorem pq_law {w : Nat → Nat} {c m b L : Nat} {xs : Nat → Int32} {s : ls_S} (hd : m + 49 ≤ c ∨ c + 561 ≤ m) (hds : ¬ (m ≤ b ∧ b < m + 49) ∧ ¬ (c ≤ b ∧ b < c + 561)) (hI : pi_I w c m b L xs 64 s) (hL : L ≤ 384) : pw (gl_lawT w (ls_P c m) c m b L xs s) (fun z => z.1 = true) := by
  have e1 : ∀ x : Option (Bool × ls_S), (x.bind fun z => some z) = x := fun x => by cases x <;> rfl
  unfold gl_lawT
  rw [e1]
  refine pw_for (L / 6) (fun i t => ∃ s', t = (pj ((6 * i : Nat) : Int), s') ∧ pi_I w c m b L xs (64 - i) s') 5000 (by omega) ?_ ?_ (0, s) ⟨s, rfl, hI⟩
  · rintro i t hi ⟨s', rfl, hI'⟩
    rw [show 64 - i = 64 - (i + 1) + 1 by omega] at hI'
    refine lw_step hd hds hI' (by omega) hL (fun s2 h2 => ?_)
    refine ⟨s2, ?_, h2⟩
    rw [show (6 : Int32) = pj 6 from rfl, pj_add]
    rw [show ((6 * i : Nat) : Int) + 6 = ((6 * (i + 1) : Nat) : Int) by omega]
  · rintro t ⟨s', rfl, hI'⟩
    have hlt : nI L - 6 < pj ((6 * (L / 6) : Nat) : Int) := by
      rw [pj_nI, show (6 : Int32) = pj 6 from rfl, pj_sub, pj_lt (by omega) (by omega)]; omega
    unfold g_L_law_L18
    dsimp only
    rw [if_pos hlt, pw_some]
    rfl
