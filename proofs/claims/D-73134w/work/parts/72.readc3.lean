set_option maxRecDepth 100000
/-! the text that is told, by the component -/
def pk_A (s0 : Nat) (M : ps_S) (a : Nat) (x : zs_HC) : Prop := (s0 ≤ a ∧ a < M.2.1.2.1) ∧ M.2.1.2.2 a = some x
theorem pk_A_le {s0 a : Nat} {M M' : ps_S} {x : zs_HC} (h : pk M M') (g : pk_A s0 M a x) : pk_A s0 M' a x := ⟨⟨g.1.1, Nat.lt_of_lt_of_le g.1.2 h.2.1⟩, h.2.2.1 _ _ g.1.2 g.2⟩
def pk_Th (w : Nat → Nat) (s0 : Nat) (G : Nat → Value) (hs : List (List Nat × Nat × Nat)) (M : ps_S) : Prop := hs.length ≤ 6 ∧ (∃ m, G 0 = .int m) ∧ G 2 = .int (pj (hs.length : Nat)) ∧ ((hs = [] ∧ G 1 = .ref (w 100)) ∨ ∃ e E, G 1 = .ref e ∧ pk_A s0 M e (73, 10, E) ∧
  ∀ (k : Nat) h, hs[k]? = some h → ∃ y f s, E k = .ref y ∧ gq s0 M y = some (16, 3, f) ∧ f 0 = .ref s ∧ f 1 = .int (pj (h.2.1 : Nat)) ∧ f 2 = .int (pj (h.2.2 : Nat)) ∧ pk_st (gq s0 M) s h.1 ∧ (∀ x ∈ h.1, x < 128) ∧ h.1.length ≤ 8)
def pk_Tw (s0 : Nat) (LF : Nat → Value) (lw : Nat → Option zl_L) (M : ps_S) : Prop := ∀ k, k < 4 → (lw k = none → LF k = .null) ∧ ∀ L, lw k = some L → ∃ y, LF k = .ref y ∧ zl_lawof (gq s0 M) y = some L
def pk_Tl (s0 lk : Nat) (KF : Nat → Value) (like : Nat → Nat → Nat) (M : ps_S) : Prop := ∀ i, i < 6 → KF i = .ref (lk + 1 + i) ∧ ∃ R, pk_A s0 M (lk + 1 + i) (64, 6, R) ∧ ∀ j, j < 6 → R j = .int (pj (like i j : Nat))
def pk_TT (w : Nat → Nat) (s0 : Nat) (X : pz_X) (M : ps_S) (x l la lk : Nat) (F G LF KF : Nat → Value) : Prop := M.2.2.1 = .ref x ∧ pk_A s0 M x (4, 8, F) ∧ pk_A s0 M l (17, 3, G) ∧ pk_A s0 M la (69, 4, LF) ∧ pk_A s0 M lk (74, 6, KF) ∧
  (F 0 = .ref l ∧ F 1 = .ref la ∧ F 2 = .ref lk ∧ F 3 = .int (pj (X.2.1 : Nat)) ∧ ∀ k, 4 ≤ k → k ≤ 7 → F k = .int (pj (X.2.2.2.1 k : Nat))) ∧ pk_Th w s0 G X.1 M ∧ pk_Tw s0 LF X.2.2.2.2 M ∧ pk_Tl s0 lk KF X.2.2.1 M
def pk_T (w : Nat → Nat) (s0 : Nat) (X : pz_X) (M : ps_S) : Prop := ∃ x l la lk F G LF KF, pk_TT w s0 X M x l la lk F G LF KF
theorem zl_ifs_ic {g g' : Nat → Option zs_HC} (hic : pk_ic g g') {f1 f2 f3 : Nat → Value} : ∀ (n k : Nat) (L : List (zl_C × zl_C × zl_C)), zl_ifs g f1 f2 f3 k n = some L → zl_ifs g' f1 f2 f3 k n = some L
  | 0, k, L, h => h
  | n + 1, k, L, h => by
    unfold zl_ifs at h ⊢
    obtain ⟨b1, h1, h⟩ := zs_bsome h
    obtain ⟨b2, h2, h⟩ := zs_bsome h
    obtain ⟨b3, h3, h⟩ := zs_bsome h
    obtain ⟨c1, h4, h⟩ := zs_bsome h
    obtain ⟨c2, h5, h⟩ := zs_bsome h
    obtain ⟨c3, h6, h⟩ := zs_bsome h
    obtain ⟨r, h7, h⟩ := zs_bsome h
    rw [h1, Option.bind_some, h2, Option.bind_some, h3, Option.bind_some, zl_of_ic hic _ _ _ h4 _ (Nat.le_refl _), Option.bind_some, zl_of_ic hic _ _ _ h5 _ (Nat.le_refl _), Option.bind_some, zl_of_ic hic _ _ _ h6 _ (Nat.le_refl _), Option.bind_some, zl_ifs_ic hic n (k + 1) r h7]
    exact h
theorem zl_lawof_ic {g g' : Nat → Option zs_HC} (hic : pk_ic g g') {a : Nat} {L : zl_L} (h : zl_lawof g a = some L) : zl_lawof g' a = some L := by
  unfold zl_lawof at h
  split at h
  · rename_i F hF
    obtain ⟨a1, h1, h⟩ := zs_bsome h
    obtain ⟨a2, h2, h⟩ := zs_bsome h
    obtain ⟨a3, h3, h⟩ := zs_bsome h
    obtain ⟨z, h4, h⟩ := zs_bsome h
    unfold zl_lawof
    rw [hic _ _ hF]
    show (zs_vr (F 0)).bind _ = _
    rw [h1, Option.bind_some, h2, Option.bind_some, h3, Option.bind_some, h4, Option.bind_some]
    by_cases c : z = nI z.toNatClampNeg ∧ z.toNatClampNeg ≤ 4
    · rw [if_pos c] at h ⊢
      split at h
      · rename_i f1 f2 f3 g1 g2 g3
        obtain ⟨L1, h5, h⟩ := zs_bsome h
        obtain ⟨b, h6, h⟩ := zs_bsome h
        obtain ⟨e, h7, h⟩ := zs_bsome h
        rw [hic _ _ g1, hic _ _ g2, hic _ _ g3]
        show (zl_ifs g' f1 f2 f3 0 z.toNatClampNeg).bind _ = _
        rw [zl_ifs_ic hic _ _ _ h5, Option.bind_some, h6, Option.bind_some, zl_of_ic hic _ _ _ h7 _ (Nat.le_refl _)]
        exact h
      · cases h
    · rw [if_neg c] at h; cases h
  · cases h
theorem pk_Th_ic {w : Nat → Nat} {s0 : Nat} {G : Nat → Value} {hs : List (List Nat × Nat × Nat)} {M M' : ps_S} (hic : pk_ic (gq s0 M) (gq s0 M')) (hA : ∀ e E, pk_A s0 M e (73, 10, E) → pk_A s0 M' e (73, 10, E)) (g : pk_Th w s0 G hs M) : pk_Th w s0 G hs M' := by
  obtain ⟨g1, g2, g3, g4⟩ := g
  refine ⟨g1, g2, g3, g4.imp id (fun q => ?_)⟩
  obtain ⟨e, E, q1, q2, q3⟩ := q
  refine ⟨e, E, q1, hA e E q2, fun k h hk => ?_⟩
  obtain ⟨y, f, s, p1, p2, p3, p4, p5, p6, p7⟩ := q3 k h hk
  exact ⟨y, f, s, p1, hic _ _ p2, p3, p4, p5, pk_st_ic hic p6, p7⟩
theorem pk_Tw_ic {s0 : Nat} {LF : Nat → Value} {lw : Nat → Option zl_L} {M M' : ps_S} (hic : pk_ic (gq s0 M) (gq s0 M')) (g : pk_Tw s0 LF lw M) : pk_Tw s0 LF lw M' := fun k hk => ⟨(g k hk).1, fun L hL => by
  obtain ⟨y, p1, p2⟩ := (g k hk).2 L hL
  exact ⟨y, p1, zl_lawof_ic hic p2⟩⟩
theorem pk_TT_le {w : Nat → Nat} {s0 : Nat} {X : pz_X} {M M' : ps_S} {x l la lk : Nat} {F G LF KF : Nat → Value} (h : pk M M') (g : pk_TT w s0 X M x l la lk F G LF KF) : pk_TT w s0 X M' x l la lk F G LF KF := by
  obtain ⟨g1, g2, g3, g4, g5, g6, g7, g8, g9⟩ := g
  refine ⟨h.2.2.2.2.2.trans g1, pk_A_le h g2, pk_A_le h g3, pk_A_le h g4, pk_A_le h g5, g6, pk_Th_ic (gq_le h (Nat.le_refl _)) (fun e E => pk_A_le h) g7, pk_Tw_ic (gq_le h (Nat.le_refl _)) g8, fun i hi => ?_⟩
  obtain ⟨q1, R, q2, q3⟩ := g9 i hi
  exact ⟨q1, R, pk_A_le h q2, q3⟩
theorem pk_T_le {w : Nat → Nat} {s0 : Nat} {X : pz_X} {M M' : ps_S} (h : pk M M') (g : pk_T w s0 X M) : pk_T w s0 X M' := by
  obtain ⟨x, l, la, lk, F, G, LF, KF, g⟩ := g
  exact ⟨x, l, la, lk, F, G, LF, KF, pk_TT_le h g⟩
theorem pk_T_eq {w : Nat → Nat} {s0 : Nat} {X : pz_X} {M M' : ps_S} (h : M'.2 = M.2) (g : pk_T w s0 X M) : pk_T w s0 X M' := by
  have e : gq s0 M' = gq s0 M := by unfold gq; rw [h]
  obtain ⟨x, l, la, lk, F, G, LF, KF, g1, g2, g3, g4, g5, g6, g7, g8, g9⟩ := g
  have hA : ∀ a y, pk_A s0 M a y → pk_A s0 M' a y := fun a y q => by unfold pk_A at q ⊢; rw [h]; exact q
  refine ⟨x, l, la, lk, F, G, LF, KF, by rw [h]; exact g1, hA _ _ g2, hA _ _ g3, hA _ _ g4, hA _ _ g5, g6, pk_Th_ic (by rw [e]; exact fun _ _ q => q) (fun e E => hA _ _) g7, pk_Tw_ic (by rw [e]; exact fun _ _ q => q) g8, fun i hi => ?_⟩
  obtain ⟨q1, R, q2, q3⟩ := g9 i hi
  exact ⟨q1, R, hA _ _ q2, q3⟩
/-- a cell of a text is written to -/
theorem gq_upN {s a : Nat} {M : ps_S} {x y : zs_HC} (h : M.2.1.2.2 a = some y) (hy : pk_tf y.1 = false) (hx : pk_tf x.1 = false) : gq s (ps_up M a x) = gq s M := by
  funext q
  unfold gq
  by_cases c : s ≤ q ∧ q < M.2.1.2.1
  · rw [if_pos c]
    show (if s ≤ q ∧ q < M.2.1.2.1 then _ else _) = _
    rw [if_pos c, ps_upC]
    by_cases e : q = a
    · subst e
      rw [if_pos rfl, h]
      show (if pk_tf x.1 = true then some x else none) = (if pk_tf y.1 = true then some y else none)
      rw [hx, hy]; rfl
    · rw [if_neg e]
  · rw [if_neg c]
    exact if_neg c
theorem pk_A_up {s0 a q : Nat} {M : ps_S} {x y z : zs_HC} (h : pk_A s0 M a y) (g : pk_A s0 M q z) (hne : y.1 ≠ z.1) : pk_A s0 (ps_up M a x) q z := by
  refine ⟨g.1, ?_⟩
  rw [ps_upC, if_neg]
  · exact g.2
  · intro e
    have g2 := g.2
    rw [e, h.2] at g2
    injection g2 with e2
    exact hne (by rw [e2])
theorem pk_A_ups {s0 a : Nat} {M : ps_S} {x y : zs_HC} (h : pk_A s0 M a y) : pk_A s0 (ps_up M a x) a x := ⟨h.1, if_pos rfl⟩
/-! looking for a name -/
theorem pk_at {w : Nat → Nat} {c s0 : Nat} {M : ps_S} {G : Nat → Value} {hs : List (List Nat × Nat × Nat)} {l y : Nat} {s : List Nat} (hc : c + 561 ≤ s0) (hl : pk_A s0 M l (17, 3, G)) (h : pk_Th w s0 G hs M) (hy : pk_st (ps_at c M) y s) (hs1 : ∀ x ∈ s, x < 128) (hs2 : s.length ≤ 100) :
    gp_X4_at w c M l y = some (pj (pz_oi (pz_ix hs s))) := by
  obtain ⟨h1, h2, h3, h4⟩ := h
  have al : ps_at c M l = some (17, 3, G) := by rw [ps_atN (by have := hl.1; omega)]; exact hl.2
  have hsize : gp_J5_size w c M l = some (pj (hs.length : Nat)) := by
    unfold gp_J5_size
    rw [pk_gI al h3]; rfl
  have e1 : ∀ x : Option Int32, (x.bind fun z => some z) = x := fun x => by cases x <;> rfl
  have hloop := pz_floop (f := 5000) (l := hs) (q := fun h => h.1 == s) (bd := g_X4_at_L2 c M l w y) (R := fun j => pj (j : Nat)) (E := (-1 : Int32)) (fun k x hx => by
    have hk := (List.getElem?_eq_some_iff.1 hx).1
    rcases h4 with ⟨q, -⟩ | ⟨e, E, q1, q2, q3⟩
    · subst q; exact absurd hk (Nat.not_lt_zero _)
    obtain ⟨hy', f, s', p1, p2, p3, p4, p5, p6, p7, p8⟩ := q3 k x hx
    have ae : ps_at c M e = some (73, 10, E) := by rw [ps_atN (by have := q2.1; omega)]; exact q2.2
    have ay := gq_at (M := M) hc _ _ p2
    have ast := pk_st_ic (gq_at (M := M) hc) p6
    have hget : gp_J5_get w c M l (pj (k : Nat)) = some hy' := by
      unfold gp_J5_get gp_J5_elementData g_ckix
      rw [pk_gI al h3, Option.bind_some, if_neg (by rw [pj_0, pj_lt (by omega) (by omega)]; omega), if_pos ((pj_lt (by omega) (by omega)).2 (by omega)), Option.bind_some, pk_ck al, Option.bind_some, pk_gR al q1, Option.bind_some, pk_aR (t := 9) ae (by omega) (by omega) p1]; rfl
    obtain ⟨sF, sz, sS, st1, -⟩ := ast
    unfold g_X4_at_L2
    rw [pk_ck al, Option.bind_some, hsize, Option.bind_some, if_pos ((pj_lt (by omega) (by omega)).2 (by omega)), Option.bind_some, hget, Option.bind_some, pk_ck ay, Option.bind_some, pk_gR ay p3, Option.bind_some, pk_ck st1, Option.bind_some, pk_equals (pk_st_ic (gq_at (M := M) hc) p6) hy p7 hs1 (by omega) hs2, Option.bind_some]
    by_cases cc : (x.1 == s) = true
    · rw [if_pos cc, if_pos cc]
    · rw [if_neg cc, if_neg cc, pj_1, pj_add]; rfl) (by
    unfold g_X4_at_L2
    rw [pk_ck al, Option.bind_some, hsize, Option.bind_some, if_neg (by rw [pj_lt (by omega) (by omega)]; omega)]) (by omega)
  unfold gp_X4_at
  rw [e1, hloop]
  unfold pz_ix
  cases hs.findIdx? (fun h => h.1 == s) <;> rfl
/-! numbers, names told, by the component -/
def pk_w (K : List pz_T) (wst : Nat × Nat) (M : ps_S) : Prop := wst.1 ≤ 5 ∧ M.1.1 3 5 = pj (wst.1 : Nat) ∧ (wst.1 ≠ 0 → M.1.1 3 6 = pj (wst.2 : Nat) ∧ wst.2 < K.length ∧ wst.2 ≤ 400)
theorem pk_w_m {K : List pz_T} {wst : Nat × Nat} {M M' : ps_S} (h : ∀ f, f ≠ 3 → M'.1.1 3 f = M.1.1 3 f) (g : pk_w K wst M) : pk_w K wst M' := ⟨g.1, (h 5 (by omega)).trans g.2.1, fun q => ⟨(h 6 (by omega)).trans (g.2.2 q).1, (g.2.2 q).2⟩⟩
def pk_H (b : Nat → Int) (p : Nat) (K : List pz_T) (c : Nat) (r : Nat × Nat) (M0 : ps_S) (wst : Nat × Nat) (a : Nat) (M : ps_S) : Prop := pk M0 M ∧ pk_C b p K c r M a 0 ∧ pk_w K wst M
def pk_rmd (r : Nat × Nat) (a : Nat) (M : ps_S) : Prop := r.1 ≤ M.2.2.2.1 + 12 * a + 8 ∧ r.2 ≤ M.2.2.2.2 + 60 * a + 28 ∧ 6000 ≤ r.1 ∧ 40000 ≤ r.2
theorem pk_rm_d {r : Nat × Nat} {a : Nat} {M : ps_S} (h : pk_rm r a M) : pk_rmd r a M := ⟨Nat.le_trans h.1 (Nat.le_add_right _ _), Nat.le_trans h.2.1 (Nat.le_add_right _ _), h.2.2⟩
section PT
variable {b : Nat → Int} {p : Nat} {K : List pz_T} {w : Nat → Nat} {c : Nat} {r : Nat × Nat} {M0 M : ps_S} {wst : Nat × Nat} {a : Nat}
theorem pk_tell (h : pk_H b p K c r M0 wst a M) {n t : Nat} (hn : 1 ≤ n ∧ n ≤ 5) (ht : t < K.length ∧ t ≤ 400) : ∃ M', gp_X3_tell w c M (pj n) (pj t) = some M' ∧ pk_H b p K c r M0 (pz_wr wst n t) a M' ∧ M'.2 = M.2 ∧ pk M M' := by
  obtain ⟨h1, h2, h3, h4, h5⟩ := h
  have hset : ∃ M', ((some (ps_sF M 3 5 (pj n))).bind fun M2 => (some (ps_sF M2 3 6 (pj t))).bind fun M3 => some M3) = some M' ∧ pk_H b p K c r M0 (n, t) a M' ∧ M'.2 = M.2 ∧ pk M M' := by
    have hk : pk M (ps_sF (ps_sF M 3 5 (pj n)) 3 6 (pj t)) := pk_trans (pk_sF _ (by omega)) (pk_sF _ (by omega))
    refine ⟨_, rfl, ⟨pk_trans h1 hk, ⟨h2.1, h2.2.1, ?_, ?_, h2.2.2.2.2⟩, hn.2, ?_, fun _ => ⟨ps_sF1s _ _ _ _, ht.1, ht.2⟩⟩, rfl, hk⟩
    · rw [ps_sF1n (by omega), ps_sF1n (by omega)]; exact h2.2.2.1
    · rw [ps_sF1n (by omega), ps_sF1n (by omega)]; exact h2.2.2.2.1
    · rw [ps_sF1n (by omega), ps_sF1s]
  have hkeep : ∃ M', some M = some M' ∧ pk_H b p K c r M0 wst a M' ∧ M'.2 = M.2 ∧ pk M M' := ⟨M, rfl, ⟨h1, h2, h3, h4, h5⟩, rfl, pk_rfl M⟩
  unfold gp_X3_tell pz_wr
  rw [pw_let, h4]
  by_cases c0 : wst.1 = 0
  · rw [if_pos (by rw [c0]; rfl), if_neg (fun q => q.1 c0)]
    exact hset
  · obtain ⟨h6, h7, h8⟩ := h5 c0
    rw [if_neg (by rw [pj_0, pj_eq (by omega) (by omega)]; omega), h6]
    by_cases c1 : wst.2 < t
    · rw [if_pos ((pj_lt (by omega) (by omega)).2 (by omega)), if_pos ⟨c0, Or.inl c1⟩]
      exact hkeep
    · rw [if_neg (by rw [pj_lt (by omega) (by omega)]; omega)]
      by_cases c2 : t = wst.2
      · rw [if_pos (by rw [c2])]
        by_cases c3 : n < wst.1
        · rw [if_pos ((pj_lt (by omega) (by omega)).2 (by omega)), if_neg (fun q => by rcases q.2 with q | q <;> omega)]
          exact hset
        · rw [if_neg (by rw [pj_lt (by omega) (by omega)]; omega), if_pos ⟨c0, Or.inr ⟨c2, by omega⟩⟩]
          exact hkeep
      · rw [if_neg (by rw [pj_eqN (by omega)]; exact c2), if_neg (fun q => by rcases q.2 with q | q <;> omega)]
        exact hset
theorem pk_H_go (h : pk_H b p K c r M0 wst a M) {M' : ps_S} {e : Nat} (hP : pk_P b p K c r M 0 e M') : pk_H b p K c r M0 wst e M' ∧ M'.2 = M.2 ∧ pk M M' := ⟨⟨pk_trans h.1 hP.2.1, hP.2.2.1, pk_w_m hP.2.2.2 h.2.2⟩, by rw [hP.1]; rfl, hP.2.1⟩
theorem pk_H_pass (h : pk_H b p K c r M0 wst a M) (hk : pz_kd K a ≠ 0 ∧ pz_kd K a ≠ 3) : pw (gp_X3_pass w c M) (pk_O (fun q M' => pk_F r M0 q.1 q.2 M') (fun e (_ : Unit) M' => e = a + 1 ∧ pk_H b p K c r M0 wst e M' ∧ M'.2 = M.2 ∧ pk M M') (pz_ps K a)) := by
  refine pw_mono (pk_pass (w := w) h.2.1 hk) (fun z hz => ?_)
  cases hr : pz_ps K a with
  | inl q =>
    rw [hr] at hz
    exact ⟨hz.1, pk_F_le h.1 hz.2⟩
  | inr v =>
    rw [hr] at hz
    obtain ⟨y, e, rfl, hP⟩ := hz
    exact ⟨y, e, rfl, pk_H_go h hP⟩
theorem pk_H_sign (h : pk_H b p K c r M0 wst a M) {k : Nat} (hk : k = 4 ∨ k = 5 ∨ k = 6 ∨ k = 7 ∨ k = 8 ∨ k = 9 ∨ k = 10 ∨ k = 13 ∨ k = 15) : pw (gp_X3_sign w c M (pj (pc_wh k : Nat))) (pk_O (fun q M' => pk_F r M0 q.1 q.2 M') (fun e (_ : Unit) M' => e = a + 1 ∧ pk_H b p K c r M0 wst e M' ∧ M'.2 = M.2 ∧ pk M M') (pz_tk K k a)) := by
  refine pw_mono (pk_sign (w := w) h.2.1 hk) (fun z hz => ?_)
  cases hr : pz_tk K k a with
  | inl q =>
    rw [hr] at hz
    exact ⟨hz.1, pk_F_le h.1 hz.2⟩
  | inr v =>
    rw [hr] at hz
    obtain ⟨y, e, rfl, hP⟩ := hz
    exact ⟨y, e, rfl, pk_H_go h hP⟩
theorem pk_H_take (h : pk_H b p K c r M0 wst a M) {k : Nat} (hk : k = 1 ∨ k = 2) : pw (gp_X3_take w c M (pj (pc_st k : Nat))) (pk_O (fun q M' => pk_F r M0 q.1 q.2 M') (fun e y M' => y = pj a ∧ e = a + 1 ∧ pk_H b p K c r M0 wst e M' ∧ M'.2 = M.2 ∧ pk M M') (pz_tk K k a)) := by
  refine pw_mono (pk_take (w := w) h.2.1 hk) (fun z hz => ?_)
  cases hr : pz_tk K k a with
  | inl q =>
    rw [hr] at hz
    exact ⟨hz.1, pk_F_le h.1 hz.2⟩
  | inr v =>
    rw [hr] at hz
    obtain ⟨y, e, e2, rfl, hP⟩ := hz
    exact ⟨y, e, e2, rfl, pk_H_go h hP⟩
theorem pk_num (h : pk_H b p K c r M0 wst a M) {lo hi : Nat} (hb : lo ≤ 10000 ∧ hi ≤ 10000) :
    pw (gp_X3_number w c M (pj lo) (pj hi)) (pk_O (fun q M' => pk_F r M0 q.1 q.2 M') (fun v y M' => y = pj (v.1 : Nat) ∧ pk_H b p K c r M0 v.2.1 v.2.2 M' ∧ M'.2 = M.2 ∧ pk M M' ∧ v.2.2 = a + 1) (pz_nu K lo hi wst a)) := by
  unfold gp_X3_number pz_nu
  refine pk_sel (Q := pk_O (fun q M' => pk_F r M0 q.1 q.2 M') (fun (v : Nat × (Nat × Nat) × Nat) (y : Int32) M' => y = pj (v.1 : Nat) ∧ pk_H b p K c r M0 v.2.1 v.2.2 M' ∧ M'.2 = M.2 ∧ pk M M' ∧ v.2.2 = a + 1)) (pk_H_take (w := w) h (k := 2) (Or.inr rfl)) (fun q M' hq => ⟨rfl, hq⟩) (fun e y M1 he hv => ?_)
  obtain ⟨rfl, rfl, hH, e2, hk⟩ := hv
  obtain ⟨hkd, -, -⟩ := pz_tk_inr he
  have hal := h.2.1.2.2.2.2.1
  have ha4 := h.2.1.2.2.2.2.2.1
  have hvl := (h.2.1.1.2.1.1.2.1 a).2.2 hkd
  show pw ((gp_X2_number w c M1 (pj (a : Nat))).bind _) _
  rw [pk_number hH.2.1.1 hal hkd, Option.bind_some, pw_let]
  obtain ⟨M2, t1, t2, t3, t4⟩ := pk_tell (w := w) hH (n := 5) (t := a) (by omega) ⟨hal, ha4⟩
  have hJ : pw ((gp_X3_tell w c M1 5 (pj (a : Nat))).bind fun M5 => some (some (pj (pz_vl K a : Nat)), M5)) (pk_O (fun q M' => pk_F r M0 q.1 q.2 M') (fun v y M' => y = pj (v.1 : Nat) ∧ pk_H b p K c r M0 v.2.1 v.2.2 M' ∧ M'.2 = M.2 ∧ pk M M' ∧ v.2.2 = a + 1) (Sum.inr (pz_vl K a, pz_wr wst 5 a, a + 1))) := by
    have t1 : gp_X3_tell w c M1 5 (pj (a : Nat)) = some M2 := t1
    rw [t1]
    exact (pw_some _ _).2 ⟨_, rfl, rfl, t2, t3.trans e2, pk_trans hk t4, rfl⟩
  by_cases d1 : pz_vl K a < lo
  · rw [if_pos ((pj_lt (by omega) (by omega)).2 (by omega)), if_neg (by omega)]
    exact hJ
  · rw [if_neg (by rw [pj_lt (by omega) (by omega)]; omega)]
    by_cases d2 : hi < pz_vl K a
    · rw [if_pos ((pj_lt (by omega) (by omega)).2 (by omega)), if_neg (by omega)]
      exact hJ
    · rw [if_neg (by rw [pj_lt (by omega) (by omega)]; omega), if_pos (by omega)]
      exact (pw_some _ _).2 ⟨_, rfl, rfl, hH, e2, hk, rfl⟩
/-- a token's text is read -/
theorem pk_H_text (h : pk_H b p K c r M0 wst (a + 1) M) (hal : a < K.length) (hkd : pz_kd K a = 1) (hr : pk_rmd r a M) (ha : a ≤ 400) :
    ∃ y M', gp_X2_text w c M (pj (a : Nat)) = some (y, M') ∧ pk_H b p K c r M0 wst (a + 1) M' ∧ pk M M' ∧ M'.1 = M.1 ∧ pk_st (gq M.2.1.2.1 M') y (pz_nm b K a) ∧ pk_rm r (a + 1) M' := by
  obtain ⟨h1, h2, h3⟩ := h
  obtain ⟨r1, r2, r3, r4⟩ := hr
  obtain ⟨y, M', t1, t2, t3, t4, t5, t6⟩ := pk_text (w := w) h2.1 h2.2.1 hal hkd (by omega)
  exact ⟨y, M', t1, ⟨pk_trans h1 t2, pk_C_m h2 t3 (pk_b_le t2 h2.2.1) ⟨by omega, by omega⟩, pk_w_m (fun f _ => by rw [t3]) h3⟩, t2, t3, t4, by omega, by omega, r3, r4⟩
theorem pk_name {X : pz_X} (h : pk_H b p K c r M0 wst a M) (hb0 : pk_b c M0) (hT : pk_T w M0.2.1.2.1 X M) (hr : pk_rmd r a M) :
    pw (gp_X3_name w c M) (pk_O (fun q M' => pk_F r M0 q.1 q.2 M') (fun e y M' => e = a + 1 ∧ pk_H b p K c r M0 (if (pz_ix X.1 (pz_nm b K a)).isSome = true then pz_wr wst 3 a else wst) e M' ∧ pk M M' ∧ pk_st (gq M.2.1.2.1 M') y (pz_nm b K a) ∧ pk_rm r e M') (pz_tk K 1 a)) := by
  have e1 : pz_bd (pz_tk K 1 a) (fun e => (Sum.inr e : pz_R Nat)) = pz_tk K 1 a := by cases pz_tk K 1 a <;> rfl
  rw [← e1]
  unfold gp_X3_name
  refine pk_sel (Q := pk_O (fun q M' => pk_F r M0 q.1 q.2 M') (fun e y M' => e = a + 1 ∧ pk_H b p K c r M0 (if (pz_ix X.1 (pz_nm b K a)).isSome = true then pz_wr wst 3 a else wst) e M' ∧ pk M M' ∧ pk_st (gq M.2.1.2.1 M') y (pz_nm b K a) ∧ pk_rm r e M')) (pk_H_take (w := w) h (k := 1) (Or.inl rfl)) (fun q M' hq => ⟨rfl, hq⟩) (fun e y M1 he hv => ?_)
  obtain ⟨rfl, rfl, hH, e2, hk⟩ := hv
  obtain ⟨hkd, -, -⟩ := pz_tk_inr he
  have hal := h.2.1.2.2.2.2.1
  have ha4 := h.2.1.2.2.2.2.2.1
  obtain ⟨n1, n2⟩ := h.2.1.1.2.1.2.1 a hkd
  obtain ⟨y, M2, t1, t2, t3, t4, t5, t6⟩ := pk_H_text (w := w) (r := r) hH hal hkd (by unfold pk_rmd; rw [e2]; exact hr) ha4
  show pw ((gp_X2_text w c M1 (pj (a : Nat))).bind _) _
  rw [t1, Option.bind_some]
  have hkM := pk_trans hk t3
  obtain ⟨x, l, la, lk, F, G, LF, KF, g1, g2, g3, g4, g5, g6, g7, g8, g9⟩ := pk_T_le hkM hT
  have ax : ps_at c M2 x = some (4, 8, F) := by rw [ps_atN (by have := g2.1; have := hb0.1; omega)]; exact g2.2
  have htx : ps_tx M2 = some x := by unfold ps_tx; rw [g1]
  have hs12 : M1.2.1.2.1 = M.2.1.2.1 := by rw [e2]
  rw [hs12] at t5
  have hM0M : M0.2.1.2.1 ≤ M.2.1.2.1 := h.1.2.1
  have hstr := pk_st_ic (gq_at (M := M2) (Nat.le_trans hb0.1 hM0M)) t5
  have hat := pk_at (w := w) (c := c) hb0.1 g3 g7 hstr (fun x hx => by have := n1 x hx; omega) (by omega)
  show pw ((ps_tx M2).bind _) _
  rw [htx, Option.bind_some]
  show pw ((ps_ck c M2 x 4).bind _) _
  rw [pk_ck ax, Option.bind_some]
  unfold gp_X4_has
  show pw (((ps_gR c M2 x 4 8 0).bind fun y1 => (gp_X4_at w c M2 y1 y).bind fun x2 => if x2 < 0 then some false else some true).bind _) _
  rw [pk_gR ax g6.1, Option.bind_some, hat, Option.bind_some]
  have hlt6 := g7.1
  cases hix : pz_ix X.1 (pz_nm b K a) with
  | none =>
    have : pj (pz_oi none) < 0 := by decide
    rw [if_pos this, Option.bind_some, if_neg (by decide), if_neg (by decide)]
    exact (pw_some _ _).2 ⟨y, rfl, rfl, t2, hkM, t5, t6⟩
  | some k =>
    have hk6 := pz_ix_lt hix
    have : ¬ pj (pz_oi (some k)) < 0 := by rw [py_lt0 (by show -1 ≤ ((k : Nat) : Int) ∧ ((k : Nat) : Int) < 1000; omega)]; show ¬ ((k : Nat) : Int) < 0; omega
    obtain ⟨M3, u1, u2, u3, u4⟩ := pk_tell (w := w) t2 (n := 3) (t := a) (by omega) ⟨hal, ha4⟩
    have u1 : gp_X3_tell w c M2 3 (pj (a : Nat)) = some M3 := u1
    rw [if_neg this, Option.bind_some, if_pos rfl]
    show pw ((gp_X3_tell w c M2 3 (pj (a : Nat))).bind _) _
    rw [u1, Option.bind_some, if_pos (by rfl)]
    refine (pw_some _ _).2 ⟨y, rfl, rfl, u2, pk_trans hkM u4, ?_, ?_⟩
    · have : gq M.2.1.2.1 M3 = gq M.2.1.2.1 M2 := by unfold gq; rw [u3]
      rw [this]; exact t5
    · unfold pk_rm; rw [u3]; exact t6
theorem pk_known {X : pz_X} {x l la lk : Nat} {F G LF KF : Nat → Value} (h : pk_H b p K c r M0 wst a M) (hb0 : pk_b c M0) (hT : pk_TT w M0.2.1.2.1 X M x l la lk F G LF KF) (hr : pk_rmd r a M) :
    pw (gp_X3_known w c M l) (pk_O (fun q M' => pk_F r M0 q.1 q.2 M') (fun v y M' => y = pj (pz_oi v.1) ∧ pk_H b p K c r M0 v.2.1 v.2.2 M' ∧ pk M M' ∧ pk_rm r v.2.2 M' ∧ v.1 = pz_ix X.1 (pz_nm b K a) ∧ v.2.2 = a + 1) (pz_kn b K X.1 wst a)) := by
  unfold gp_X3_known pz_kn
  refine pk_sel (Q := pk_O (fun q M' => pk_F r M0 q.1 q.2 M') (fun (v : Option Nat × (Nat × Nat) × Nat) (y : Int32) M' => y = pj (pz_oi v.1) ∧ pk_H b p K c r M0 v.2.1 v.2.2 M' ∧ pk M M' ∧ pk_rm r v.2.2 M' ∧ v.1 = pz_ix X.1 (pz_nm b K a) ∧ v.2.2 = a + 1)) (pk_H_take (w := w) h (k := 1) (Or.inl rfl)) (fun q M' hq => ⟨rfl, hq⟩) (fun e y M1 he hv => ?_)
  obtain ⟨rfl, rfl, hH, e2, hk⟩ := hv
  obtain ⟨hkd, -, -⟩ := pz_tk_inr he
  have hal := h.2.1.2.2.2.2.1
  have ha4 := h.2.1.2.2.2.2.2.1
  obtain ⟨n1, n2⟩ := h.2.1.1.2.1.2.1 a hkd
  obtain ⟨y, M2, t1, t2, t3, t4, t5, t6⟩ := pk_H_text (w := w) (r := r) hH hal hkd (by unfold pk_rmd; rw [e2]; exact hr) ha4
  show pw ((gp_X2_text w c M1 (pj (a : Nat))).bind _) _
  rw [t1, Option.bind_some]
  have hkM := pk_trans hk t3
  obtain ⟨g1, g2, g3, g4, g5, g6, g7, g8, g9⟩ := pk_TT_le hkM hT
  have hs12 : M1.2.1.2.1 = M.2.1.2.1 := by rw [e2]
  rw [hs12] at t5
  have hM0M : M0.2.1.2.1 ≤ M.2.1.2.1 := h.1.2.1
  have hstr := pk_st_ic (gq_at (M := M2) (Nat.le_trans hb0.1 hM0M)) t5
  have hat := pk_at (w := w) (c := c) hb0.1 g3 g7 hstr (fun x hx => by have := n1 x hx; omega) (by omega)
  show pw ((gp_X4_at w c M2 l y).bind _) _
  rw [hat, Option.bind_some]
  have hlt6 := g7.1
  cases hix : pz_ix X.1 (pz_nm b K a) with
  | none =>
    have : pj (pz_oi none) < 0 := by decide
    obtain ⟨M3, u1, u2, u3, u4⟩ := pk_tell (w := w) t2 (n := 4) (t := a) (by omega) ⟨hal, ha4⟩
    have u1 : gp_X3_tell w c M2 4 (pj (a : Nat)) = some M3 := u1
    rw [if_pos this]
    show pw ((gp_X3_tell w c M2 4 (pj (a : Nat))).bind _) _
    rw [u1, Option.bind_some, if_neg (by decide)]
    exact (pw_some _ _).2 ⟨_, rfl, rfl, u2, pk_trans hkM u4, by unfold pk_rm; rw [u3]; exact t6, rfl, rfl⟩
  | some k =>
    have hk6 := pz_ix_lt hix
    have : ¬ pj (pz_oi (some k)) < 0 := by rw [py_lt0 (by show -1 ≤ ((k : Nat) : Int) ∧ ((k : Nat) : Int) < 1000; omega)]; show ¬ ((k : Nat) : Int) < 0; omega
    rw [if_neg this, if_pos (by rfl)]
    exact (pw_some _ _).2 ⟨_, rfl, rfl, t2, hkM, t6, rfl, rfl⟩
end PT
/-! a text's cells are written to -/
theorem pk_A_upn {s0 a q : Nat} {M : ps_S} {x z : zs_HC} (g : pk_A s0 M q z) (hne : q ≠ a) : pk_A s0 (ps_up M a x) q z := ⟨g.1, by rw [ps_upC, if_neg hne]; exact g.2⟩
section UP
variable {w : Nat → Nat} {s0 : Nat} {X X' : pz_X} {M : ps_S} {x l la lk : Nat} {F G LF KF : Nat → Value}
theorem pk_TT_x (g : pk_TT w s0 X M x l la lk F G LF KF) {F' : Nat → Value} (hF : F' 0 = .ref l ∧ F' 1 = .ref la ∧ F' 2 = .ref lk ∧ F' 3 = .int (pj (X'.2.1 : Nat)) ∧ ∀ k, 4 ≤ k → k ≤ 7 → F' k = .int (pj (X'.2.2.2.1 k : Nat))) (h1 : X'.1 = X.1) (h2 : X'.2.2.1 = X.2.2.1) (h3 : X'.2.2.2.2 = X.2.2.2.2) :
    pk_TT w s0 X' (ps_up M x (4, 8, F')) x l la lk F' G LF KF := by
  obtain ⟨g1, g2, g3, g4, g5, g6, g7, g8, g9⟩ := g
  have e : gq s0 (ps_up M x (4, 8, F')) = gq s0 M := gq_upN g2.2 rfl rfl
  have hA : ∀ q z, pk_A s0 M q z → 4 ≠ z.1 → pk_A s0 (ps_up M x (4, 8, F')) q z := fun q z hq hz => pk_A_up (x := (4, 8, F')) g2 hq hz
  refine ⟨g1, pk_A_ups g2, hA _ _ g3 (by simp), hA _ _ g4 (by simp), hA _ _ g5 (by simp), hF, ?_, ?_, ?_⟩
  · rw [h1]; exact pk_Th_ic (by rw [e]; exact fun _ _ q => q) (fun e E hq => hA _ _ hq (by simp)) g7
  · rw [h3]; exact pk_Tw_ic (by rw [e]; exact fun _ _ q => q) g8
  · rw [h2]
    intro i hi
    obtain ⟨q1, R, q2, q3⟩ := g9 i hi
    exact ⟨q1, R, hA _ _ q2 (by simp), q3⟩
theorem pk_TT_la (g : pk_TT w s0 X M x l la lk F G LF KF) {k y : Nat} {L : zl_L} (hk : k < 4) (hL : zl_lawof (gq s0 M) y = some L) :
    pk_TT w s0 (pz_sw X k L) (ps_up M la (69, 4, updV LF k (.ref y))) x l la lk F G (updV LF k (.ref y)) KF := by
  obtain ⟨g1, g2, g3, g4, g5, g6, g7, g8, g9⟩ := g
  have e : gq s0 (ps_up M la (69, 4, updV LF k (.ref y))) = gq s0 M := gq_upN g4.2 rfl rfl
  have hA : ∀ q z, pk_A s0 M q z → 69 ≠ z.1 → pk_A s0 (ps_up M la (69, 4, updV LF k (.ref y))) q z := fun q z hq hz => pk_A_up (x := (69, 4, updV LF k (.ref y))) g4 hq hz
  refine ⟨g1, hA _ _ g2 (by simp), hA _ _ g3 (by simp), pk_A_ups g4, hA _ _ g5 (by simp), g6, ?_, fun j hj => ?_, ?_⟩
  · exact pk_Th_ic (by rw [e]; exact fun _ _ q => q) (fun e E hq => hA _ _ hq (by simp)) g7
  · show ((if j = k then some L else X.2.2.2.2 j) = none → _) ∧ ∀ L', (if j = k then some L else X.2.2.2.2 j) = some L' → _
    by_cases c : j = k
    · rw [if_pos c]
      refine ⟨fun q => (by cases q), fun L' q => ?_⟩
      injection q with q
      subst q
      exact ⟨y, by rw [c, updV_s], by rw [e]; exact hL⟩
    · rw [if_neg c, updV_n c, e]
      exact g8 j hj
  · intro i hi
    obtain ⟨q1, R, q2, q3⟩ := g9 i hi
    exact ⟨q1, R, hA _ _ q2 (by simp), q3⟩
theorem pk_TT_row (g : pk_TT w s0 X M x l la lk F G LF KF) {i j v : Nat} (hi : i < 6) : ∃ R, pk_A s0 M (lk + 1 + i) (64, 6, R) ∧ pk_TT w s0 (X.1, X.2.1, pz_up2 X.2.2.1 i j v, X.2.2.2) (ps_up M (lk + 1 + i) (64, 6, updV R j (.int (pj (v : Nat))))) x l la lk F G LF KF := by
  obtain ⟨g1, g2, g3, g4, g5, g6, g7, g8, g9⟩ := g
  obtain ⟨q1, R, q2, q3⟩ := g9 i hi
  have e : gq s0 (ps_up M (lk + 1 + i) (64, 6, updV R j (.int (pj (v : Nat))))) = gq s0 M := gq_upN q2.2 rfl rfl
  have hA : ∀ q z, pk_A s0 M q z → 64 ≠ z.1 → pk_A s0 (ps_up M (lk + 1 + i) (64, 6, updV R j (.int (pj (v : Nat))))) q z := fun q z hq hz => pk_A_up (x := (64, 6, updV R j (.int (pj (v : Nat))))) q2 hq hz
  refine ⟨R, q2, g1, hA _ _ g2 (by simp), hA _ _ g3 (by simp), hA _ _ g4 (by simp), hA _ _ g5 (by simp), g6, ?_, ?_, fun i' hi' => ?_⟩
  · exact pk_Th_ic (by rw [e]; exact fun _ _ q => q) (fun e E hq => hA _ _ hq (by simp)) g7
  · exact pk_Tw_ic (by rw [e]; exact fun _ _ q => q) g8
  · obtain ⟨p1, R', p2, p3⟩ := g9 i' hi'
    refine ⟨p1, ?_⟩
    by_cases c : i' = i
    · subst c
      refine ⟨_, pk_A_ups q2, fun j' hj' => ?_⟩
      show _ = Value.int (pj ((pz_up2 X.2.2.1 i' j v i' j' : Nat) : Int))
      unfold pz_up2
      by_cases d : j' = j
      · rw [d, updV_s, if_pos ⟨rfl, rfl⟩]
      · rw [updV_n d, if_neg (fun q => d q.2)]; exact q3 j' hj'
    · refine ⟨R', pk_A_upn p2 (by omega), fun j' hj' => ?_⟩
      show _ = Value.int (pj ((pz_up2 X.2.2.1 i j v i' j' : Nat) : Int))
      unfold pz_up2
      rw [if_neg (fun q => c q.1)]; exact p3 j' hj'
theorem pk_TT_l (g : pk_TT w s0 X M x l la lk F G LF KF) {G' : Nat → Value} (h1 : pk_Th w s0 G' X'.1 (ps_up M l (17, 3, G'))) (h2 : X'.2 = X.2) : pk_TT w s0 X' (ps_up M l (17, 3, G')) x l la lk F G' LF KF := by
  obtain ⟨g1, g2, g3, g4, g5, g6, g7, g8, g9⟩ := g
  have e : gq s0 (ps_up M l (17, 3, G')) = gq s0 M := gq_upN g3.2 rfl rfl
  have hA : ∀ q z, pk_A s0 M q z → 17 ≠ z.1 → pk_A s0 (ps_up M l (17, 3, G')) q z := fun q z hq hz => pk_A_up (x := (17, 3, G')) g3 hq hz
  refine ⟨g1, hA _ _ g2 (by simp), pk_A_ups g3, hA _ _ g4 (by simp), hA _ _ g5 (by simp), by rw [h2]; exact g6, h1, ?_, ?_⟩
  · rw [h2]; exact pk_Tw_ic (by rw [e]; exact fun _ _ q => q) g8
  · rw [h2]
    intro i hi
    obtain ⟨q1, R, q2, q3⟩ := g9 i hi
    exact ⟨q1, R, hA _ _ q2 (by simp), q3⟩
end UP
/-! fields and laws told -/
def pk_QT (b : Nat → Int) (p : Nat) (K : List pz_T) (w : Nat → Nat) (c : Nat) (r : Nat × Nat) (M0 : ps_S) : pz_R (pz_X × (Nat × Nat) × Nat) → Option Unit × ps_S → Prop := pk_O (fun q M' => pk_F r M0 q.1 q.2 M') (fun v _ M' => pk_H b p K c r M0 v.2.1 v.2.2 M' ∧ pk_T w M0.2.1.2.1 v.1 M' ∧ pk_rmd r v.2.2 M' ∧ v.1.2.1 ≤ 20)
section TF
variable {b : Nat → Int} {p : Nat} {K : List pz_T} {w : Nat → Nat} {c : Nat} {r : Nat × Nat} {M0 M : ps_S} {wst : Nat × Nat} {a : Nat} {X : pz_X}
theorem pk_rm_go {r : Nat × Nat} {M M' : ps_S} {a : Nat} (h : pk_rm r a M) (e : M'.2 = M.2) (n : Nat) : pk_rm r (a + n) M' := by
  obtain ⟨h1, h2, h3, h4⟩ := h
  unfold pk_rm
  rw [e]
  exact ⟨by omega, by omega, h3, h4⟩
theorem pk_H_up (h : pk_H b p K c r M0 wst a M) {q : Nat} (hq : M0.2.1.2.1 ≤ q) (x : zs_HC) : pk_H b p K c r M0 wst a (ps_up M q x) := ⟨pk_up _ h.1 hq, pk_C_m h.2.1 rfl h.2.1.2.1 h.2.1.2.2.2.2.2.2.2, h.2.2⟩
theorem pk_fi (h : pk_H b p K c r M0 wst a M) (hb0 : pk_b c M0) (hT : pk_T w M0.2.1.2.1 X M) (hr : pk_rm r a M) (h20 : X.2.1 ≤ 20) (hk : pz_kd K a ≠ 0 ∧ pz_kd K a ≠ 3) {lo hi k : Nat} (hb : lo ≤ 10000 ∧ hi ≤ 10000) (hk2 : 4 ≤ k ∧ k ≤ 7) :
    pw ((gp_X3_pass w c M).bind (zx_sel (fun M56 => ((none : Option Unit), M56)) fun (p55 : Unit × ps_S) =>
      (ps_tx p55.2).bind fun y57 =>
      (gp_X3_number w c p55.2 (pj lo) (pj hi)).bind (zx_sel (fun M59 => (none, M59)) fun (p58 : Int32 × ps_S) =>
      (ps_pV c p58.2 y57 4 8 k (.int p58.1)).bind fun M60 =>
      some (some (), M60)))) (pk_QT b p K w c r M0 (pz_bd (pz_ps K a) fun a1 => pz_fi K X wst k lo hi a1)) := by
  refine pk_sel (Q := pk_QT b p K w c r M0) (pk_H_pass (w := w) h hk) (fun q M' hq => ⟨rfl, hq⟩) (fun e u M1 _ hv => ?_)
  obtain ⟨rfl, hH, e2, k1⟩ := hv
  obtain ⟨x, l, la, lk, F, G, LF, KF, g⟩ := pk_T_eq e2 hT
  have htx : ps_tx M1 = some x := by unfold ps_tx; rw [g.1]
  show pw ((ps_tx M1).bind _) _
  rw [htx, Option.bind_some]
  unfold pz_fi
  refine pk_sel (Q := pk_QT b p K w c r M0) (pk_num (w := w) hH hb) (fun q M' hq => ⟨rfl, hq⟩) (fun v y M2 _ hv => ?_)
  obtain ⟨rfl, hH2, e3, k2, hv22⟩ := hv
  have g2 := pk_TT_le k2 g
  have hx := g2.2.1
  have hbase : M2.2.1.1 ≤ c := hH2.2.1.2.1.2
  have hp := pk_pV (c := c) (k := k) (.int (pj (v.1 : Nat))) (by have := hx.1; have := hb0.1; omega) hbase hx.2
  show pw ((ps_pV c M2 x 4 8 k (.int (pj (v.1 : Nat)))).bind _) _
  rw [hp, Option.bind_some, pw_some]
  obtain ⟨f0, f1, f2, f3, f4⟩ := g2.2.2.2.2.2.1
  refine ⟨(), rfl, pk_H_up hH2 hx.1.1 _, ⟨x, l, la, lk, _, G, LF, KF, pk_TT_x (X' := pz_se X k v.1) g2 ⟨?_, ?_, ?_, ?_, fun j h1 h2 => ?_⟩ rfl rfl rfl⟩, ?_, h20⟩
  · rw [updV_n (by omega)]; exact f0
  · rw [updV_n (by omega)]; exact f1
  · rw [updV_n (by omega)]; exact f2
  · rw [updV_n (by omega)]; exact f3
  · show updV F k _ j = .int (pj ((if j = k then v.1 else X.2.2.2.1 j : Nat) : Int))
    by_cases cc : j = k
    · rw [if_pos cc, cc, updV_s]
    · rw [if_neg cc, updV_n cc]; exact f4 j h1 h2
  · have hrm : pk_rm r (a + 2) M2 := pk_rm_go hr (e3.trans e2) 2
    show pk_rmd r v.2.2 _
    rw [hv22]
    exact pk_rm_d hrm
theorem pk_tlaw (h : pk_H b p K c r M0 wst a M) (hb0 : pk_b c M0) (hT : pk_T w M0.2.1.2.1 X M) (hr : pk_rm r a M) (h20 : X.2.1 ≤ 20) {k : Nat} (hk : k < 4) (hkd : pz_kd K a ≠ 0 ∧ pz_kd K a ≠ 3) {i : Int32} (hi : i = pj (k : Nat)) :
    pw ((gp_X3_pass w c M).bind (zx_sel (fun M81 => ((none : Option Unit), M81)) fun (p80 : Unit × ps_S) =>
      (ps_tx p80.2).bind fun y82 =>
      (ps_gR c p80.2 y82 4 8 1).bind fun y83 =>
      (gp_X3_law w c p80.2).bind (zx_sel (fun M85 => (none, M85)) fun (p84 : Nat × ps_S) =>
      (ps_ck c p84.2 p84.1 11).bind fun _ => (ps_pA c p84.2 y83 5 i (.ref p84.1)).bind fun M86 =>
      some (some (), M86)))) (pk_QT b p K w c r M0 (pz_bd (pz_ps K a) fun a1 => pz_bd (pz_law K a1) fun r => Sum.inr (pz_sw X k r.1, wst, r.2))) := by
  subst hi
  refine pk_sel (Q := pk_QT b p K w c r M0) (pk_H_pass (w := w) h hkd) (fun q M' hq => ⟨rfl, hq⟩) (fun e u M1 _ hv => ?_)
  obtain ⟨rfl, hH, e2, k1⟩ := hv
  obtain ⟨x, l, la, lk, F, G, LF, KF, g⟩ := pk_T_eq e2 hT
  have htx : ps_tx M1 = some x := by unfold ps_tx; rw [g.1]
  have ax : ps_at c M1 x = some (4, 8, F) := by rw [ps_atN (by have := g.2.1.1; have := hb0.1; omega)]; exact g.2.1.2
  show pw ((ps_tx M1).bind _) _
  rw [htx, Option.bind_some]
  show pw ((ps_gR c M1 x 4 8 1).bind _) _
  rw [pk_gR ax g.2.2.2.2.2.1.2.1, Option.bind_some]
  refine pk_sel (Q := pk_QT b p K w c r M0) (pk_law (w := w) hH.2.1 (pk_rm_go (r := r) hr e2 1)) (fun q M' hq => ⟨rfl, pk_F_le hH.1 hq⟩) (fun v y M2 _ hv => ?_)
  obtain ⟨v1, v2, v3, v4, v5⟩ := hv
  have hs : M0.2.1.2.1 ≤ M1.2.1.2.1 := hH.1.2.1
  have v5' := zl_lawof_ic (gq_le (pk_rfl M2) hs) v5
  have g2 := pk_TT_le v1 g
  have hla := g2.2.2.2.1
  have hck : ps_ck c M2 y 11 = some () := by
    unfold zl_lawof at v5'
    split at v5'
    · rename_i F' hF'
      exact pk_ck (gq_at (M := M2) hb0.1 _ _ hF')
    · cases v5'
  show pw ((ps_ck c M2 y 11).bind _) _
  rw [hck, Option.bind_some]
  have hp := pk_pA (c := c) (t := 5) (i := k) (.ref y) (by have := hla.1; have := hb0.1; omega) v2.2.1.2 hla.2 hk (by omega)
  show pw ((ps_pA c M2 la 5 (pj (k : Nat)) (.ref y)).bind _) _
  rw [hp, Option.bind_some, pw_some]
  have hH2 : pk_H b p K c r M0 wst v.2 M2 := ⟨pk_trans hH.1 v1, v2, pk_w_m v4 hH.2.2⟩
  exact ⟨(), rfl, pk_H_up hH2 hla.1.1 _, ⟨x, l, la, lk, F, G, _, KF, pk_TT_la g2 hk v5'⟩, pk_rm_d v3, h20⟩
end TF
/-! a house is told, by the component -/
theorem pk_TT_new {w : Nat → Nat} {s0 : Nat} {X X' : pz_X} {M M' : ps_S} {x l la lk : Nat} {F G G' LF KF : Nat → Value} (g : pk_TT w s0 X M x l la lk F G LF KF) (h1 : M'.2.2.1 = M.2.2.1) (hic : pk_ic (gq s0 M) (gq s0 M')) (hA : ∀ q z, pk_A s0 M q z → z.1 ≠ 17 → z.1 ≠ 73 → pk_A s0 M' q z) (hl : pk_A s0 M' l (17, 3, G')) (hT : pk_Th w s0 G' X'.1 M') (h2 : X'.2 = X.2) : pk_TT w s0 X' M' x l la lk F G' LF KF := by
  obtain ⟨g1, g2, g3, g4, g5, g6, g7, g8, g9⟩ := g
  refine ⟨h1.trans g1, hA _ _ g2 (by simp) (by simp), hl, hA _ _ g4 (by simp) (by simp), hA _ _ g5 (by simp) (by simp), by rw [h2]; exact g6, hT, ?_, ?_⟩
  · rw [h2]; exact pk_Tw_ic hic g8
  · rw [h2]
    intro i hi
    obtain ⟨q1, R, q2, q3⟩ := g9 i hi
    exact ⟨q1, R, hA _ _ q2 (by simp) (by simp), q3⟩
theorem pk_add {w : Nat → Nat} {c s0 : Nat} {X : pz_X} {M : ps_S} {x l la lk z : Nat} {F G LF KF f FE : Nat → Value} {nm : List Nat} {v1 v2 s : Nat} (hc : c + 561 ≤ s0) (hb : M.2.1.1 ≤ c) (g : pk_TT w s0 X M x l la lk F G LF KF) (h6 : X.1.length < 6) (hz : gq s0 M z = some (16, 3, f)) (hf : f 0 = .ref s ∧ f 1 = .int (pj (v1 : Nat)) ∧ f 2 = .int (pj (v2 : Nat))) (hs : pk_st (gq s0 M) s nm) (hn : (∀ q ∈ nm, q < 128) ∧ nm.length ≤ 8) (hE : ps_at c M (w 100) = some (73, 0, FE)) (hE2 : w 100 < s0) (hr : 1 ≤ M.2.2.2.1 ∧ 10 ≤ M.2.2.2.2) :
    ∃ M', gp_J5_add w c M l z = some (true, M') ∧ pk_T w s0 (X.1 ++ [(nm, v1, v2)], X.2) M' ∧ (∀ M0, pk M0 M → M0.2.1.2.1 ≤ s0 → pk M0 M') ∧ M'.1 = M.1 ∧ M.2.2.2.1 ≤ M'.2.2.2.1 + 1 ∧ M.2.2.2.2 ≤ M'.2.2.2.2 + 10 := by
  obtain ⟨g1, g2, g3, g4, g5, g6, ⟨t1, ⟨m, t2⟩, t3, t4⟩, g8, g9⟩ := id g
  have hl := g3.1
  have al : ps_at c M l = some (17, 3, G) := by rw [ps_atN (by omega)]; exact g3.2
  have hlc : c + 561 ≤ l := by omega
  have hpa := pk_pV (c := c) (k := 0) (.int (m + 1)) hlc hb g3.2
  generalize hG1 : updV G 0 (.int (m + 1)) = G1 at hpa
  have G11 : G1 1 = G 1 := by rw [← hG1, updV_n (by decide)]
  have G12 : G1 2 = .int (pj (X.1.length : Nat)) := by rw [← hG1, updV_n (by decide)]; exact t3
  have G10 : ∃ m, G1 0 = .int m := ⟨_, by rw [← hG1, updV_s]⟩
  have gqa : gq s0 (ps_up M l (17, 3, G1)) = gq s0 M := gq_upN g3.2 rfl rfl
  have Aa : ∀ q y, pk_A s0 M q y → y.1 ≠ 17 → pk_A s0 (ps_up M l (17, 3, G1)) q y := fun q y hq hy => pk_A_up (x := (17, 3, G1)) g3 hq (Ne.symm hy)
  have la' : pk_A s0 (ps_up M l (17, 3, G1)) l (17, 3, G1) := pk_A_ups g3
  have pka : ∀ M0, pk M0 M → M0.2.1.2.1 ≤ s0 → pk M0 (ps_up M l (17, 3, G1)) := fun M0 h1 h2 => pk_up _ h1 (by omega)
  have hEa : ps_at c (ps_up M l (17, 3, G1)) (w 100) = some (73, 0, FE) := by
    have : w 100 ≠ l := by omega
    unfold ps_at at hE ⊢
    show (if _ then none else (if w 100 = l then _ else M.2.1.2.2 (w 100))) = _
    rw [if_neg this]; exact hE
  have ha2 : (ps_up M l (17, 3, G1)).2.2 = M.2.2 := rfl
  have ha1 : (ps_up M l (17, 3, G1)).1 = M.1 := rfl
  have hab : (ps_up M l (17, 3, G1)).2.1.1 = M.2.1.1 := rfl
  have has : (ps_up M l (17, 3, G1)).2.1.2.1 = M.2.1.2.1 := rfl
  unfold gp_J5_add
  rw [pk_gI al t2, Option.bind_some, hpa, Option.bind_some]
  generalize ps_up M l (17, 3, G1) = Ma at gqa Aa la' pka hEa ha2 ha1 hab has hpa
  have ala : ps_at c Ma l = some (17, 3, G1) := by rw [ps_atN hlc]; exact la'.2
  -- what is stored
  have fin : ∀ (Mb : ps_S) (e : Nat) (E G2 : Nat → Value), pk_A s0 Mb l (17, 3, G2) → (∃ m, G2 0 = .int m) → G2 1 = .ref e → pk_A s0 Mb e (73, 10, E) → Mb.2.1.1 ≤ c → pk_ic (gq s0 M) (gq s0 Mb) → (∀ q y, pk_A s0 M q y → y.1 ≠ 17 → y.1 ≠ 73 → pk_A s0 Mb q y) → Mb.2.2.1 = M.2.2.1 → (∀ (k : Nat) h, X.1[k]? = some h → ∃ y f s, E k = .ref y ∧ gq s0 M y = some (16, 3, f) ∧ f 0 = .ref s ∧ f 1 = .int (pj (h.2.1 : Nat)) ∧ f 2 = .int (pj (h.2.2 : Nat)) ∧ pk_st (gq s0 M) s h.1 ∧ (∀ x ∈ h.1, x < 128) ∧ h.1.length ≤ 8) →
      ∃ M', ((ps_ck c Mb z 16).bind fun _ => (ps_pA c Mb e 9 (pj (X.1.length : Nat)) (.ref z)).bind fun M3 => (ps_pV c M3 l 17 3 2 (.int (pj (X.1.length : Nat) + 1))).bind fun M4 => some M4) = some M' ∧ pk_T w s0 (X.1 ++ [(nm, v1, v2)], X.2) M' ∧ (∀ M0, pk M0 Mb → M0.2.1.2.1 ≤ s0 → pk M0 M') ∧ M'.1 = Mb.1 ∧ M'.2.2 = Mb.2.2 := by
    intro Mb e E G2 bl b0 b1 be bb bic bA bt bh
    have bz := gq_at (c := c) (M := Mb) hc _ _ (bic _ _ hz)
    have hel : e ≠ l := fun q => by
      have e1 := be.2
      rw [q, bl.2] at e1
      injection e1 with e1
      injection e1 with e1
      cases e1
    have p1 := pk_pA (c := c) (t := 9) (i := X.1.length) (n := 10) (.ref z) (by have := be.1; omega) bb be.2 (by omega) (by omega)
    have p2 := pk_pV (M := ps_up Mb e (73, 10, updV E X.1.length (.ref z))) (c := c) (k := 2) (F := G2) (.int (pj (X.1.length : Nat) + 1)) hlc bb (by rw [ps_upC, if_neg (Ne.symm hel)]; exact bl.2)
    have gq3 : gq s0 (ps_up Mb e (73, 10, updV E X.1.length (.ref z))) = gq s0 Mb := gq_upN be.2 rfl rfl
    have bl3 : pk_A s0 (ps_up Mb e (73, 10, updV E X.1.length (.ref z))) l (17, 3, G2) := pk_A_upn bl (Ne.symm hel)
    have gq4 : gq s0 (ps_up (ps_up Mb e (73, 10, updV E X.1.length (.ref z))) l (17, 3, updV G2 2 (.int (pj (X.1.length : Nat) + 1)))) = gq s0 Mb := by
      rw [gq_upN bl3.2 rfl rfl, gq3]
    have A4 : ∀ q y, pk_A s0 M q y → y.1 ≠ 17 → y.1 ≠ 73 → pk_A s0 (ps_up (ps_up Mb e (73, 10, updV E X.1.length (.ref z))) l (17, 3, updV G2 2 (.int (pj (X.1.length : Nat) + 1)))) q y := fun q y hq n1 n2 => pk_A_up (x := (17, 3, updV G2 2 (.int (pj (X.1.length : Nat) + 1)))) bl3 (pk_A_up (x := (73, 10, updV E X.1.length (.ref z))) be (bA q y hq n1 n2) (Ne.symm n2)) (Ne.symm n1)
    have e4 : pk_A s0 (ps_up (ps_up Mb e (73, 10, updV E X.1.length (.ref z))) l (17, 3, updV G2 2 (.int (pj (X.1.length : Nat) + 1)))) e (73, 10, updV E X.1.length (.ref z)) := pk_A_upn (pk_A_ups be) hel
    refine ⟨ps_up (ps_up Mb e (73, 10, updV E X.1.length (.ref z))) l (17, 3, updV G2 2 (.int (pj (X.1.length : Nat) + 1))), ?_, ⟨x, l, la, lk, F, _, LF, KF, pk_TT_new g bt (by rw [gq4]; exact bic) A4 (pk_A_ups bl3) ?_ rfl⟩, fun M0 h1 h2 => pk_up _ (pk_up _ h1 (by have := be.1; omega)) (by omega), rfl, rfl⟩
    · rw [pk_ck bz, Option.bind_some, p1, Option.bind_some, p2]; rfl
    · have hlen : (X.1 ++ [(nm, v1, v2)]).length = X.1.length + 1 := by rw [List.length_append]; rfl
      refine ⟨by show (X.1 ++ [(nm, v1, v2)]).length ≤ 6; omega, ?_, ?_, Or.inr ⟨e, _, ?_, e4, fun k h hk => ?_⟩⟩
      · obtain ⟨m2, b0⟩ := b0
        exact ⟨m2, by rw [updV_n (by decide)]; exact b0⟩
      · show updV G2 2 _ 2 = .int (pj ((X.1 ++ [(nm, v1, v2)]).length : Nat))
        rw [updV_s, hlen, pj_1, pj_add]; rfl
      · rw [updV_n (by decide)]; exact b1
      · rcases pz_app_get hk with ⟨j1, j2⟩ | ⟨j1, j2⟩
        · obtain ⟨y, f', s', q1, q2, q3, q4, q5, q6, q7⟩ := bh k h j2
          refine ⟨y, f', s', by rw [updV_n (by omega)]; exact q1, ?_, q3, q4, q5, ?_, q7⟩
          · rw [gq4]; exact bic _ _ q2
          · rw [gq4]; exact pk_st_ic bic q6
        · subst j1 j2
          refine ⟨z, f, s, updV_s _ _ _, ?_, hf.1, hf.2.1, hf.2.2, ?_, hn⟩
          · rw [gq4]; exact bic _ _ hz
          · rw [gq4]; exact pk_st_ic bic hs
  rcases t4 with ⟨u1, u2⟩ | ⟨e, E, u1, u2, u3⟩
  · have hn0 : X.1.length = 0 := by rw [u1]; rfl
    rw [hn0] at G12 fin
    rw [pk_gR ala (by rw [G11]; exact u2), Option.bind_some, pk_gI ala G12, Option.bind_some, pk_ck ala, Option.bind_some]
    unfold gp_J5_add_2
    rw [pk_ln (t := 9) hEa, Option.bind_some, if_pos rfl, pk_ck ala, Option.bind_some]
    obtain ⟨Mb, b1, b2, b3, b4, b5, b6, b7⟩ := pk_na (M := Ma) 9 .null (z := 10) (by omega) (by rw [ha2]; exact hr)
    have b4 : Mb.2.1.2.2 Ma.2.1.2.1 = some (73, 10, fun _ => .null) := b4
    have lb : Mb.2.1.2.2 l = some (17, 3, G1) := b2.2.2.1 _ _ la'.1.2 la'.2
    have hbb : Mb.2.1.1 ≤ c := by rw [b2.1, hab]; exact hb
    have p1 := pk_pV (c := c) (k := 1) (.ref Ma.2.1.2.1) hlc hbb lb
    have hgrow : gp_J5_grow w c Ma l = some (Ma.2.1.2.1, ps_up Mb l (17, 3, updV G1 1 (.ref Ma.2.1.2.1))) := by
      unfold gp_J5_grow gp_J5_grow_2
      rw [pk_gI ala G12, Option.bind_some, pk_ck ala, Option.bind_some, pk_gR ala (by rw [G11]; exact u2), Option.bind_some, pk_ln (t := 9) hEa, Option.bind_some, if_neg (by decide), Option.bind_some, if_pos rfl]
      rw [show zs_max 10 (pj ((0 : Nat) : Int) + 1) = pj ((10 : Nat) : Int) from by decide, b1, Option.bind_some]
      show (((ps_pV c Mb l 17 3 1 (.ref Ma.2.1.2.1)).bind _).bind _) = _
      rw [p1]; rfl
    rw [hgrow, Option.bind_some, Option.bind_some]
    have lc : pk_A s0 Mb l (17, 3, G1) := ⟨⟨hl.1, by rw [b3, has]; omega⟩, lb⟩
    obtain ⟨M', v1', v2', v3', v4', v5'⟩ := fin (ps_up Mb l (17, 3, updV G1 1 (.ref Ma.2.1.2.1))) Ma.2.1.2.1 (fun _ => .null) (updV G1 1 (.ref Ma.2.1.2.1)) (pk_A_ups lc) (by obtain ⟨m2, q⟩ := G10; exact ⟨m2, by rw [updV_n (by decide)]; exact q⟩) (updV_s _ _ _) (pk_A_upn ⟨⟨by rw [has]; omega, by rw [b3]; omega⟩, b4⟩ (by rw [has]; omega)) hbb (by
        rw [gq_upN lb rfl rfl, ← gqa]
        exact gq_le b2 (Nat.le_refl _)) (fun q y hq n1 n2 => pk_A_up (x := (17, 3, updV G1 1 (.ref Ma.2.1.2.1))) lc (pk_A_le b2 (Aa q y hq n1)) (Ne.symm n1)) (by show Mb.2.2.1 = _; rw [b2.2.2.2.2.2, ha2]) (fun k h hk => by rw [u1] at hk; cases hk)
    refine ⟨M', ?_, v2', fun M0 h1 h2 => v3' M0 (pk_up _ (pk_trans (pka M0 h1 h2) b2) (by omega)) h2, ?_, ?_, ?_⟩
    · show (((ps_ck c _ z 16).bind _).bind _) = _
      rw [v1']; rfl
    · rw [v4']; show Mb.1 = _; rw [b5, ha1]
    · rw [v5']; show _ ≤ Mb.2.2.2.1 + 1; rw [b6, ha2]; omega
    · rw [v5']; show _ ≤ Mb.2.2.2.2 + 10; rw [b7, ha2]; omega
  · have ae : pk_A s0 Ma e (73, 10, E) := Aa _ _ u2 (by simp)
    have ate : ps_at c Ma e = some (73, 10, E) := by rw [ps_atN (by have := ae.1; omega)]; exact ae.2
    rw [pk_gR ala (by rw [G11]; exact u1), Option.bind_some, pk_gI ala G12, Option.bind_some, pk_ck ala, Option.bind_some]
    unfold gp_J5_add_2
    rw [pk_ln (t := 9) ate, Option.bind_some, if_neg (by rw [pj_eqN (by omega)]; omega), Option.bind_some]
    obtain ⟨M', v1', v2', v3', v4', v5'⟩ := fin Ma e E G1 la' G10 (by rw [G11]; exact u1) ae (by rw [hab]; exact hb) (by rw [gqa]; exact fun _ _ q => q) (fun q y hq n1 n2 => Aa q y hq n1) (by rw [ha2]) u3
    refine ⟨M', ?_, v2', fun M0 h1 h2 => v3' M0 (pka M0 h1 h2) h2, ?_, ?_, ?_⟩
    · show (((ps_ck c Ma z 16).bind _).bind _) = _
      rw [v1']; rfl
    · rw [v4', ha1]
    · rw [v5', ha2]; omega
    · rw [v5', ha2]; omega
