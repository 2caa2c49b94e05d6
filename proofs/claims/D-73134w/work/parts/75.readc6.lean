set_option maxRecDepth 100000
/-! reading by the component, whole; the text that is read off the heap -/
def pkR (M M' : ps_S) : Prop := M'.2.1.1 = M.2.1.1 ∧ M.2.1.2.1 ≤ M'.2.1.2.1 ∧ (∀ a x, a < M.2.1.2.1 → M.2.1.2.2 a = some x → M'.2.1.2.2 a = some x) ∧ (∀ o f, ¬ (o = 2 ∧ 3 ≤ f ∧ f ≤ 6) → M'.1.2 o f = M.1.2 o f) ∧ (∀ o f, ¬ (o = 2 ∧ f = 7) → ¬ (o = 3 ∧ 3 ≤ f ∧ f ≤ 6) → ¬ (o = 1 ∧ (f = 6 ∨ f = 7)) → M'.1.1 o f = M.1.1 o f) ∧ M.2.2.2.1 ≤ M'.2.2.2.1 + 5010 ∧ M.2.2.2.2 ≤ M'.2.2.2.2 + 25057
theorem pk_read {b : Nat → Int} {p : Nat} {w : Nat → Nat} {c : Nat} {M : ps_S} {FE : Nat → Value} (h : pc_by b p M) (hW : ∀ (j : Nat) u, pr_words[j]? = some u → pk_st (ps_at c M) (w j) u) (hb : pk_b c M) (hE : M.2.1.2.2 (w 100) = some (73, 0, FE)) (hE2 : w 100 < M.2.1.2.1 ∧ ¬ (c ≤ w 100 ∧ w 100 < c + 561 ∧ ¬ (c + 10 ≤ w 100 ∧ w 100 < c + 20))) (hr : 6010 ≤ M.2.2.2.1 ∧ 40057 ≤ M.2.2.2.2) :
    pw (gp_X3_read w c M) (pk_O (fun q M' => pkR M M' ∧ M'.1.1 1 6 = pj (q.1 : Nat) ∧ M'.1.1 1 7 = pj (q.2 : Nat)) (fun X y M' => pkR M M' ∧ pk_T w M.2.1.2.1 X M' ∧ M'.2.2.1 = .ref y) (pz_read b (pz_K b p))) := by
  obtain ⟨M1, a1, a2, a3⟩ := pc_read (w := w) (c := c) h hW
  have hb1 : pk_b c M1 := by unfold pk_b; rw [a2.1]; exact hb
  have hs1 : M1.2.1.2.1 = M.2.1.2.1 := by rw [a2.1]
  obtain ⟨Mz, M3, c1, c2, c3, c4, c5, c6, c7⟩ := pk_newtext (w := w) hb1 (by rw [a2.1]; omega)
  -- the state that rows are told into
  have hk3 := pk_sT (x := M1.2.1.2.1) c3
  have hk6 : pk (ps_sT M1 M1.2.1.2.1) (ps_sF (ps_sF (ps_sF (ps_sT M3 M1.2.1.2.1) 3 3 0) 3 4 0) 3 5 0) := pk_trans (pk_trans (pk_trans hk3 (pk_sF _ (by omega))) (pk_sF _ (by omega))) (pk_sF _ (by omega))
  have hlen := (pz_K_ok (b := b) h.1).1.1
  have hrm : pk_rm (M.2.2.2.1 - 10, M.2.2.2.2 - 57) 0 (ps_sF (ps_sF (ps_sF (ps_sT M3 M1.2.1.2.1) 3 3 0) 3 4 0) 3 5 0) := by
    refine ⟨?_, ?_, by show 6000 ≤ M.2.2.2.1 - 10; omega, by show 40000 ≤ M.2.2.2.2 - 57; omega⟩
    · show M.2.2.2.1 - 10 ≤ M3.2.2.2.1 + 12 * 0
      rw [c5, a2.1]; omega
    · show M.2.2.2.2 - 57 ≤ M3.2.2.2.2 + 60 * 0
      rw [c6, a2.1]; omega
  have hH : pk_H b p (pz_K b p) c (M.2.2.2.1 - 10, M.2.2.2.2 - 57) (ps_sT M1 M1.2.1.2.1) (0, 0) 0 (ps_sF (ps_sF (ps_sF (ps_sT M3 M1.2.1.2.1) 3 3 0) 3 4 0) 3 5 0) := by
    refine ⟨hk6, ⟨?_, pk_b_le hk6 hb1, ?_, ?_, hlen, Nat.zero_le _, Nat.zero_le _, pk_rf_rm hrm (Nat.zero_le _)⟩, Nat.zero_le _, ?_, fun q => absurd rfl q⟩
    · show pk_tok b p (pz_K b p) M3.1.2
      rw [c4]; exact a3
    · rw [ps_sF1n (by omega), ps_sF1n (by omega), ps_sF1s]; rfl
    · rw [ps_sF1n (by omega), ps_sF1s]; rfl
    · rw [ps_sF1s]; rfl
  have hT0 : pk_T w M1.2.1.2.1 pz_X0 (ps_sF (ps_sF (ps_sF (ps_sT M3 M1.2.1.2.1) 3 3 0) 3 4 0) 3 5 0) := pk_T_eq rfl c7
  have hgl : ∀ M' : ps_S, pk (ps_sT M1 M1.2.1.2.1) M' → pk_rf (M.2.2.2.1 - 10, M.2.2.2.2 - 57) M' → pkR M M' := fun M' hk hf => by
    obtain ⟨k1, k2, k3, k4, k5, k6⟩ := hk
    refine ⟨k1.trans ?_, ?_, fun a x ha e => k3 a x ?_ ?_, fun o f q => ?_, fun o f q1 q2 q3 => (k5 o f q2 q3).trans (a2.2.1 o f q1), ?_, ?_⟩
    · show M1.2.1.1 = _; rw [a2.1]
    · rw [← hs1]; exact k2
    · show a < M1.2.1.2.1; rw [hs1]; exact ha
    · show M1.2.1.2.2 a = _; rw [a2.1]; exact e
    · rw [k4]; exact a2.2.2 o f q
    · have : M.2.2.2.1 - 10 ≤ M'.2.2.2.1 + 5000 := hf.1
      omega
    · have : M.2.2.2.2 - 57 ≤ M'.2.2.2.2 + 25000 := hf.2
      omega
  unfold gp_X3_read
  rw [a1, Option.bind_some, c1, Option.bind_some]
  show pw ((gp_X4_init w c Mz M1.2.1.2.1).bind _) _
  rw [c2, Option.bind_some, Option.bind_some, Option.bind_some, Option.bind_some, Option.bind_some]
  unfold pz_read
  have hEs : (ps_sT M1 M1.2.1.2.1).2.1.2.2 (w 100) = some (73, 0, FE) := by show M1.2.1.2.2 (w 100) = _; rw [a2.1]; exact hE
  have hE2s : w 100 < (ps_sT M1 M1.2.1.2.1).2.1.2.1 ∧ ¬ (c ≤ w 100 ∧ w 100 < c + 561 ∧ ¬ (c + 10 ≤ w 100 ∧ w 100 < c + 20)) := ⟨by show w 100 < M1.2.1.2.1; rw [hs1]; exact hE2.1, hE2.2⟩
  refine pw_seq (pk_rows (w := w) (M0 := ps_sT M1 M1.2.1.2.1) hb1 hEs hE2s 401 pz_X0 (0, 0) 0 _ 5000 (by omega) (by omega) hH hT0 hrm (by decide)) (fun s hs => ?_)
  cases hr : pz_all b (pz_K b p) 401 pz_X0 (0, 0) 0 with
  | inl q =>
    rw [hr] at hs
    obtain ⟨M', rfl, hF⟩ := hs
    exact (pw_some _ _).2 ⟨rfl, hgl M' hF.1 hF.2.2.2, hF.2.1, hF.2.2.1⟩
  | inr v =>
    rw [hr] at hs
    obtain ⟨M', a', rfl, g1, g2⟩ := hs
    rw [Sum.elim_inl]
    show pw (if M'.1.1 3 5 = 0 then _ else _) (pk_O _ _ (if v.2.1 = 0 then Sum.inr v.1 else Sum.inl (v.2.1, pz_fr (pz_K b p) v.2.2)))
    obtain ⟨w1, w2, w3⟩ := g1.2.2
    rw [w2]
    by_cases c0 : v.2.1 = 0
    · rw [if_pos (by rw [c0]; rfl), if_pos c0]
      obtain ⟨x, l, la, lk, F, G, LF, KF, g⟩ := id g2
      have htx : ps_tx M' = some x := by unfold ps_tx; rw [g.1]
      rw [htx]
      refine (pw_some _ _).2 ⟨x, rfl, hgl M' g1.1 g1.2.1.2.2.2.2.2.2.2, ?_, g.1⟩
      rw [← hs1]; exact g2
    · obtain ⟨w4, w5, w6⟩ := w3 c0
      rw [if_neg (by rw [pj_0, pj_eq (by omega) (by omega)]; omega), if_neg c0, w4]
      obtain ⟨M2, e, hF⟩ := pk_wrongAt (w := w) (c := c) g1.2.1.1 g1.2.1.2.2.2.2.2.2.2 w5 v.2.1
      rw [e]
      exact (pw_some _ _).2 ⟨rfl, hgl M2 (pk_trans g1.1 hF.1) hF.2.2.2, hF.2.1, hF.2.2.1⟩
/-- the text, read off the heap -/
theorem pk_ztof {w : Nat → Nat} {s0 : Nat} {X : pz_X} {M : ps_S} {g : Nat → Option zs_HC} {y : Nat} (hg : ∀ a z, pk_A s0 M a z → g a = some z) (h : pk_T w s0 X M) (hy : M.2.2.1 = .ref y) : ∃ T, zt_of g y = some T ∧ pt_X T X ∧ zt_ad T 0 = y := by
  obtain ⟨x, l, la, lk, F, G, LF, KF, g1, g2, g3, g4, g5, ⟨f0, f1, f2, f3, f4⟩, ⟨t1, t2, t3, t4⟩, g8, g9⟩ := h
  rw [hy] at g1
  injection g1 with g1
  subst g1
  have hA : ∀ {a z}, pk_A s0 M a z → g a = some z := fun {a z} q => hg a z q
  have hic : pk_ic (gq s0 M) g := fun a z e => by
    obtain ⟨q1, q2, -⟩ := gq_inv e
    exact hA ⟨q1, q2⟩
  have hn : (pj (X.1.length : Nat)).toNatClampNeg = X.1.length := by rw [pj_nat (by omega), Int.toNat_natCast]
  have hFk : ∀ k, 3 ≤ k → k < 8 → ∃ z, F k = .int z := fun k h1 h2 => by
    by_cases c : k = 3
    · exact ⟨_, by rw [c]; exact f3⟩
    · exact ⟨_, f4 k (by omega) (by omega)⟩
  have hE : ∀ (k : Nat) h, X.1[k]? = some h → ∃ e E, G 1 = .ref e ∧ g e = some (73, 10, E) ∧ ∃ y f, E k = .ref y ∧ g y = some (16, 3, f) ∧ f 1 = .int (pj (h.2.1 : Nat)) ∧ f 2 = .int (pj (h.2.2 : Nat)) := fun k h hk => by
    rcases t4 with ⟨q, -⟩ | ⟨e, E, q1, q2, q3⟩
    · rw [q] at hk; cases hk
    · obtain ⟨y, f, s, p1, p2, p3, p4, p5, -⟩ := q3 k h hk
      exact ⟨e, E, q1, hA q2, y, f, p1, hic _ _ p2, p4, p5⟩
  have hc4 : X.1.length = 0 ∨ zt_c4 g G X.1.length = true := by
    rcases t4 with ⟨q, -⟩ | ⟨e, E, q1, q2, q3⟩
    · exact Or.inl (by rw [q]; rfl)
    · refine Or.inr ?_
      unfold zt_c4
      rw [q1]
      show (match g e with | some (73, cap, E) => zs_bR (.ref e) && decide (X.1.length ≤ cap ∧ cap < 2 ^ 31) && (List.range X.1.length).all (fun k => zs_bR (E k) && zt_c1 g (zs_v0 (E k))) | _ => false) = true
      rw [hA q2]
      show (zs_bR (.ref e) && decide (X.1.length ≤ 10 ∧ 10 < 2 ^ 31) && (List.range X.1.length).all (fun k => zs_bR (E k) && zt_c1 g (zs_v0 (E k)))) = true
      rw [decide_eq_true ⟨by omega, by decide⟩]
      have : (List.range X.1.length).all (fun k => zs_bR (E k) && zt_c1 g (zs_v0 (E k))) = true := by
        rw [List.all_eq_true]
        intro k hk
        have hk := List.mem_range.1 hk
        obtain ⟨y, f, s, p1, p2, p3, p4, p5, -⟩ := q3 k _ (List.getElem?_eq_getElem hk)
        rw [p1]
        show zt_c1 g y = true
        unfold zt_c1
        rw [hic _ _ p2]
        show (zs_bI (f 1) && zs_bI (f 2)) = true
        rw [p4, p5]; rfl
      rw [this]; rfl
  refine ⟨zt_mk g y l la lk (pj (X.1.length : Nat)) F G LF KF, ?_, ⟨hn, fun k h hk => ?_, fun i j hi hj => ?_, fun k h1 h2 => ?_, fun k hk => ?_⟩, rfl⟩
  · unfold zt_of
    rw [hA g2]
    show (zs_vr (F 0)).bind _ = _
    rw [f0, f1, f2]
    show (match g l, g la, g lk with | some (17, 3, G), some (69, 4, LF), some (74, 6, KF) => _ | _, _, _ => none) = _
    rw [hA g3, hA g4, hA g5]
    show (zs_vi (G 2)).bind _ = _
    rw [t3]
    show (if _ then _ else none) = _
    rw [if_pos]
    rw [hn]
    refine ⟨⟨(pj_nI _).symm, t1⟩, ?_, hc4, ?_, ?_⟩
    · rw [List.all_eq_true]
      intro k hk
      have hk := List.mem_range.1 hk
      obtain ⟨z, hz⟩ := hFk (k + 3) (by omega) (by omega)
      rw [hz]; rfl
    · rw [List.all_eq_true]
      intro k hk
      have hk := List.mem_range.1 hk
      cases hL : X.2.2.2.2 k with
      | none => rw [(g8 k hk).1 hL]; rfl
      | some L =>
        obtain ⟨z, z1, z2⟩ := (g8 k hk).2 L hL
        rw [z1]
        show (zl_lawof g z).isSome = true
        rw [zl_lawof_ic hic z2]; rfl
    · rw [List.all_eq_true]
      intro k hk
      have hk := List.mem_range.1 hk
      obtain ⟨q1, R, q2, q3⟩ := g9 k hk
      rw [q1]
      show zt_c2 g (lk + 1 + k) = true
      unfold zt_c2
      rw [hA q2]
      show (List.range 6).all (fun j => zs_bI (R j)) = true
      rw [List.all_eq_true]
      intro j hj
      rw [q3 j (List.mem_range.1 hj)]; rfl
  · obtain ⟨e, E, q1, q2, z, f, q3, q4, q5, q6⟩ := hE k h hk
    have key : ∀ j, zt_hi (zt_mk g y l la lk (pj (X.1.length : Nat)) F G LF KF) k j = zs_vx (f j) := fun j => by
      show zt_F g (zs_v0 ((zt_E g (zs_v0 (G 1))).2 k)) j = _
      have hE2 : zt_E g (zs_v0 (G 1)) = (10, E) := by
        unfold zt_E
        rw [q1]
        show (match g e with | some (73, cap, E) => (cap, E) | _ => (0, fun _ => .null)) = _
        rw [q2]; rfl
      rw [hE2]
      show zt_F g (zs_v0 (E k)) j = _
      rw [q3]
      show zt_F g z j = _
      unfold zt_F
      rw [q4]
    rw [key, key, q5, q6]
    exact ⟨rfl, rfl⟩
  · obtain ⟨q1, R, q2, q3⟩ := g9 i hi
    show zt_F g (zs_v0 (KF i)) j = _
    rw [q1]
    show zt_F g (lk + 1 + i) j = _
    unfold zt_F
    rw [hA q2]
    show zs_vx (R j) = _
    rw [q3 j hj]; rfl
  · show zs_vx (F k) = _
    rw [f4 k h1 h2]; rfl
  · show zt_L g (LF k) = _
    cases hL : X.2.2.2.2 k with
    | none => rw [(g8 k hk).1 hL]; rfl
    | some L =>
      obtain ⟨z, z1, z2⟩ := (g8 k hk).2 L hL
      rw [z1]
      exact zl_lawof_ic hic z2
/-! texts in the heap, once more; what is told is in range; a village begins -/
theorem zl_at_of {g : Nat → Option zs_HC} : ∀ (d a : Nat) (c : zl_C), zl_at g d a c → zl_of g d a = some c
  | 0, a, c, h => h.elim
  | d + 1, a, c, h => by
    rcases h with ⟨f, v, h1, h2, rfl⟩ | ⟨f, k, h1, h2, h3, rfl⟩ | ⟨f, op, a1, a2, c1, c2, h1, h2, h3, h4, h5, h6, rfl⟩
    · exact zl_of_num h1 h2
    · exact zl_of_var h1 h2 h3
    · exact zl_of_join h1 h2 h3 h4 (zl_at_of d a1 c1 h5) (zl_at_of d a2 c2 h6)
theorem zl_law_of {g : Nat → Option zs_HC} {a : Nat} {L : zl_L} (h : zl_law g a L) : zl_lawof g a = some L := by
  obtain ⟨f, f1, f2, f3, a1, a2, a3, h1, h2, h3, h4, h5, h6, h7, h8, h9, h10, b, h11, h12⟩ := h
  unfold zl_lawof
  rw [h1]
  show (zs_vr (f 0)).bind _ = _
  rw [h2, h3, h4, h5]
  have hn : (nI L.1.length).toNatClampNeg = L.1.length := by rw [pj_nI, pj_nat (by omega), Int.toNat_natCast]
  show (if nI L.1.length = nI (nI L.1.length).toNatClampNeg ∧ (nI L.1.length).toNatClampNeg ≤ 4 then _ else _) = _
  rw [hn, if_pos ⟨rfl, h6⟩, h7, h8, h9]
  have hifs := zl_ifs_mk (g := g) (L := L.1) (f1 := f1) (f2 := f2) (f3 := f3) (fun j q hj => by
    obtain ⟨b1, b2, b3, q1, q2, q3, q4, q5, q6⟩ := h10 j q hj
    exact ⟨b1, b2, b3, q1, q2, q3, zl_at_of _ _ _ q4, zl_at_of _ _ _ q5, zl_at_of _ _ _ q6⟩) L.1 0 rfl
  show (zl_ifs g f1 f2 f3 0 L.1.length).bind _ = _
  rw [hifs, Option.bind_some, h11]
  show (zl_of g 420 b).bind _ = _
  rw [zl_at_of _ _ _ h12]; rfl
theorem zl_law_ic {g g' : Nat → Option zs_HC} (hic : pk_ic g g') {a : Nat} {L : zl_L} (h : zl_law g a L) : zl_law g' a L := zl_lawof_at (zl_lawof_ic hic (zl_law_of h))
theorem zt_at_ic {g g' : Nat → Option zs_HC} (hic : pk_ic g g') {T : zt_T} (h : zt_at g T) : zt_at g' T := by
  obtain ⟨⟨f1, h1, h1'⟩, ⟨f2, h2, h2'⟩, h3, h4, h5, ⟨f6, h6, h6'⟩, ⟨f7, h7, h7'⟩, h8⟩ := h
  refine ⟨⟨f1, hic _ _ h1, h1'⟩, ⟨f2, hic _ _ h2, h2'⟩, h3, fun hn => ?_, fun k hk => ?_, ⟨f6, hic _ _ h6, fun k hk => ⟨(h6' k hk).1, fun L hL => ⟨((h6' k hk).2 L hL).1, zl_law_ic hic ((h6' k hk).2 L hL).2⟩⟩⟩, ⟨f7, hic _ _ h7, h7'⟩, fun k hk => ?_⟩
  · obtain ⟨f, q1, q2⟩ := h4 hn
    exact ⟨f, hic _ _ q1, q2⟩
  · obtain ⟨f, q1, q2⟩ := h5 k hk
    exact ⟨f, hic _ _ q1, q2⟩
  · obtain ⟨f, q1, q2⟩ := h8 k hk
    exact ⟨f, hic _ _ q1, q2⟩
theorem zt_at_of {g : Nat → Option zs_HC} {T : zt_T} {X : pz_X} (h : zt_at g T) (hX : pt_X T X) : ∃ T2, zt_of g (zt_ad T 0) = some T2 ∧ pt_X T2 X ∧ zt_ad T2 0 = zt_ad T 0 := by
  obtain ⟨⟨F, h1, f0, f1, f2, f3⟩, ⟨G, h2, g2, g1⟩, hn6, h4, h5, ⟨LF, h6, h6'⟩, ⟨KF, h7, h7'⟩, h8⟩ := h
  obtain ⟨x1, x2, x3, x4, x5⟩ := hX
  have hn : (nI (zt_n T)).toNatClampNeg = zt_n T := by rw [pj_nI, pj_nat (by omega), Int.toNat_natCast]
  have hc4 : zt_n T = 0 ∨ zt_c4 g G (zt_n T) = true := by
    by_cases hz : zt_n T = 0
    · exact Or.inl hz
    · refine Or.inr ?_
      obtain ⟨E, e1, e2, e3, e4⟩ := h4 (by omega)
      unfold zt_c4
      rw [g1 (by omega)]
      show (match g (zt_ad T 2) with | some (73, cap, E) => zs_bR (.ref (zt_ad T 2)) && decide (zt_n T ≤ cap ∧ cap < 2 ^ 31) && (List.range (zt_n T)).all (fun k => zs_bR (E k) && zt_c1 g (zs_v0 (E k))) | _ => false) = true
      rw [e1]
      show (zs_bR (.ref (zt_ad T 2)) && decide (zt_n T ≤ zt_cap T ∧ zt_cap T < 2 ^ 31) && (List.range (zt_n T)).all (fun k => zs_bR (E k) && zt_c1 g (zs_v0 (E k)))) = true
      rw [decide_eq_true ⟨e2, e3⟩]
      have : (List.range (zt_n T)).all (fun k => zs_bR (E k) && zt_c1 g (zs_v0 (E k))) = true := by
        rw [List.all_eq_true]
        intro k hk
        have hk := List.mem_range.1 hk
        obtain ⟨f, q1, q2, q3⟩ := h5 k hk
        rw [e4 k hk]
        show zt_c1 g (zt_ha T k) = true
        unfold zt_c1
        rw [q1]
        show (zs_bI (f 1) && zs_bI (f 2)) = true
        rw [q2, q3]; rfl
      rw [this]; rfl
  refine ⟨zt_mk g (zt_ad T 0) (zt_ad T 1) (zt_ad T 3) (zt_ad T 4) (nI (zt_n T)) F G LF KF, ?_, ⟨hn.trans x1, fun k h hk => ?_, fun i j hi hj => ?_, fun k k1 k2 => ?_, fun k hk => ?_⟩, rfl⟩
  · unfold zt_of
    rw [h1]
    show (zs_vr (F 0)).bind _ = _
    rw [f0, f1, f2]
    show (match g (zt_ad T 1), g (zt_ad T 3), g (zt_ad T 4) with | some (17, 3, G), some (69, 4, LF), some (74, 6, KF) => _ | _, _, _ => none) = _
    rw [h2, h6, h7]
    show (zs_vi (G 2)).bind _ = _
    rw [g2]
    show (if _ then _ else none) = _
    rw [if_pos]
    rw [hn]
    refine ⟨⟨rfl, hn6⟩, ?_, hc4, ?_, ?_⟩
    · rw [List.all_eq_true]
      intro k hk
      have hk := List.mem_range.1 hk
      rw [f3 (k + 3) (by omega) (by omega)]; rfl
    · rw [List.all_eq_true]
      intro k hk
      have hk := List.mem_range.1 hk
      cases hL : zt_lw T k with
      | none => rw [(h6' k hk).1 hL]; rfl
      | some L =>
        obtain ⟨z1, z2⟩ := (h6' k hk).2 L hL
        rw [z1]
        show (zl_lawof g _).isSome = true
        rw [zl_law_of z2]; rfl
    · rw [List.all_eq_true]
      intro k hk
      have hk := List.mem_range.1 hk
      obtain ⟨R, q2, q3⟩ := h8 k hk
      rw [h7' k hk]
      show zt_c2 g (zt_ad T (5 + k)) = true
      unfold zt_c2
      rw [q2]
      show (List.range 6).all (fun j => zs_bI (R j)) = true
      rw [List.all_eq_true]
      intro j hj
      rw [q3 j (List.mem_range.1 hj)]; rfl
  · have hkl := (List.getElem?_eq_some_iff.1 hk).1
    have hkn : k < zt_n T := by rw [x1]; exact hkl
    obtain ⟨E, e1, e2, e3, e4⟩ := h4 (by omega)
    obtain ⟨f, q1, q2, q3⟩ := h5 k hkn
    have key : ∀ j, zt_hi (zt_mk g (zt_ad T 0) (zt_ad T 1) (zt_ad T 3) (zt_ad T 4) (nI (zt_n T)) F G LF KF) k j = zs_vx (f j) := fun j => by
      show zt_F g (zs_v0 ((zt_E g (zs_v0 (G 1))).2 k)) j = _
      have hE2 : zt_E g (zs_v0 (G 1)) = (zt_cap T, E) := by
        unfold zt_E
        rw [g1 (by omega)]
        show (match g (zt_ad T 2) with | some (73, cap, E) => (cap, E) | _ => (0, fun _ => .null)) = _
        rw [e1]; rfl
      rw [hE2]
      show zt_F g (zs_v0 (E k)) j = _
      rw [e4 k hkn]
      show zt_F g (zt_ha T k) j = _
      unfold zt_F
      rw [q1]
    rw [key, key, q2, q3]
    exact x2 k h hk
  · obtain ⟨R, q2, q3⟩ := h8 i hi
    rw [← x3 i j hi hj]
    show zt_F g (zs_v0 (KF i)) j = _
    rw [h7' i hi]
    show zt_F g (zt_ad T (5 + i)) j = _
    unfold zt_F
    rw [q2]
    show zs_vx (R j) = _
    rw [q3 j hj]; rfl
  · rw [← x4 k k1 k2]
    show zs_vx (F k) = _
    rw [f3 k (by omega) (by omega)]; rfl
  · rw [← x5 k hk]
    show zt_L g (LF k) = _
    cases hL : zt_lw T k with
    | none => rw [(h6' k hk).1 hL]; rfl
    | some L =>
      obtain ⟨z1, z2⟩ := (h6' k hk).2 L hL
      rw [z1]
      exact zl_law_of z2
/-! what is told is in range -/
def pz_Xb (X : pz_X) (w : Nat × Nat) : Prop := w.1 = 0 → (∀ h ∈ X.1, h.2.1 ≤ 20 ∧ 1 ≤ h.2.2 ∧ h.2.2 ≤ 99) ∧ (∀ p q, X.2.2.1 p q ≤ 9) ∧ (1 ≤ X.2.2.2.1 4 ∧ X.2.2.2.1 4 ≤ 99) ∧ X.2.2.2.1 5 ≤ 99 ∧ X.2.2.2.1 6 ≤ 100 ∧ X.2.2.2.1 7 ≤ 9999
theorem pz_wr_ne {w : Nat × Nat} {n t : Nat} (hn : n ≠ 0) : (pz_wr w n t).1 ≠ 0 := by
  unfold pz_wr
  split
  · rename_i h; exact h.1
  · exact hn
theorem pz_nu_b {K : List pz_T} {lo hi : Nat} {w : Nat × Nat} {a : Nat} {r : Nat × (Nat × Nat) × Nat} (h : pz_nu K lo hi w a = Sum.inr r) (h0 : r.2.1.1 = 0) : w.1 = 0 ∧ lo ≤ r.1 ∧ r.1 ≤ hi := by
  unfold pz_nu at h
  obtain ⟨z, z1, z2⟩ := pz_bd_inr h
  injection z2 with z2
  subst z2
  dsimp only at h0 ⊢
  by_cases c : lo ≤ pz_vl K a ∧ pz_vl K a ≤ hi
  · rw [if_pos c] at h0; exact ⟨h0, c⟩
  · rw [if_neg c] at h0; exact absurd h0 (pz_wr_ne (by decide))
theorem pz_kn_b {b : Nat → Int} {K : List pz_T} {hs : List (List Nat × Nat × Nat)} {w : Nat × Nat} {a : Nat} {r : Option Nat × (Nat × Nat) × Nat} (h : pz_kn b K hs w a = Sum.inr r) (h0 : r.2.1.1 = 0) : w.1 = 0 := by
  unfold pz_kn at h
  obtain ⟨z, z1, z2⟩ := pz_bd_inr h
  injection z2 with z2
  subst z2
  dsimp only at h0
  split at h0
  · exact h0
  · exact absurd h0 (pz_wr_ne (by decide))
theorem pz_told_b {b : Nat → Int} {K : List pz_T} {X : pz_X} {w : Nat × Nat} {a : Nat} {r : pz_X × (Nat × Nat) × Nat} (hX : pz_Xb X w) (h : pz_told b K X w a = Sum.inr r) : pz_Xb r.1 r.2.1 := by
  unfold pz_told at h
  have fi : ∀ {k lo hi : Nat}, (∀ v, lo ≤ v → v ≤ hi → pz_Xb X w → w.1 = 0 → (∀ h ∈ X.1, h.2.1 ≤ 20 ∧ 1 ≤ h.2.2 ∧ h.2.2 ≤ 99) ∧ (∀ p q, X.2.2.1 p q ≤ 9) ∧ (1 ≤ (pz_se X k v).2.2.2.1 4 ∧ (pz_se X k v).2.2.2.1 4 ≤ 99) ∧ (pz_se X k v).2.2.2.1 5 ≤ 99 ∧ (pz_se X k v).2.2.2.1 6 ≤ 100 ∧ (pz_se X k v).2.2.2.1 7 ≤ 9999) → pz_bd (pz_ps K a) (fun a1 => pz_fi K X w k lo hi a1) = Sum.inr r → pz_Xb r.1 r.2.1 := by
    intro k lo hi hk e
    obtain ⟨a1, e1, e2⟩ := pz_bd_inr e
    unfold pz_fi at e2
    obtain ⟨r1, e3, e4⟩ := pz_bd_inr e2
    injection e4 with e4
    subst e4
    intro h0
    obtain ⟨q1, q2, q3⟩ := pz_nu_b e3 h0
    exact hk r1.1 q2 q3 hX q1
  split at h
  · split at h
    · cases h
    · obtain ⟨a1, e1, e2⟩ := pz_bd_inr h
      unfold pz_ho at e2
      obtain ⟨b1, e3, e4⟩ := pz_bd_inr e2
      obtain ⟨r1, e5, e6⟩ := pz_bd_inr e4
      obtain ⟨r2, e7, e8⟩ := pz_bd_inr e6
      injection e8 with e8
      subst e8
      intro h0
      obtain ⟨q1, q2, q3⟩ := pz_nu_b e7 h0
      obtain ⟨q4, q5, q6⟩ := pz_nu_b e5 q1
      have hw : w.1 = 0 := by
        split at q4
        · exact absurd q4 (pz_wr_ne (by decide))
        · exact q4
      obtain ⟨x1, x2⟩ := hX hw
      refine ⟨fun h hh => ?_, x2⟩
      rcases List.mem_append.1 hh with hh | hh
      · exact x1 h hh
      · rw [List.mem_singleton.1 hh]; exact ⟨q6, q2, q3⟩
  split at h
  · split at h
    · cases h
    · obtain ⟨a1, e1, e2⟩ := pz_bd_inr h
      unfold pz_li at e2
      obtain ⟨r1, e3, e4⟩ := pz_bd_inr e2
      obtain ⟨r2, e5, e6⟩ := pz_bd_inr e4
      obtain ⟨r3, e7, e8⟩ := pz_bd_inr e6
      injection e8 with e8
      subst e8
      intro h0
      obtain ⟨q1, q2, q3⟩ := pz_nu_b e7 h0
      have q4 : r2.2.1.1 = 0 := by
        split at q1
        · exact absurd q1 (pz_wr_ne (by decide))
        · exact q1
      obtain ⟨x1, x2, x3⟩ := hX (pz_kn_b e3 (pz_kn_b e5 q4))
      refine ⟨x1, fun p q => ?_, x3⟩
      show pz_lk2 X.2.2.1 r1.1 r2.1 r3.1 p q ≤ 9
      unfold pz_lk2
      split
      · unfold pz_up2
        split
        · exact q3
        · split
          · exact q3
          · exact x2 p q
      · exact x2 p q
  have se : ∀ (k v j : Nat), (pz_se X k v).2.2.2.1 j = if j = k then v else X.2.2.2.1 j := fun _ _ _ => rfl
  split at h
  · refine fi (fun v v1 v2 hX hw => ?_) h
    obtain ⟨x1, x2, x3, x4, x5, x6⟩ := hX hw
    refine ⟨x1, x2, ?_, ?_, ?_, ?_⟩ <;> rw [se] <;> first | rw [if_pos rfl]; exact ⟨v1, v2⟩ | (rw [if_neg (by decide)]; assumption)
  split at h
  · refine fi (fun v v1 v2 hX hw => ?_) h
    obtain ⟨x1, x2, x3, x4, x5, x6⟩ := hX hw
    refine ⟨x1, x2, ?_, ?_, ?_, ?_⟩ <;> rw [se] <;> first | (rw [if_pos rfl]; exact v2) | (rw [if_neg (by decide)]; assumption)
  split at h
  · refine fi (fun v v1 v2 hX hw => ?_) h
    obtain ⟨x1, x2, x3, x4, x5, x6⟩ := hX hw
    refine ⟨x1, x2, ?_, ?_, ?_, ?_⟩ <;> rw [se] <;> first | (rw [if_pos rfl]; exact v2) | (rw [if_neg (by decide)]; assumption)
  split at h
  · refine fi (fun v v1 v2 hX hw => ?_) h
    obtain ⟨x1, x2, x3, x4, x5, x6⟩ := hX hw
    refine ⟨x1, x2, ?_, ?_, ?_, ?_⟩ <;> rw [se] <;> first | (rw [if_pos rfl]; exact v2) | (rw [if_neg (by decide)]; assumption)
  split at h
  · obtain ⟨a1, e1, e2⟩ := pz_bd_inr h
    obtain ⟨r1, e3, e4⟩ := pz_bd_inr e2
    injection e4 with e4
    subst e4
    exact hX
  · cases h
theorem pz_all_b {b : Nat → Int} {K : List pz_T} : ∀ (n : Nat) (X : pz_X) (w : Nat × Nat) (a : Nat) (r : pz_X × (Nat × Nat)), pz_Xb X w → pz_all b K n X w a = Sum.inr r → pz_Xb r.1 r.2
  | 0, X, w, a, r, hX, h => by injection h with h; subst h; exact hX
  | n + 1, X, w, a, r, hX, h => by
    unfold pz_all at h
    split at h
    · injection h with h; subst h; exact hX
    · obtain ⟨r1, e1, e2⟩ := pz_bd_inr h
      unfold pz_tell pz_sc at e1
      obtain ⟨r2, e3, e4⟩ := pz_bd_inr e1
      obtain ⟨e, e5, e6⟩ := pz_bd_inr e4
      injection e6 with e6
      subst e6
      exact pz_all_b n _ _ _ r (pz_told_b hX e3) e2
theorem pz_read_b {b : Nat → Int} {K : List pz_T} {X : pz_X} (h : pz_read b K = Sum.inr X) : pz_Xb X (0, 0) := by
  unfold pz_read at h
  obtain ⟨r, e1, e2⟩ := pz_bd_inr h
  have hb := pz_all_b 401 pz_X0 (0, 0) 0 r (fun _ => ⟨fun h hh => (by cases hh), fun _ _ => (by decide : (5 : Nat) ≤ 9), by decide, by decide, by decide, by decide⟩) e1
  by_cases c : r.2.1 = 0
  · rw [if_pos c] at e2
    injection e2 with e2
    subst e2
    exact fun _ => hb c
  · rw [if_neg c] at e2; cases e2
