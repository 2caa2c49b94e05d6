set_option maxRecDepth 100000
/-! a law, by the component -/
def pk_Lc (z n : Nat) (f1 f2 f3 : Nat → Value) (M : ps_S) : Prop := z + 4 ≤ M.2.1.2.1 ∧ (∃ F, M.2.1.2.2 z = some (11, 4, F) ∧ F 0 = .ref (z + 1) ∧ F 1 = .ref (z + 2) ∧ F 2 = .ref (z + 3) ∧ F 3 = .int (pj (n : Nat))) ∧ M.2.1.2.2 (z + 1) = some (70, 4, f1) ∧ M.2.1.2.2 (z + 2) = some (70, 4, f2) ∧ M.2.1.2.2 (z + 3) = some (70, 5, f3)
theorem pk_Lc_le {z n : Nat} {f1 f2 f3 : Nat → Value} {M M' : ps_S} (h : pk M M') (g : pk_Lc z n f1 f2 f3 M) : pk_Lc z n f1 f2 f3 M' := by
  obtain ⟨g1, ⟨F, g2, g3⟩, g4, g5, g6⟩ := g
  exact ⟨Nat.le_trans g1 h.2.1, ⟨F, h.2.2.1 _ _ (by omega) g2, g3⟩, h.2.2.1 _ _ (by omega) g4, h.2.2.1 _ _ (by omega) g5, h.2.2.1 _ _ (by omega) g6⟩
def pk_Lt (z : Nat) (L : List (zl_C × zl_C × zl_C)) (f1 f2 f3 : Nat → Value) (M : ps_S) : Prop := ∀ (j : Nat) q, L[j]? = some q → ∃ b1 b2 b3, f1 j = .ref b1 ∧ f2 j = .ref b2 ∧ f3 j = .ref b3 ∧ zl_of (gq (z + 4) M) 420 b1 = some q.1 ∧ zl_of (gq (z + 4) M) 420 b2 = some q.2.1 ∧ zl_of (gq (z + 4) M) 420 b3 = some q.2.2
theorem pk_Lt_ic {z : Nat} {L : List (zl_C × zl_C × zl_C)} {f1 f2 f3 g1 g2 g3 : Nat → Value} {M M' : ps_S} (h : pk_ic (gq (z + 4) M) (gq (z + 4) M')) (e : ∀ j, j < L.length → g1 j = f1 j ∧ g2 j = f2 j ∧ g3 j = f3 j) (g : pk_Lt z L f1 f2 f3 M) : pk_Lt z L g1 g2 g3 M' := fun j q hj => by
  obtain ⟨b1, b2, b3, h1, h2, h3, h4, h5, h6⟩ := g j q hj
  obtain ⟨e1, e2, e3⟩ := e j (List.getElem?_eq_some_iff.1 hj).1
  exact ⟨b1, b2, b3, e1.trans h1, e2.trans h2, e3.trans h3, zl_of_ic h _ _ _ h4 _ (Nat.le_refl _), zl_of_ic h _ _ _ h5 _ (Nat.le_refl _), zl_of_ic h _ _ _ h6 _ (Nat.le_refl _)⟩
theorem zl_ifs_mk {g : Nat → Option zs_HC} {f1 f2 f3 : Nat → Value} {L : List (zl_C × zl_C × zl_C)} (h : ∀ (j : Nat) q, L[j]? = some q → ∃ b1 b2 b3, f1 j = .ref b1 ∧ f2 j = .ref b2 ∧ f3 j = .ref b3 ∧ zl_of g 420 b1 = some q.1 ∧ zl_of g 420 b2 = some q.2.1 ∧ zl_of g 420 b3 = some q.2.2) : ∀ (R : List (zl_C × zl_C × zl_C)) (k : Nat), L.drop k = R → zl_ifs g f1 f2 f3 k R.length = some R
  | [], k, _ => rfl
  | x :: R, k, hk => by
    have hx : L[k]? = some x := by
      have := congrArg (fun s => s[0]?) hk
      simpa using this
    have hk2 : L.drop (k + 1) = R := by
      rw [← List.tail_drop, hk]; rfl
    obtain ⟨b1, b2, b3, h1, h2, h3, h4, h5, h6⟩ := h k x hx
    rw [List.length_cons]
    unfold zl_ifs
    rw [h1, h2, h3]
    show (zl_of g 420 b1).bind _ = _
    rw [h4, Option.bind_some, h5, Option.bind_some, h6, Option.bind_some, zl_ifs_mk h R (k + 1) hk2]; rfl
def pk_V (b : Nat → Int) (p : Nat) (K : List pz_T) (c : Nat) (r : Nat × Nat) (M0 : ps_S) (a n : Nat) (f1 f2 f3 : Nat → Value) (M : ps_S) : Prop := pk M0 M ∧ pk_C b p K c r M a 0 ∧ pk_rm r a M ∧ (∀ f, f ≠ 3 → M.1.1 3 f = M0.1.1 3 f) ∧ pk_Lc M0.2.1.2.1 n f1 f2 f3 M
section PV
variable {b : Nat → Int} {p : Nat} {K : List pz_T} {w : Nat → Nat} {c : Nat} {r : Nat × Nat} {M0 M : ps_S} {a n : Nat} {f1 f2 f3 : Nat → Value}
theorem pk_V_go (h : pk_V b p K c r M0 a n f1 f2 f3 M) {M' : ps_S} (hP : pk_P b p K c r M 0 (a + 1) M') : pk_V b p K c r M0 (a + 1) n f1 f2 f3 M' ∧ pk M M' := by
  obtain ⟨h1, h2, ⟨r1, r2, r3, r4⟩, h4, h5⟩ := h
  obtain ⟨p1, p2, p3, p4⟩ := hP
  refine ⟨⟨pk_trans h1 p2, p3, ⟨?_, ?_, r3, r4⟩, fun f hf => (p4 f hf).trans (h4 f hf), pk_Lc_le p2 h5⟩, p2⟩
  · rw [p1]; show r.1 ≤ M.2.2.2.1 + 12 * (a + 1); omega
  · rw [p1]; show r.2 ≤ M.2.2.2.2 + 60 * (a + 1); omega
theorem pk_V_sum (h : pk_V b p K c r M0 a n f1 f2 f3 M) : pw (gp_X3_sum w c 8 M) (pk_O (fun q M' => pk_F r M0 q.1 q.2 M') (fun v y M' => pk_V b p K c r M0 v.2 n f1 f2 f3 M' ∧ pk M M' ∧ zl_of (gq (M0.2.1.2.1 + 4) M') 420 y = some v.1) (pz_sm K 8 0 a)) := by
  obtain ⟨h1, h2, h3, h4, h5⟩ := h
  refine pw_mono (pk_sum (w := w) 8 0 a M (by omega) (by omega) h2 h3) (fun z hz => ?_)
  cases hr : pz_sm K 8 0 a with
  | inl q =>
    rw [hr] at hz
    exact ⟨hz.1, pk_F_le h1 hz.2⟩
  | inr v =>
    rw [hr] at hz
    obtain ⟨y, e, g1, g2, g3, g4, g5, d, g6, g7⟩ := hz
    have := g2.2.2.2.2.2.1
    exact ⟨y, e, ⟨pk_trans h1 g1, g2, g3, fun f hf => (g4 f hf).trans (h4 f hf), pk_Lc_le g1 h5⟩, g1, zl_of_ic (gq_le (pk_rfl _) h5.1) d y v.1 g7 420 (by omega)⟩
theorem pk_V_sign (h : pk_V b p K c r M0 a n f1 f2 f3 M) {k : Nat} (hk : k = 4 ∨ k = 5 ∨ k = 6 ∨ k = 7 ∨ k = 8 ∨ k = 9 ∨ k = 10 ∨ k = 13 ∨ k = 15) : pw (gp_X3_sign w c M (pj (pc_wh k : Nat))) (pk_O (fun q M' => pk_F r M0 q.1 q.2 M') (fun e (_ : Unit) M' => pk_V b p K c r M0 e n f1 f2 f3 M' ∧ pk M M') (pz_tk K k a)) := by
  refine pw_mono (pk_sign (w := w) h.2.1 hk) (fun z hz => ?_)
  cases hr : pz_tk K k a with
  | inl q =>
    rw [hr] at hz
    exact ⟨hz.1, pk_F_le h.1 hz.2⟩
  | inr v =>
    rw [hr] at hz
    obtain ⟨y, e, rfl, hP⟩ := hz
    exact ⟨y, e, pk_V_go h hP⟩
theorem pk_V_word (h : pk_V b p K c r M0 a n f1 f2 f3 M) {v : Nat} (hv : v ≤ 21) : pw (gp_X3_word w c M (pj v)) (pk_O (fun q M' => pk_F r M0 q.1 q.2 M') (fun e (_ : Unit) M' => pk_V b p K c r M0 e n f1 f2 f3 M' ∧ pk M M') (pz_tk K (20 + v) a)) := by
  refine pw_mono (pk_word (w := w) h.2.1 hv) (fun z hz => ?_)
  cases hr : pz_tk K (20 + v) a with
  | inl q =>
    rw [hr] at hz
    exact ⟨hz.1, pk_F_le h.1 hz.2⟩
  | inr v =>
    rw [hr] at hz
    obtain ⟨y, e, rfl, hP⟩ := hz
    exact ⟨y, e, pk_V_go h hP⟩
theorem pk_V_pass (h : pk_V b p K c r M0 a n f1 f2 f3 M) (hk : pz_kd K a ≠ 0 ∧ pz_kd K a ≠ 3) : pw (gp_X3_pass w c M) (pk_O (fun q M' => pk_F r M0 q.1 q.2 M') (fun e (_ : Unit) M' => pk_V b p K c r M0 e n f1 f2 f3 M' ∧ pk M M') (pz_ps K a)) := by
  refine pw_mono (pk_pass (w := w) h.2.1 hk) (fun z hz => ?_)
  cases hr : pz_ps K a with
  | inl q =>
    rw [hr] at hz
    exact ⟨hz.1, pk_F_le h.1 hz.2⟩
  | inr v =>
    rw [hr] at hz
    obtain ⟨y, e, rfl, hP⟩ := hz
    exact ⟨y, e, pk_V_go h hP⟩
theorem pk_V_base (h : pk_V b p K c r M0 a n f1 f2 f3 M) (hb : pk_b c M0) : ∀ j, c + 561 ≤ M0.2.1.2.1 + j ∧ M.2.1.1 ≤ c := fun j => ⟨by have := hb.1; omega, h.2.1.2.1.2⟩
theorem pk_V_field (h : pk_V b p K c r M0 a n f1 f2 f3 M) (hb : pk_b c M0) : ps_gR c M M0.2.1.2.1 11 4 0 = some (M0.2.1.2.1 + 1) ∧ ps_gR c M M0.2.1.2.1 11 4 1 = some (M0.2.1.2.1 + 2) ∧ ps_gR c M M0.2.1.2.1 11 4 2 = some (M0.2.1.2.1 + 3) ∧ ps_gI c M M0.2.1.2.1 11 4 3 = some (pj (n : Nat)) := by
  obtain ⟨-, ⟨F, g2, g3, g4, g5, g6⟩, -⟩ := h.2.2.2.2
  have hat : ps_at c M M0.2.1.2.1 = some (11, 4, F) := by rw [ps_atN hb.1]; exact g2
  exact ⟨pk_gR hat g3, pk_gR hat g4, pk_gR hat g5, pk_gI hat g6⟩
theorem pk_V_ckS (h : pk_V b p K c r M0 a n f1 f2 f3 M) (hb : pk_b c M0) {y : Nat} {e : zl_C} (hy : zl_of (gq (M0.2.1.2.1 + 4) M) 420 y = some e) : ps_ckS c M y = some () := by
  obtain ⟨t, m, F, h1, h2⟩ := zl_of_tag hy
  obtain ⟨h3, h4, -⟩ := gq_inv h1
  unfold ps_ckS
  rw [ps_atN (by have := hb.1; omega), h4]
  exact if_pos h2
theorem pk_V_up (h : pk_V b p K c r M0 a n f1 f2 f3 M) {z : Nat} (hz : M0.2.1.2.1 ≤ z ∧ z < M0.2.1.2.1 + 4) (x : zs_HC) {m : Nat} {g1 g2 g3 : Nat → Value} (hL : pk_Lc M0.2.1.2.1 m g1 g2 g3 (ps_up M z x)) : pk_V b p K c r M0 a m g1 g2 g3 (ps_up M z x) ∧ gq (M0.2.1.2.1 + 4) (ps_up M z x) = gq (M0.2.1.2.1 + 4) M := by
  obtain ⟨h1, h2, h3, h4, h5⟩ := h
  exact ⟨⟨pk_up _ h1 hz.1, pk_C_m h2 rfl h2.2.1 h2.2.2.2.2.2.2.2, h3, h4, hL⟩, gq_upL _ hz.2⟩
theorem pk_V_st1 (h : pk_V b p K c r M0 a n f1 f2 f3 M) (hb : pk_b c M0) (hn : n < 4) (y : Nat) : ∃ M', ps_pA c M (M0.2.1.2.1 + 1) 6 (pj (n : Nat)) (.ref y) = some M' ∧ pk_V b p K c r M0 a n (updV f1 n (.ref y)) f2 f3 M' ∧ gq (M0.2.1.2.1 + 4) M' = gq (M0.2.1.2.1 + 4) M := by
  obtain ⟨g1, ⟨F, g2, g3⟩, g4, g5, g6⟩ := h.2.2.2.2
  have hbb := pk_V_base h hb 1
  refine ⟨_, pk_pA _ hbb.1 hbb.2 g4 hn (by omega), pk_V_up h (by omega) _ ⟨g1, ⟨F, ?_, g3⟩, ?_, ?_, ?_⟩⟩
  · rw [ps_upC, if_neg (by omega)]; exact g2
  · rw [ps_upC, if_pos rfl]
  · rw [ps_upC, if_neg (by omega)]; exact g5
  · rw [ps_upC, if_neg (by omega)]; exact g6
theorem pk_V_st2 (h : pk_V b p K c r M0 a n f1 f2 f3 M) (hb : pk_b c M0) (hn : n < 4) (y : Nat) : ∃ M', ps_pA c M (M0.2.1.2.1 + 2) 6 (pj (n : Nat)) (.ref y) = some M' ∧ pk_V b p K c r M0 a n f1 (updV f2 n (.ref y)) f3 M' ∧ gq (M0.2.1.2.1 + 4) M' = gq (M0.2.1.2.1 + 4) M := by
  obtain ⟨g1, ⟨F, g2, g3⟩, g4, g5, g6⟩ := h.2.2.2.2
  have hbb := pk_V_base h hb 2
  refine ⟨_, pk_pA _ hbb.1 hbb.2 g5 hn (by omega), pk_V_up h (by omega) _ ⟨g1, ⟨F, ?_, g3⟩, ?_, ?_, ?_⟩⟩
  · rw [ps_upC, if_neg (by omega)]; exact g2
  · rw [ps_upC, if_neg (by omega)]; exact g4
  · rw [ps_upC, if_pos rfl]
  · rw [ps_upC, if_neg (by omega)]; exact g6
theorem pk_V_st3 (h : pk_V b p K c r M0 a n f1 f2 f3 M) (hb : pk_b c M0) (hn : n < 5) (y : Nat) : ∃ M', ps_pA c M (M0.2.1.2.1 + 3) 6 (pj (n : Nat)) (.ref y) = some M' ∧ pk_V b p K c r M0 a n f1 f2 (updV f3 n (.ref y)) M' ∧ gq (M0.2.1.2.1 + 4) M' = gq (M0.2.1.2.1 + 4) M := by
  obtain ⟨g1, ⟨F, g2, g3⟩, g4, g5, g6⟩ := h.2.2.2.2
  have hbb := pk_V_base h hb 3
  refine ⟨_, pk_pA _ hbb.1 hbb.2 g6 hn (by omega), pk_V_up h (by omega) _ ⟨g1, ⟨F, ?_, g3⟩, ?_, ?_, ?_⟩⟩
  · rw [ps_upC, if_neg (by omega)]; exact g2
  · rw [ps_upC, if_neg (by omega)]; exact g4
  · rw [ps_upC, if_neg (by omega)]; exact g5
  · rw [ps_upC, if_pos rfl]
theorem pk_V_inc (h : pk_V b p K c r M0 a n f1 f2 f3 M) (hb : pk_b c M0) : ∃ M', ps_pV c M M0.2.1.2.1 11 4 3 (.int (pj (n : Nat) + 1)) = some M' ∧ pk_V b p K c r M0 a (n + 1) f1 f2 f3 M' ∧ gq (M0.2.1.2.1 + 4) M' = gq (M0.2.1.2.1 + 4) M := by
  obtain ⟨g1, ⟨F, g2, g3, g7, g8, g9⟩, g4, g5, g6⟩ := h.2.2.2.2
  have hbb := pk_V_base h hb 0
  refine ⟨_, pk_pV _ hb.1 hbb.2 g2, pk_V_up h (by omega) _ ⟨g1, ⟨_, if_pos rfl, ?_, ?_, ?_, ?_⟩, ?_, ?_, ?_⟩⟩
  · rw [updV_n (by decide)]; exact g3
  · rw [updV_n (by decide)]; exact g7
  · rw [updV_n (by decide)]; exact g8
  · rw [updV_s, pj_1, pj_add]; rfl
  · rw [ps_upC, if_neg (by omega)]; exact g4
  · rw [ps_upC, if_neg (by omega)]; exact g5
  · rw [ps_upC, if_neg (by omega)]; exact g6
end PV
def pk_I (b : Nat → Int) (p : Nat) (K : List pz_T) (c : Nat) (r : Nat × Nat) (M0 : ps_S) (L : List (zl_C × zl_C × zl_C)) (a : Nat) (M : ps_S) : Prop := ∃ f1 f2 f3, pk_V b p K c r M0 a L.length f1 f2 f3 M ∧ pk_Lt M0.2.1.2.1 L f1 f2 f3 M ∧ L.length ≤ 4
def pk_Qi (b : Nat → Int) (p : Nat) (K : List pz_T) (c : Nat) (r : Nat × Nat) (M0 : ps_S) (L : List (zl_C × zl_C × zl_C)) (res : pz_R ((zl_C × zl_C × zl_C) × Nat)) (s : ps_S ⊕ (ps_S ⊕ (Option Nat × ps_S))) : Prop := Sum.elim (fun q => ∃ M', s = Sum.inr (Sum.inr (none, M')) ∧ pk_F r M0 q.1 q.2 M') (fun v => ∃ M', s = Sum.inl M' ∧ pk_I b p K c r M0 (L ++ [v.1]) v.2 M') res
theorem pk_if {b : Nat → Int} {p : Nat} {K : List pz_T} {w : Nat → Nat} {c : Nat} {r : Nat × Nat} {M0 M Mx : ps_S} {a : Nat} {L : List (zl_C × zl_C × zl_C)} (hb : pk_b c M0) (h : pk_I b p K c r M0 L a M) (hk : pz_kd K a = 30) :
    pw (g_X3_law_L14 w c (M0.2.1.2.1, Mx) M) (pk_Qi b p K c r M0 L (if L.length = 4 then Sum.inl (2, pz_fr K a) else pz_if K a)) := by
  obtain ⟨f1, f2, f3, hV, hT, h4⟩ := h
  have hw := pk_isWord (w := w) hV.2.1 (v := 10) (by omega)
  rw [decide_eq_true (show pz_kd K a = 20 + 10 from hk)] at hw
  have hw : gp_X3_isWord w c M 10 = some true := hw
  unfold g_X3_law_L14
  rw [hw, Option.bind_some, if_pos rfl]
  show pw ((ps_gI c M M0.2.1.2.1 11 4 3).bind _) _
  rw [(pk_V_field hV hb).2.2.2, Option.bind_some]
  unfold gp_X3_begins
  rw [show (4 : Int32) = pj ((4 : Nat) : Int) from rfl]
  by_cases c4 : L.length = 4
  · rw [if_pos (by rw [c4]), if_pos c4]
    obtain ⟨M', e, hF⟩ := pk_wrong (w := w) hV.2.1 2
    have e : gp_X3_wrong w c M 2 = some ((), M') := e
    rw [e]
    exact (pw_some _ _).2 ⟨M', rfl, pk_F_le hV.1 hF⟩
  rw [if_neg (by rw [pj_eqN (by omega)]; exact c4), if_neg c4]
  unfold pz_if
  have e1 : ((gp_X3_pass w c M).bind (zx_sel (fun M2 => ((none : Option Unit), M2)) fun (p1 : Unit × ps_S) => some (some (), p1.2))) = gp_X3_pass w c M := by
    cases gp_X3_pass w c M with
    | none => rfl
    | some z => obtain ⟨z1, z2⟩ := z; cases z1 <;> rfl
  rw [e1]
  refine pk_sel (Q := pk_Qi b p K c r M0 L) (pk_V_pass (w := w) hV (by omega)) (fun q M' hq => ⟨M', rfl, hq⟩) (fun e u M1 _ hv => ?_)
  obtain ⟨V1, k1⟩ := hv
  show pw ((ps_gR c M1 M0.2.1.2.1 11 4 0).bind _) _
  rw [(pk_V_field V1 hb).1, Option.bind_some]
  show pw ((ps_gI c M1 M0.2.1.2.1 11 4 3).bind _) _
  rw [(pk_V_field V1 hb).2.2.2, Option.bind_some]
  refine pk_sel (Q := pk_Qi b p K c r M0 L) (pk_V_sum (w := w) V1) (fun q M' hq => ⟨M', rfl, hq⟩) (fun v1 y1 M2 _ hv => ?_)
  obtain ⟨V2, k2, t2⟩ := hv
  show pw ((ps_ckS c M2 y1).bind _) _
  rw [pk_V_ckS V2 hb t2, Option.bind_some]
  obtain ⟨M3, e3, V3, q3⟩ := pk_V_st1 V2 hb (by omega) y1
  show pw ((ps_pA c M2 (M0.2.1.2.1 + 1) 6 (pj (L.length : Nat)) (.ref y1)).bind _) _
  rw [e3, Option.bind_some]
  refine pk_sel (Q := pk_Qi b p K c r M0 L) (pk_V_sign (w := w) V3 (k := 13) (by omega)) (fun q M' hq => ⟨M', rfl, hq⟩) (fun b2 u M4 _ hv => ?_)
  obtain ⟨V4, k4⟩ := hv
  show pw ((ps_gR c M4 M0.2.1.2.1 11 4 1).bind _) _
  rw [(pk_V_field V4 hb).2.1, Option.bind_some]
  show pw ((ps_gI c M4 M0.2.1.2.1 11 4 3).bind _) _
  rw [(pk_V_field V4 hb).2.2.2, Option.bind_some]
  refine pk_sel (Q := pk_Qi b p K c r M0 L) (pk_V_sum (w := w) V4) (fun q M' hq => ⟨M', rfl, hq⟩) (fun v2 y2 M5 _ hv => ?_)
  obtain ⟨V5, k5, t5⟩ := hv
  show pw ((ps_ckS c M5 y2).bind _) _
  rw [pk_V_ckS V5 hb t5, Option.bind_some]
  obtain ⟨M6, e6, V6, q6⟩ := pk_V_st2 V5 hb (by omega) y2
  show pw ((ps_pA c M5 (M0.2.1.2.1 + 2) 6 (pj (L.length : Nat)) (.ref y2)).bind _) _
  rw [e6, Option.bind_some]
  refine pk_sel (Q := pk_Qi b p K c r M0 L) (pk_V_word (w := w) V6 (v := 11) (by omega)) (fun q M' hq => ⟨M', rfl, hq⟩) (fun b3 u M7 _ hv => ?_)
  obtain ⟨V7, k7⟩ := hv
  show pw ((ps_gR c M7 M0.2.1.2.1 11 4 2).bind _) _
  rw [(pk_V_field V7 hb).2.2.1, Option.bind_some]
  show pw ((ps_gI c M7 M0.2.1.2.1 11 4 3).bind _) _
  rw [(pk_V_field V7 hb).2.2.2, Option.bind_some]
  refine pk_sel (Q := pk_Qi b p K c r M0 L) (pk_V_sum (w := w) V7) (fun q M' hq => ⟨M', rfl, hq⟩) (fun v3 y3 M8 _ hv => ?_)
  obtain ⟨V8, k8, t8⟩ := hv
  show pw ((ps_ckS c M8 y3).bind _) _
  rw [pk_V_ckS V8 hb t8, Option.bind_some]
  obtain ⟨M9, e9, V9, q9⟩ := pk_V_st3 V8 hb (by omega) y3
  show pw ((ps_pA c M8 (M0.2.1.2.1 + 3) 6 (pj (L.length : Nat)) (.ref y3)).bind _) _
  rw [e9, Option.bind_some]
  refine pk_sel (Q := pk_Qi b p K c r M0 L) (pk_V_word (w := w) V9 (v := 12) (by omega)) (fun q M' hq => ⟨M', rfl, hq⟩) (fun b4 u M10 _ hv => ?_)
  obtain ⟨V10, k10⟩ := hv
  show pw ((ps_gI c M10 M0.2.1.2.1 11 4 3).bind _) _
  rw [(pk_V_field V10 hb).2.2.2, Option.bind_some]
  obtain ⟨M11, e11, V11, q11⟩ := pk_V_inc V10 hb
  show pw ((ps_pV c M10 M0.2.1.2.1 11 4 3 (.int (pj (L.length : Nat) + 1))).bind _) _
  rw [e11, Option.bind_some, pw_some]
  have i8 : pk_ic (gq (M0.2.1.2.1 + 4) M8) (gq (M0.2.1.2.1 + 4) M11) := by
    rw [q11, ← q9]; exact gq_le k10 (Nat.le_refl _)
  have i5 : pk_ic (gq (M0.2.1.2.1 + 4) M5) (gq (M0.2.1.2.1 + 4) M11) := by
    refine pk_ic_trans ?_ i8
    rw [← q6]; exact gq_le (pk_trans k7 k8) (Nat.le_refl _)
  have i2 : pk_ic (gq (M0.2.1.2.1 + 4) M2) (gq (M0.2.1.2.1 + 4) M11) := by
    refine pk_ic_trans ?_ i5
    rw [← q3]; exact gq_le (pk_trans k4 k5) (Nat.le_refl _)
  have i0 : pk_ic (gq (M0.2.1.2.1 + 4) M) (gq (M0.2.1.2.1 + 4) M11) := pk_ic_trans (gq_le (pk_trans k1 k2) (Nat.le_refl _)) i2
  have hlen : (L ++ [(v1.1, v2.1, v3.1)]).length = L.length + 1 := by rw [List.length_append]; rfl
  refine ⟨M11, rfl, _, _, _, by rw [hlen]; exact V11, fun j q hj => ?_, by rw [hlen]; omega⟩
  rcases pz_app_get hj with ⟨j1, j2⟩ | ⟨j1, j2⟩
  · exact pk_Lt_ic i0 (fun i hi => ⟨updV_n (by omega), updV_n (by omega), updV_n (by omega)⟩) hT j q j2
  · subst j1 j2
    exact ⟨y1, y2, y3, updV_s _ _ _, updV_s _ _ _, updV_s _ _ _, zl_of_ic i2 _ _ _ t2 _ (Nat.le_refl _), zl_of_ic i5 _ _ _ t5 _ (Nat.le_refl _), zl_of_ic i8 _ _ _ t8 _ (Nat.le_refl _)⟩
/-! a law, by the component: whole -/
def pk_Ql (b : Nat → Int) (p : Nat) (K : List pz_T) (c : Nat) (r : Nat × Nat) (M0 : ps_S) (res : pz_R (List (zl_C × zl_C × zl_C) × Nat)) (s : ps_S ⊕ (Option Nat × ps_S)) : Prop := Sum.elim (fun q => ∃ M', s = Sum.inr (none, M') ∧ pk_F r M0 q.1 q.2 M') (fun v => ∃ M', s = Sum.inl M' ∧ pk_I b p K c r M0 v.1 v.2 M') res
theorem pk_ifs {b : Nat → Int} {p : Nat} {K : List pz_T} {w : Nat → Nat} {c : Nat} {r : Nat × Nat} {M0 Mx : ps_S} (hb : pk_b c M0) : ∀ (n : Nat) (L : List (zl_C × zl_C × zl_C)) (a : Nat) (M : ps_S) (f : Nat), n + L.length = 6 → n < f → pk_I b p K c r M0 L a M →
    pw (zs_loop f (g_X3_law_L14 w c (M0.2.1.2.1, Mx)) M) (pk_Ql b p K c r M0 (pz_ifs K n L a))
  | 0, L, a, M, f, h1, h2, h => by
    obtain ⟨f1, f2, f3, hV, hT, h4⟩ := h
    exact absurd h1 (by omega)
  | n + 1, L, a, M, f, h1, h2, h => by
    obtain ⟨f, rfl⟩ : ∃ g, f = g + 1 := ⟨f - 1, by omega⟩
    show pw ((g_X3_law_L14 w c (M0.2.1.2.1, Mx) M).bind fun s => Sum.elim (fun t' => zs_loop f (g_X3_law_L14 w c (M0.2.1.2.1, Mx)) t') some s) _
    unfold pz_ifs
    by_cases hk : pz_kd K a = 30
    · rw [if_pos hk]
      refine pw_seq (pk_if (w := w) (Mx := Mx) hb h hk) (fun s hs => ?_)
      by_cases c4 : L.length = 4
      · rw [if_pos c4] at hs ⊢
        obtain ⟨M', rfl, hF⟩ := hs
        exact (pw_some _ _).2 ⟨M', rfl, hF⟩
      · rw [if_neg c4] at hs ⊢
        cases hr : pz_if K a with
        | inl q =>
          rw [hr] at hs
          obtain ⟨M', rfl, hF⟩ := hs
          exact (pw_some _ _).2 ⟨M', rfl, hF⟩
        | inr v =>
          rw [hr] at hs
          obtain ⟨M', rfl, hI⟩ := hs
          exact pk_ifs hb n (L ++ [v.1]) v.2 M' f (by rw [List.length_append]; show n + (L.length + 1) = 6; omega) (by omega) hI
    · rw [if_neg hk]
      obtain ⟨f1, f2, f3, hV, hT, h4⟩ := id h
      have hw := pk_isWord (w := w) hV.2.1 (v := 10) (by omega)
      rw [decide_eq_false (show ¬ pz_kd K a = 20 + 10 from hk)] at hw
      have hw : gp_X3_isWord w c M 10 = some false := hw
      have hbody : g_X3_law_L14 w c (M0.2.1.2.1, Mx) M = some (Sum.inr (Sum.inl M)) := by
        unfold g_X3_law_L14
        rw [hw, Option.bind_some, if_neg (by decide)]
      rw [hbody, Option.bind_some]
      exact (pw_some _ _).2 ⟨M, rfl, h⟩
/-- the cells of a new law -/
theorem pk_newlaw {b : Nat → Int} {p : Nat} {K : List pz_T} {w : Nat → Nat} {c : Nat} {r : Nat × Nat} {M0 : ps_S} {a : Nat} (h : pk_C b p K c r M0 a 0) (hr : pk_rm r a M0) :
    ∃ Mx M2, ps_nw M0 (11, 4, fun k => defaultValue (tyX11 k)) 4 = some (M0.2.1.2.1, Mx) ∧ gp_X11_init w c Mx M0.2.1.2.1 = some M2 ∧ pk M0 M2 ∧ M2.1 = M0.1 ∧ (M2.2.2.2.1 = M0.2.2.2.1 - 4 ∧ M2.2.2.2.2 = M0.2.2.2.2 - 17) ∧ ∃ f1 f2 f3, pk_Lc M0.2.1.2.1 0 f1 f2 f3 M2 := by
  obtain ⟨r1, r2, r3, r4⟩ := hr
  have h400 := h.2.2.2.2.2.1
  have hb := h.2.1
  obtain ⟨Mx, a1, a2, a3, a4, a5, a6, a7⟩ := pk_nw (M := M0) (11, 4, fun k => defaultValue (tyX11 k)) (sl := 4) (by omega)
  refine ⟨Mx, ?_⟩
  unfold gp_X11_init
  obtain ⟨My, b1, b2, b3, b4, b5, b6, b7⟩ := pk_na (M := Mx) 6 .null (z := 4) (by omega) (by omega)
  have b1 : ps_na Mx 6 .null 4 = some (Mx.2.1.2.1, My) := b1
  have cy := b2.2.2.1 _ _ (by omega) a4
  have base : ∀ A : ps_S, pk M0 A → A.2.1.1 ≤ c := fun A hA => by rw [hA.1]; exact hb.2
  have kMy := pk_trans a2 b2
  have p1 := pk_pV (c := c) (k := 0) (.ref Mx.2.1.2.1) hb.1 (base _ kMy) cy
  obtain ⟨Mz, d1, d2, d3, d4, d5, d6, d7⟩ := pk_na (M := ps_up My M0.2.1.2.1 (11, 4, updV (fun k => defaultValue (tyX11 k)) 0 (.ref Mx.2.1.2.1))) 6 .null (z := 4) (by omega) (by show 1 ≤ My.2.2.2.1 ∧ 4 ≤ My.2.2.2.2; omega)
  have d1 : ps_na (ps_up My M0.2.1.2.1 (11, 4, updV (fun k => defaultValue (tyX11 k)) 0 (.ref Mx.2.1.2.1))) 6 .null 4 = some (My.2.1.2.1, Mz) := d1
  have cz := d2.2.2.1 M0.2.1.2.1 _ (by show M0.2.1.2.1 < My.2.1.2.1; omega) (if_pos rfl)
  have kMz := pk_trans (pk_up _ kMy (Nat.le_refl _)) d2
  have p2 := pk_pV (c := c) (k := 1) (.ref My.2.1.2.1) hb.1 (base _ kMz) cz
  generalize hF1 : updV (fun k => defaultValue (tyX11 k)) 0 (.ref Mx.2.1.2.1) = F1 at p1 d1 d2 d3 d4 d5 d6 d7 cz kMz p2
  generalize hF2 : updV F1 1 (.ref My.2.1.2.1) = F2 at p2
  obtain ⟨Mu, e1, e2, e3, e4, e5, e6, e7⟩ := pk_na (M := ps_up Mz M0.2.1.2.1 (11, 4, F2)) 6 .null (z := 5) (by omega) (by
    have q1 : Mz.2.2.2.1 = My.2.2.2.1 - 1 := d6
    have q2 : Mz.2.2.2.2 = My.2.2.2.2 - 4 := d7
    show 1 ≤ Mz.2.2.2.1 ∧ 5 ≤ Mz.2.2.2.2
    omega)
  have e1 : ps_na (ps_up Mz M0.2.1.2.1 (11, 4, F2)) 6 .null 5 = some (Mz.2.1.2.1, Mu) := e1
  have hMz : Mz.2.1.2.1 = My.2.1.2.1 + 1 := d3
  have hMu : Mu.2.1.2.1 = Mz.2.1.2.1 + 1 := e3
  have cu := e2.2.2.1 M0.2.1.2.1 _ (by show M0.2.1.2.1 < Mz.2.1.2.1; omega) (if_pos rfl)
  have kMu := pk_trans (pk_up (11, 4, F2) kMz (Nat.le_refl _)) e2
  have p3 := pk_pV (c := c) (k := 2) (.ref Mz.2.1.2.1) hb.1 (base _ kMu) cu
  have z1 : Mx.2.1.2.1 = M0.2.1.2.1 + 1 := a3
  have z2 : My.2.1.2.1 = M0.2.1.2.1 + 2 := by omega
  have z3 : Mz.2.1.2.1 = M0.2.1.2.1 + 3 := by omega
  refine ⟨ps_up Mu M0.2.1.2.1 (11, 4, updV F2 2 (.ref Mz.2.1.2.1)), a1, ?_, pk_up _ kMu (Nat.le_refl _), ?_, ⟨?_, ?_⟩, fun _ => .null, fun _ => .null, fun _ => .null, ?_, ⟨_, if_pos rfl, ?_, ?_, ?_, ?_⟩, ?_, ?_, ?_⟩
  · rw [b1, Option.bind_some]
    show (ps_pV c My M0.2.1.2.1 11 4 0 (.ref Mx.2.1.2.1)).bind _ = _
    rw [p1, Option.bind_some, d1, Option.bind_some]
    show (ps_pV c Mz M0.2.1.2.1 11 4 1 (.ref My.2.1.2.1)).bind _ = _
    rw [p2, Option.bind_some, e1, Option.bind_some]
    show (ps_pV c Mu M0.2.1.2.1 11 4 2 (.ref Mz.2.1.2.1)).bind _ = _
    rw [p3]; rfl
  · show Mu.1 = _
    rw [e5]; show Mz.1 = _
    rw [d5]; show My.1 = _
    rw [b5, a5]
  · show Mu.2.2.2.1 = _
    rw [e6]; show Mz.2.2.2.1 - 1 = _
    rw [d6]; show My.2.2.2.1 - 1 - 1 = _
    omega
  · show Mu.2.2.2.2 = _
    rw [e7]; show Mz.2.2.2.2 - 5 = _
    rw [d7]; show My.2.2.2.2 - 4 - 5 = _
    omega
  · show _ ≤ Mu.2.1.2.1
    omega
  · rw [updV_n (by decide), ← hF2, updV_n (by decide), ← hF1, updV_s, z1]
  · rw [updV_n (by decide), ← hF2, updV_s, z2]
  · rw [updV_s, z3]
  · rw [updV_n (by decide), ← hF2, updV_n (by decide), ← hF1, updV_n (by decide)]; rfl
  · rw [ps_upC, if_neg (by omega)]
    refine e2.2.2.1 _ _ (by show _ < Mz.2.1.2.1; omega) ?_
    rw [ps_upC, if_neg (by omega)]
    refine d2.2.2.1 _ _ (by show _ < My.2.1.2.1; omega) ?_
    rw [ps_upC, if_neg (by omega), ← z1]
    exact b4
  · rw [ps_upC, if_neg (by omega)]
    refine e2.2.2.1 _ _ (by show _ < Mz.2.1.2.1; omega) ?_
    rw [ps_upC, if_neg (by omega), ← z2]
    exact d4
  · rw [ps_upC, if_neg (by omega), ← z3]
    exact e4
def pk_GL (b : Nat → Int) (p : Nat) (K : List pz_T) (c : Nat) (r : Nat × Nat) (M : ps_S) (v : zl_L × Nat) (y : Nat) (M' : ps_S) : Prop := pk M M' ∧ pk_C b p K c r M' v.2 0 ∧ pk_rm r v.2 M' ∧ (∀ f, f ≠ 3 → M'.1.1 3 f = M.1.1 3 f) ∧ zl_lawof (gq M.2.1.2.1 M') y = some v.1
theorem pk_law {b : Nat → Int} {p : Nat} {K : List pz_T} {w : Nat → Nat} {c : Nat} {r : Nat × Nat} {M0 : ps_S} {a : Nat} (h : pk_C b p K c r M0 a 0) (hr : pk_rm r a M0) :
    pw (gp_X3_law w c M0) (pk_O (fun q M' => pk_F r M0 q.1 q.2 M') (fun v y M' => pk_GL b p K c r M0 v y M') (pz_law K a)) := by
  have hb := h.2.1
  obtain ⟨Mx, M2, e1, e2, e3, e4, e5, f1, f2, f3, hL⟩ := pk_newlaw (w := w) h hr
  have h400 := h.2.2.2.2.2.1
  obtain ⟨r1, r2, r3, r4⟩ := hr
  have hC2 : pk_C b p K c r M2 a 0 := pk_C_m h e4 (pk_b_le e3 hb) ⟨by omega, by omega⟩
  unfold gp_X3_law pz_law
  rw [e1, Option.bind_some]
  show pw ((gp_X11_init w c Mx M0.2.1.2.1).bind _) _
  rw [e2, Option.bind_some]
  refine pk_sel (Q := pk_O (fun q M' => pk_F r M0 q.1 q.2 M') (fun v y M' => pk_GL b p K c r M0 v y M')) (pk_sign (w := w) hC2 (k := 5) (by omega)) (fun q M' hq => ⟨rfl, pk_F_le e3 hq⟩) (fun e u M3 _ hv => ?_)
  obtain ⟨rfl, hP1, hP2, hP3, hP4⟩ := hv
  have hI : pk_I b p K c r M0 [] (a + 1) M3 := by
    refine ⟨f1, f2, f3, ⟨pk_trans e3 hP2, hP3, ⟨?_, ?_, r3, r4⟩, fun f hf => by rw [hP4 f hf, e4], pk_Lc_le hP2 hL⟩, fun j q hj => (by cases hj), by decide⟩
    · rw [hP1]; show r.1 ≤ M2.2.2.2.1 + 12 * (a + 1); omega
    · rw [hP1]; show r.2 ≤ M2.2.2.2.2 + 60 * (a + 1); omega
  refine pw_seq (pk_ifs (w := w) (Mx := Mx) hb 6 [] (a + 1) M3 5000 rfl (by omega) hI) (fun s hs => ?_)
  cases hr : pz_ifs K 6 [] (a + 1) with
  | inl q =>
    rw [hr] at hs
    obtain ⟨M', rfl, hF⟩ := hs
    exact (pw_some _ _).2 ⟨rfl, hF⟩
  | inr v =>
    rw [hr] at hs
    obtain ⟨M', rfl, g1, g2, g3, hV, hT, hl4⟩ := hs
    rw [Sum.elim_inl]
    show pw ((ps_gR c M' M0.2.1.2.1 11 4 2).bind _) (pk_O _ _ (pz_bd (pz_sm K 8 0 v.2) _))
    rw [(pk_V_field hV hb).2.2.1, Option.bind_some]
    show pw ((ps_gI c M' M0.2.1.2.1 11 4 3).bind _) _
    rw [(pk_V_field hV hb).2.2.2, Option.bind_some]
    refine pk_sel (Q := pk_O (fun q M' => pk_F r M0 q.1 q.2 M') (fun v y M' => pk_GL b p K c r M0 v y M')) (pk_V_sum (w := w) hV) (fun q M' hq => ⟨rfl, hq⟩) (fun v3 y3 M8 _ hv => ?_)
    obtain ⟨V8, k8, t8⟩ := hv
    show pw ((ps_ckS c M8 y3).bind _) _
    rw [pk_V_ckS V8 hb t8, Option.bind_some]
    obtain ⟨M9, e9, V9, q9⟩ := pk_V_st3 V8 hb (by omega) y3
    show pw ((ps_pA c M8 (M0.2.1.2.1 + 3) 6 (pj (v.1.length : Nat)) (.ref y3)).bind _) _
    rw [e9, Option.bind_some, pw_some]
    obtain ⟨k1, k2, k3, k4, ⟨l1, ⟨F, l2, l3, l4, l5, l6⟩, l7, l8, l9⟩⟩ := V9
    refine ⟨M0.2.1.2.1, rfl, k1, k2, k3, k4, ?_⟩
    have hle : pk_ic (gq (M0.2.1.2.1 + 4) M9) (gq M0.2.1.2.1 M9) := gq_le (pk_rfl _) (by omega)
    have hT9 : pk_Lt M0.2.1.2.1 v.1 g1 g2 (updV g3 v.1.length (.ref y3)) M9 := pk_Lt_ic (by rw [q9]; exact gq_le k8 (Nat.le_refl _)) (fun i hi => ⟨rfl, rfl, updV_n (by omega)⟩) hT
    rw [q9] at hle
    have c0 := gq_some (s := M0.2.1.2.1) ⟨Nat.le_refl _, by omega⟩ l2 rfl
    have c1 := gq_some (s := M0.2.1.2.1) ⟨by omega, by omega⟩ l7 rfl
    have c2 := gq_some (s := M0.2.1.2.1) ⟨by omega, by omega⟩ l8 rfl
    have c3 := gq_some (s := M0.2.1.2.1) ⟨by omega, by omega⟩ l9 rfl
    unfold zl_lawof
    rw [c0]
    show (zs_vr (F 0)).bind _ = _
    rw [l3, l4, l5, l6]
    have hn : (pj (v.1.length : Nat)).toNatClampNeg = v.1.length := by rw [pj_nat (by omega), Int.toNat_natCast]
    show (if pj (v.1.length : Nat) = nI (pj (v.1.length : Nat)).toNatClampNeg ∧ (pj (v.1.length : Nat)).toNatClampNeg ≤ 4 then _ else _) = _
    rw [hn, if_pos ⟨(pj_nI _).symm, hl4⟩, c1, c2, c3]
    have hifs := zl_ifs_mk (g := gq M0.2.1.2.1 M9) (L := v.1) (f1 := g1) (f2 := g2) (f3 := updV g3 v.1.length (.ref y3)) (fun j q hj => by
      obtain ⟨b1, b2, b3, t1, t2, t3, t4, t5, t6⟩ := hT9 j q hj
      rw [q9] at t4 t5 t6
      exact ⟨b1, b2, b3, t1, t2, t3, zl_of_ic hle _ _ _ t4 _ (Nat.le_refl _), zl_of_ic hle _ _ _ t5 _ (Nat.le_refl _), zl_of_ic hle _ _ _ t6 _ (Nat.le_refl _)⟩) v.1 0 rfl
    show (zl_ifs (gq M0.2.1.2.1 M9) g1 g2 (updV g3 v.1.length (.ref y3)) 0 v.1.length).bind _ = _
    rw [hifs, Option.bind_some, updV_s]
    show (zl_of (gq M0.2.1.2.1 M9) 420 y3).bind _ = _
    rw [zl_of_ic hle _ _ _ t8 _ (Nat.le_refl _)]; rfl
/-! names as strings, by the component -/
def pk_st (g : Nat → Option zs_HC) (y : Nat) (s : List Nat) : Prop := ∃ F z S, g y = some (18, 4, F) ∧ F 0 = .ref z ∧ F 1 = .int 0 ∧ g z = some (65, s.length, S) ∧ ∀ (j x : Nat), s[j]? = some x → S j = .int (pj (x : Nat))
theorem pk_st_ic {g g' : Nat → Option zs_HC} (h : pk_ic g g') {y : Nat} {s : List Nat} (k : pk_st g y s) : pk_st g' y s := by
  obtain ⟨F, z, S, h1, h2, h3, h4, h5⟩ := k
  exact ⟨F, z, S, h _ _ h1, h2, h3, h _ _ h4, h5⟩
theorem gq_at {c s : Nat} {M : ps_S} (h : c + 561 ≤ s) : pk_ic (gq s M) (ps_at c M) := fun a x e => by
  obtain ⟨h1, h2, -⟩ := gq_inv e
  rw [ps_atN (by omega)]; exact h2
theorem pj_ch : ∀ v, v < 128 → zs_u16 (pj (v : Nat)) = pj (v : Nat) ∧ vp_nar .byte (zs_i8 (pj (v : Nat))) = pj (v : Nat) ∧ zs_u16 (pj (v : Nat) &&& 255) = pj (v : Nat) ∧ vp_nar .char (pj (v : Nat)) = pj (v : Nat) ∧ zs_vb (.int (pj (v : Nat))) = true := by decide +kernel
/-- what a builder holds -/
def pk_sb (M : ps_S) (z v : Nat) (s : List Nat) : Prop := (∃ F, M.2.1.2.2 z = some (19, 4, F) ∧ F 0 = .ref v ∧ F 1 = .int 0 ∧ F 3 = .int (pj (s.length : Nat))) ∧ ∃ B, M.2.1.2.2 v = some (65, 16, B) ∧ ∀ (j x : Nat), s[j]? = some x → B j = .int (pj (x : Nat))
theorem pk_append {w : Nat → Nat} {c z v x : Nat} {M : ps_S} {s : List Nat} (hz : c + 561 ≤ z ∧ c + 561 ≤ v) (hb : M.2.1.1 ≤ c) (hzv : z ≠ v) (h : pk_sb M z v s) (hl : s.length < 16) (hx : x < 128) :
    ∃ M', gp_J12_append w c M z (pj (x : Nat)) = some (z, M') ∧ (∃ y1 y2, M' = ps_up (ps_up M z y1) v y2) ∧ pk_sb M' z v (s ++ [x]) := by
  obtain ⟨⟨F, h1, h2, h3, h4⟩, B, h5, h6⟩ := h
  have a1 : ps_at c M z = some (19, 4, F) := by rw [ps_atN hz.1]; exact h1
  have a2 : ps_at c M v = some (65, 16, B) := by rw [ps_atN hz.2]; exact h5
  have c1 := pj_ch x hx
  unfold gp_J12_append gp_J11_append gp_J11_ensureCapacityInternal gp_J11_isLatin1 gp_J9_canEncode
  rw [pk_ck a1, Option.bind_some, pk_gI a1 h4, Option.bind_some, Option.bind_some, pk_gR a1 h2, Option.bind_some, pk_ln (t := 1) a2, Option.bind_some, pk_gI a1 h3, Option.bind_some, Option.bind_some]
  have hcap : ¬ 0 < pj (s.length : Nat) + 1 - zs_shr (pj ((16 : Nat) : Int)) 0 := by
    rw [show zs_shr (pj ((16 : Nat) : Int)) 0 = pj 16 from by decide, pj_1, pj_add, pj_sub, pj_0, pj_lt (by omega) (by omega)]
    omega
  rw [if_neg hcap, Option.bind_some, Option.bind_some, pw_let, if_neg (by decide), Option.bind_some, if_pos rfl, Option.bind_some, if_pos rfl]
  have h255 : ¬ (255 : Int32) < pj (x : Nat) := by rw [show (255 : Int32) = pj 255 from rfl, pj_lt (by omega) (by omega)]; omega
  rw [if_neg h255, Option.bind_some, if_pos rfl, Option.bind_some, Option.bind_some, pk_pV _ hz.1 hb h1, Option.bind_some, c1.2.1]
  have hv1 : (ps_up M z (19, 4, updV F 3 (.int (pj (s.length : Nat) + 1)))).2.1.2.2 v = some (65, 16, B) := by rw [ps_upC, if_neg (Ne.symm hzv)]; exact h5
  rw [pk_pA (M := ps_up M z (19, 4, updV F 3 (.int (pj (s.length : Nat) + 1)))) (t := 1) _ hz.2 hb hv1 hl (by omega)]
  refine ⟨_, rfl, ⟨_, _, rfl⟩, ⟨_, by rw [ps_upC, if_neg hzv, ps_upC, if_pos rfl], ?_, ?_, ?_⟩, _, if_pos rfl, fun j q hj => ?_⟩
  · rw [updV_n (by decide)]; exact h2
  · rw [updV_n (by decide)]; exact h3
  · rw [updV_s, List.length_append, pj_1, pj_add]; rfl
  · rcases pz_app_get hj with ⟨j1, j2⟩ | ⟨j1, j2⟩
    · rw [updV_n (by omega)]; exact h6 j q j2
    · rw [j1, j2, updV_s]
/-- a builder's text -/
theorem pk_toString {w : Nat → Nat} {c z v : Nat} {M0 M : ps_S} {s : List Nat} (hb0 : pk_b c M0) (hk : pk M0 M) (hz : M0.2.1.2.1 ≤ z ∧ M0.2.1.2.1 ≤ v) (hzs : z < M.2.1.2.1 ∧ v < M.2.1.2.1) (h : pk_sb M z v s) (hl : s.length ≤ 8) (hs : ∀ x ∈ s, x < 128) (hr : 2 ≤ M.2.2.2.1 ∧ 12 ≤ M.2.2.2.2) :
    ∃ y M', gp_J12_toString w c M z = some (y, M') ∧ pk M0 M' ∧ M'.1 = M.1 ∧ pk_st (gq M0.2.1.2.1 M') y s ∧ M'.2.2.2.1 = M.2.2.2.1 - 2 ∧ M.2.2.2.2 ≤ M'.2.2.2.2 + 12 := by
  obtain ⟨⟨F, h1, h2, h3, h4⟩, B, h5, h6⟩ := h
  have hbM : M.2.1.1 ≤ c := by rw [hk.1]; exact hb0.2
  have hc := hb0.1
  obtain ⟨M1, a1, a2, a3, a4, a5, a6, a7⟩ := pk_nw (M := M) (18, 4, fun k => defaultValue (tyJ8 k)) (sl := 4) (by omega)
  have kM1 := pk_trans hk a2
  have hb1 : M1.2.1.1 ≤ c := by rw [kM1.1]; exact hb0.2
  have hyz : c + 561 ≤ M.2.1.2.1 := by have := hk.2.1; omega
  have z1 : M1.2.1.2.2 z = some (19, 4, F) := a2.2.2.1 _ _ hzs.1 h1
  have v1 : M1.2.1.2.2 v = some (65, 16, B) := a2.2.2.1 _ _ hzs.2 h5
  have z1' : ps_at c M1 z = some (19, 4, F) := by rw [ps_atN (by omega)]; exact z1
  have p1 := pk_pV (c := c) (k := 1) (.int 0) hyz hb1 a4
  generalize hF1 : updV (fun k => defaultValue (tyJ8 k)) 1 (.int 0) = F1 at p1
  have z2 : (ps_up M1 M.2.1.2.1 (18, 4, F1)).2.1.2.2 v = some (65, 16, B) := by rw [ps_upC, if_neg (by omega)]; exact v1
  have z2' : ps_at c (ps_up M1 M.2.1.2.1 (18, 4, F1)) v = some (65, 16, B) := by rw [ps_atN (by omega)]; exact z2
  have kM2 : pk M0 (ps_up M1 M.2.1.2.1 (18, 4, F1)) := pk_up _ kM1 hk.2.1
  obtain ⟨M3, b1, b2, b3, b4, b5, b6, b7⟩ := pk_na (M := ps_up M1 M.2.1.2.1 (18, 4, F1)) 1 (defaultValue .byte) (z := s.length) (by omega) (by show 1 ≤ M1.2.2.2.1 ∧ s.length ≤ M1.2.2.2.2; omega)
  have b1 : ps_na (ps_up M1 M.2.1.2.1 (18, 4, F1)) 1 (defaultValue .byte) (pj (s.length : Nat)) = some (M1.2.1.2.1, M3) := b1
  have b4 : M3.2.1.2.2 M1.2.1.2.1 = some (65, s.length, fun _ => defaultValue .byte) := b4
  have v3 : M3.2.1.2.2 v = some (65, 16, B) := b2.2.2.1 _ _ (by show v < M1.2.1.2.1; omega) z2
  have y3 : M3.2.1.2.2 M.2.1.2.1 = some (18, 4, F1) := b2.2.2.1 _ _ (by show M.2.1.2.1 < M1.2.1.2.1; omega) (if_pos rfl)
  have kM3 := pk_trans kM2 b2
  have hb3 : M3.2.1.1 ≤ c := by rw [kM3.1]; exact hb0.2
  have v3' : ps_at c M3 v = some (65, 16, B) := by rw [ps_atN (by omega)]; exact v3
  have n3' : ps_at c M3 M1.2.1.2.1 = some (65, s.length, fun _ => defaultValue .byte) := by rw [ps_atN (by omega)]; exact b4
  have hnat : (pj (s.length : Nat)).toNatClampNeg = s.length := by rw [pj_nat (by omega), Int.toNat_natCast]
  have hvn : zs_vn B s.length = true := by
    unfold zs_vn
    rw [List.all_eq_true]
    intro j hj
    have hj := List.mem_range.1 hj
    rw [h6 j _ (List.getElem?_eq_getElem hj)]
    exact (pj_ch _ (hs _ (List.getElem_mem hj))).2.2.2.2
  have hcb : ps_cb c M3 v M1.2.1.2.1 (pj (s.length : Nat)) = some (ps_up M3 M1.2.1.2.1 (65, s.length, va_cpy B (fun _ => defaultValue .byte) 0 0 s.length)) := by
    unfold ps_cb
    rw [v3', n3']
    show (if 65 = 65 ∧ 65 = 65 ∧ ¬ pj (s.length : Nat) < 0 ∧ (pj (s.length : Nat)).toNatClampNeg ≤ 16 ∧ (pj (s.length : Nat)).toNatClampNeg ≤ s.length ∧ M3.2.1.1 ≤ M1.2.1.2.1 ∧ zs_vn B (pj (s.length : Nat)).toNatClampNeg = true then some (ps_up M3 M1.2.1.2.1 (65, s.length, va_cpy B (fun _ => defaultValue .byte) 0 0 (pj (s.length : Nat)).toNatClampNeg)) else none) = _
    rw [hnat, if_pos ⟨rfl, rfl, by rw [pj_0, pj_lt (by omega) (by omega)]; omega, by omega, Nat.le_refl _, by omega, hvn⟩]
  generalize hS : va_cpy B (fun _ => defaultValue .byte) 0 0 s.length = S at hcb
  have y4 : (ps_up M3 M1.2.1.2.1 (65, s.length, S)).2.1.2.2 M.2.1.2.1 = some (18, 4, F1) := by rw [ps_upC, if_neg (by omega)]; exact y3
  have kM4 : pk M0 (ps_up M3 M1.2.1.2.1 (65, s.length, S)) := pk_up _ kM3 (by have := kM1.2.1; omega)
  have p2 := pk_pV (M := ps_up M3 M1.2.1.2.1 (65, s.length, S)) (c := c) (k := 0) (.ref M1.2.1.2.1) hyz hb3 y4
  refine ⟨M.2.1.2.1, ps_up (ps_up M3 M1.2.1.2.1 (65, s.length, S)) M.2.1.2.1 (18, 4, updV F1 0 (.ref M1.2.1.2.1)), ?_, pk_up _ kM4 hk.2.1, ?_, ⟨_, M1.2.1.2.1, S, gq_some ⟨hk.2.1, ?_⟩ (if_pos rfl) rfl, updV_s _ _ _, ?_, gq_some ⟨?_, ?_⟩ (by rw [ps_upC, if_neg (by omega), ps_upC, if_pos rfl]) rfl, fun j x hj => ?_⟩, ?_, ?_⟩
  · unfold gp_J12_toString gp_J8_init gp_J8_init_2 gp_J11_getValue gp_J12_length gp_J11_length gp_J11_isLatin1 gp_J15_copyOfRange gp_J15_copyOfRangeByte gp_J15_checkLength
    rw [a1, Option.bind_some]
    dsimp only
    have hne : ¬ pj (s.length : Nat) = pj ((16 : Nat) : Int) := by rw [pj_eqN (by omega)]; omega
    have hlt0 : ¬ pj (s.length : Nat) < 0 := by rw [pj_0, pj_lt (by omega) (by omega)]; omega
    have hsub : ∀ q : Int, pj q - 0 = pj q := fun q => by rw [pj_0, pj_sub, Int.sub_zero]
    have hmin : zs_min (pj ((16 : Nat) : Int)) (pj (s.length : Nat)) = pj (s.length : Nat) := by
      unfold zs_min
      rw [if_pos ((pj_lt (by omega) (by omega)).2 (by omega))]
    have h10 : ¬ (1 : Int32) = 0 := by decide
    simp only [pk_ck z1', pk_gR z1' h2, pk_gI z1' h4, pk_gI z1' h3, pw_let, Option.bind_some, if_neg h10, eq_self, reduceIte, p1, pk_ln (t := 1) z2', if_neg hne, if_neg hlt0, hsub, b1, pk_ln (t := 1) v3', hmin, hcb, p2]
  · show M3.1 = M.1
    rw [b5]; show M1.1 = _
    exact a5
  · show M.2.1.2.1 < M3.2.1.2.1
    have : M3.2.1.2.1 = M1.2.1.2.1 + 1 := b3
    omega
  · rw [updV_n (by decide), ← hF1, updV_s]
  · exact kM1.2.1
  · show M1.2.1.2.1 < M3.2.1.2.1
    have : M3.2.1.2.1 = M1.2.1.2.1 + 1 := b3
    omega
  · rw [← hS]
    have := (List.getElem?_eq_some_iff.1 hj).1
    show (if 0 ≤ j ∧ j < 0 + s.length then B (0 + (j - 0)) else _) = _
    rw [if_pos (by omega), Nat.sub_zero, Nat.zero_add]
    exact h6 j x hj
  · show M3.2.2.2.1 = _
    rw [b6]; show M1.2.2.2.1 - 1 = _
    omega
  · show _ ≤ M3.2.2.2.2 + 12
    have : M3.2.2.2.2 = M1.2.2.2.2 - s.length := b7
    omega
/-! names read and compared, by the component -/
theorem pk_text {b : Nat → Int} {p : Nat} {K : List pz_T} {w : Nat → Nat} {c : Nat} {M : ps_S} (h : pk_tok b p K M.1.2) (hb : pk_b c M) {t : Nat} (ht : t < K.length) (hk : pz_kd K t = 1) (hr : 4 ≤ M.2.2.2.1 ∧ 32 ≤ M.2.2.2.2) :
    ∃ y M', gp_X2_text w c M (pj t) = some (y, M') ∧ pk M M' ∧ M'.1 = M.1 ∧ pk_st (gq M.2.1.2.1 M') y (pz_nm b K t) ∧ M'.2.2.2.1 = M.2.2.2.1 - 4 ∧ M.2.2.2.2 ≤ M'.2.2.2.2 + 32 := by
  obtain ⟨⟨hp, hl⟩, h2, h3, h4, h5⟩ := id h
  obtain ⟨t1, t2, t3, -⟩ := h4 t ht
  obtain ⟨f1, f2, -⟩ := h5 t ht
  obtain ⟨n1, n2⟩ := h2.2.1 t hk
  have hc := hb.1
  unfold pz_nm at n1 n2 ⊢
  rw [pz_sl_len] at n2
  obtain ⟨Ma, a1, a2, a3, a4, a5, a6, a7⟩ := pk_nw (M := M) (19, 4, fun k => defaultValue (tyJ12 k)) (sl := 4) (by omega)
  obtain ⟨Mb, b1, b2, b3, b4, b5, b6, b7⟩ := pk_na (M := Ma) 1 (defaultValue .byte) (z := 16) (by omega) (by omega)
  have b1 : ps_na Ma 1 (defaultValue .byte) 16 = some (Ma.2.1.2.1, Mb) := b1
  have b4 : Mb.2.1.2.2 Ma.2.1.2.1 = some (65, 16, fun _ => defaultValue .byte) := b4
  have kMb := pk_trans a2 b2
  have hbb : Mb.2.1.1 ≤ c := by rw [kMb.1]; exact hb.2
  have cz := b2.2.2.1 _ _ (by omega) a4
  have p1 := pk_pV (c := c) (k := 0) (.ref Ma.2.1.2.1) hc hbb cz
  generalize hF1 : updV (fun k => defaultValue (tyJ12 k)) 0 (.ref Ma.2.1.2.1) = F1 at p1
  have p2 := pk_pV (M := ps_up Mb M.2.1.2.1 (19, 4, F1)) (c := c) (k := 1) (.int 0) hc hbb (if_pos rfl)
  generalize hF2 : updV F1 1 (.int 0) = F2 at p2
  have hinit : gp_J12_init w c Ma M.2.1.2.1 = some (ps_up (ps_up Mb M.2.1.2.1 (19, 4, F1)) M.2.1.2.1 (19, 4, F2)) := by
    unfold gp_J12_init gp_J11_init
    have h10 : ¬ (1 : Int32) = 0 := by decide
    simp only [if_neg h10, b1, Option.bind_some, p1, p2]
  have k2 : pk M (ps_up (ps_up Mb M.2.1.2.1 (19, 4, F1)) M.2.1.2.1 (19, 4, F2)) := pk_up _ (pk_up _ kMb (Nat.le_refl _)) (Nat.le_refl _)
  have e2 : (ps_up (ps_up Mb M.2.1.2.1 (19, 4, F1)) M.2.1.2.1 (19, 4, F2)).1 = M.1 := by show Mb.1 = _; rw [b5, a5]
  have s2 : (ps_up (ps_up Mb M.2.1.2.1 (19, 4, F1)) M.2.1.2.1 (19, 4, F2)).2.1.2.1 = M.2.1.2.1 + 2 := by show Mb.2.1.2.1 = _; omega
  have r2 : (ps_up (ps_up Mb M.2.1.2.1 (19, 4, F1)) M.2.1.2.1 (19, 4, F2)).2.2 = Mb.2.2 := rfl
  have sb2 : pk_sb (ps_up (ps_up Mb M.2.1.2.1 (19, 4, F1)) M.2.1.2.1 (19, 4, F2)) M.2.1.2.1 (M.2.1.2.1 + 1) [] := by
    refine ⟨⟨F2, if_pos rfl, ?_, ?_, ?_⟩, fun _ => defaultValue .byte, ?_, fun j x hj => (by cases hj)⟩
    · rw [← hF2, updV_n (by decide), ← hF1, updV_s, a3]
    · rw [← hF2, updV_s]
    · rw [← hF2, updV_n (by decide), ← hF1, updV_n (by decide)]; rfl
    · rw [ps_upC, if_neg (by omega), ps_upC, if_neg (by omega), ← a3]; exact b4
  generalize ps_up (ps_up Mb M.2.1.2.1 (19, 4, F1)) M.2.1.2.1 (19, 4, F2) = M2 at hinit k2 e2 s2 r2 sb2
  have hloop : pw (zs_loop 5000 (g_X2_text_L15 (pj (t : Nat)) c (M.2.1.2.1, Ma) w) (pj (pz_fr K t : Nat), M2)) (fun M3 => pk M M3 ∧ M3.1 = M.1 ∧ M3.2.1.2.1 = M.2.1.2.1 + 2 ∧ M3.2.2 = M2.2.2 ∧ pk_sb M3 M.2.1.2.1 (M.2.1.2.1 + 1) (pz_sl b (pz_fr K t) (pz_fr K t + (pz_to K t - pz_fr K t)))) := by
    refine pw_for (pz_to K t - pz_fr K t) (fun j tt => ∃ M3, tt = (pj ((pz_fr K t + j : Nat) : Int), M3) ∧ pk M M3 ∧ M3.1 = M.1 ∧ M3.2.1.2.1 = M.2.1.2.1 + 2 ∧ M3.2.2 = M2.2.2 ∧ pk_sb M3 M.2.1.2.1 (M.2.1.2.1 + 1) (pz_sl b (pz_fr K t) (pz_fr K t + j))) 5000 (by omega) ?_ ?_ _ ⟨M2, rfl, k2, e2, s2, rfl, ?_⟩
    · rintro j tt hj ⟨M3, rfl, q1, q2, q3, q4, q5⟩
      have hch : (b (pz_fr K t + j)).toNat < 128 ∧ 97 ≤ b (pz_fr K t + j) := by
        have hm : (b (pz_fr K t + j)).toNat ∈ pz_sl b (pz_fr K t) (pz_to K t) := by
          unfold pz_sl
          exact List.mem_map.2 ⟨j, List.mem_range.2 hj, rfl⟩
        have := n1 _ hm
        omega
      have hcc := pj_ch _ hch.1
      rw [show (((b (pz_fr K t + j)).toNat : Nat) : Int) = b (pz_fr K t + j) by omega] at hcc
      unfold g_X2_text_L15
      dsimp only
      rw [q2, pj_ald (by omega) (by omega), Int.toNat_natCast, t3, Option.bind_some, if_pos ((pj_lt (by omega) (by omega)).2 (by omega)), pj_ald (by omega) (by omega), Int.toNat_natCast, (h3 _ (by omega)).1, Option.bind_some, hcc.1]
      obtain ⟨F, x1, -⟩ := q5.1
      rw [pk_ck (c := c) (M := M3) (a := M.2.1.2.1) (ci := 19) (n := 4) (F := F) (by rw [ps_atN hc]; exact x1), Option.bind_some]
      obtain ⟨M4, u1, ⟨y1, y2, u2⟩, u3⟩ := pk_append (w := w) (c := c) (x := (b (pz_fr K t + j)).toNat) ⟨hc, by omega⟩ (by rw [q1.1]; exact hb.2) (by omega) q5 (by rw [pz_sl_len]; omega) hch.1
      rw [show (((b (pz_fr K t + j)).toNat : Nat) : Int) = b (pz_fr K t + j) by omega] at u1
      rw [u1, Option.bind_some, Option.bind_some, pw_some, pj_1, pj_add]
      refine ⟨M4, rfl, ?_, ?_, ?_, ?_, ?_⟩
      · rw [u2]; exact pk_up _ (pk_up _ q1 (Nat.le_refl _)) (by omega)
      · rw [u2]; exact q2
      · rw [u2]; exact q3
      · rw [u2]; exact q4
      · rw [pz_sl_snoc]; exact u3
    · rintro tt ⟨M3, rfl, q1, q2, q3, q4, q5⟩
      unfold g_X2_text_L15
      dsimp only
      rw [q2, pj_ald (by omega) (by omega), Int.toNat_natCast, t3, Option.bind_some, if_neg (by rw [pj_lt (by omega) (by omega)]; omega), pw_some]
      exact ⟨q1, q2, q3, q4, q5⟩
    · have : pz_sl b (pz_fr K t) (pz_fr K t + 0) = [] := by
        unfold pz_sl
        rw [show pz_fr K t + 0 - pz_fr K t = 0 by omega]; rfl
      rw [this]; exact sb2
  obtain ⟨M3, l1, l2, l3, l4, l5, l6⟩ := hloop
  rw [show pz_fr K t + (pz_to K t - pz_fr K t) = pz_to K t by omega] at l6
  have rr : M3.2.2.2.1 = M.2.2.2.1 - 2 ∧ M3.2.2.2.2 = M.2.2.2.2 - 20 := by
    rw [l5, r2, b6, b7]; omega
  obtain ⟨y, M', u1, u2, u3, u4, u5, u6⟩ := pk_toString (w := w) hb l2 ⟨Nat.le_refl _, Nat.le_succ _⟩ (by omega) l6 (by rw [pz_sl_len]; exact n2) (fun x hx => by have := n1 x hx; omega) (by omega)
  refine ⟨y, M', ?_, u2, u3.trans l3, u4, by omega, by omega⟩
  obtain ⟨F, x1, -⟩ := l6.1
  have hck := pk_ck (c := c) (M := M3) (a := M.2.1.2.1) (ci := 19) (n := 4) (F := F) (by rw [ps_atN hc]; exact x1)
  unfold gp_X2_text
  rw [a1, Option.bind_some]
  show ((gp_J12_init w c Ma M.2.1.2.1).bind _) = _
  rw [hinit, Option.bind_some, e2, pj_ald (by omega) (by omega), Int.toNat_natCast, t2, Option.bind_some, l1, Option.bind_some]
  show ((ps_ck c M3 M.2.1.2.1 19).bind _) = _
  rw [hck, Option.bind_some, u1]; rfl
/-- names are the same or not -/
theorem pk_st_det {g : Nat → Option zs_HC} {y : Nat} {s1 s2 : List Nat} (h1 : pk_st g y s1) (h2 : pk_st g y s2) (b1 : ∀ x ∈ s1, x < 128) (b2 : ∀ x ∈ s2, x < 128) : s1 = s2 := by
  obtain ⟨F, z, S, g1, g2, g3, g4, g5⟩ := h1
  obtain ⟨F', z', S', k1, k2, k3, k4, k5⟩ := h2
  rw [g1] at k1
  injection k1 with k1
  injection k1 with _ k1
  injection k1 with _ k1
  subst k1
  rw [g2] at k2
  injection k2 with k2
  subst k2
  rw [g4] at k4
  injection k4 with k4
  injection k4 with _ k4
  injection k4 with hlen k4
  subst k4
  refine List.ext_getElem hlen (fun j hj1 hj2 => ?_)
  have e1 := g5 j _ (List.getElem?_eq_getElem hj1)
  have e2 := k5 j _ (List.getElem?_eq_getElem hj2)
  rw [e1] at e2
  injection e2 with e2
  have q1 := b1 _ (List.getElem_mem hj1)
  have q2 := b2 _ (List.getElem_mem hj2)
  exact (pj_eqN (by omega)).1 e2
theorem pk_equals {w : Nat → Nat} {c : Nat} {M : ps_S} {y1 y2 : Nat} {s1 s2 : List Nat} (h1 : pk_st (ps_at c M) y1 s1) (h2 : pk_st (ps_at c M) y2 s2) (b1 : ∀ x ∈ s1, x < 128) (b2 : ∀ x ∈ s2, x < 128) (l1 : s1.length ≤ 100) (l2 : s2.length ≤ 100) : gp_J8_equals w c M y1 y2 = some (s1 == s2) := by
  unfold gp_J8_equals
  by_cases e : y1 = y2
  · subst e
    have := pk_st_det h1 h2 b1 b2
    rw [if_pos rfl, this]
    simp
  rw [if_neg e]
  obtain ⟨F, z, S, g1, g2, g3, g4, g5⟩ := h1
  obtain ⟨F', z', S', k1, k2, k3, k4, k5⟩ := h2
  have h10 : ¬ (1 : Int32) = 0 := by decide
  have heq : gp_J9_equals w c M z z' = some (s1 == s2) := by
    unfold gp_J9_equals
    rw [pk_ln (t := 1) g4, Option.bind_some, pk_ln (t := 1) k4, Option.bind_some]
    by_cases hl : s1.length = s2.length
    · rw [if_pos (by rw [hl])]
      have e1 : ∀ x : Option Bool, (x.bind fun z => some z) = x := fun x => by cases x <;> rfl
      rw [e1]
      have key : ∀ (m j f : Nat), j + m = s1.length → m < f → zs_loop f (g_J9_equals_L9 c M z z') (pj (j : Nat)) = some (s1.drop j == s2.drop j) := by
        intro m
        induction m with
        | zero =>
          intro j f hj hf
          obtain ⟨f, rfl⟩ : ∃ g, f = g + 1 := ⟨f - 1, by omega⟩
          show ((g_J9_equals_L9 c M z z' (pj (j : Nat))).bind fun s => Sum.elim (fun t' => zs_loop f (g_J9_equals_L9 c M z z') t') some s) = _
          unfold g_J9_equals_L9
          rw [pk_ln (t := 1) g4, Option.bind_some, if_neg (by rw [pj_lt (by omega) (by omega)]; omega), Option.bind_some, List.drop_eq_nil_of_le (by omega), List.drop_eq_nil_of_le (by omega)]; rfl
        | succ m ih =>
          intro j f hj hf
          obtain ⟨f, rfl⟩ : ∃ g, f = g + 1 := ⟨f - 1, by omega⟩
          show ((g_J9_equals_L9 c M z z' (pj (j : Nat))).bind fun s => Sum.elim (fun t' => zs_loop f (g_J9_equals_L9 c M z z') t') some s) = _
          have hj1 : j < s1.length := by omega
          have hj2 : j < s2.length := by omega
          have hbody : g_J9_equals_L9 c M z z' (pj (j : Nat)) = (if pj ((s1[j] : Nat) : Int) = pj ((s2[j] : Nat) : Int) then some (Sum.inl (pj (j : Nat) + 1)) else some (Sum.inr false)) := by
            unfold g_J9_equals_L9
            rw [pk_ln (t := 1) g4, Option.bind_some, if_pos ((pj_lt (by omega) (by omega)).2 (by omega)), pk_aI (t := 1) g4 hj1 (by omega) (g5 j _ (List.getElem?_eq_getElem hj1)), Option.bind_some, pk_aI (t := 1) k4 hj2 (by omega) (k5 j _ (List.getElem?_eq_getElem hj2)), Option.bind_some]
          rw [hbody]
          have q1 := b1 _ (List.getElem_mem hj1)
          have q2 := b2 _ (List.getElem_mem hj2)
          rw [List.drop_eq_getElem_cons hj1, List.drop_eq_getElem_cons hj2]
          by_cases cc : s1[j] = s2[j]
          · rw [if_pos (by rw [cc]), Option.bind_some, Sum.elim_inl, pj_1, pj_add]
            have := ih (j + 1) f (by omega) (by omega)
            rw [show ((j + 1 : Nat) : Int) = (j : Nat) + 1 by omega] at this
            rw [this, List.cons_beq_cons, cc, beq_self_eq_true, Bool.true_and]
          · rw [if_neg (by rw [pj_eqN (by omega)]; exact cc), Option.bind_some, Sum.elim_inr, List.cons_beq_cons]
            have : (s1[j] == s2[j]) = false := by simpa using cc
            rw [this, Bool.false_and]
      exact key s1.length 0 5000 (by omega) (by omega)
    · rw [if_neg (by rw [pj_eqN (by omega)]; exact hl)]
      have : (s1 == s2) = false := by
        rw [beq_eq_false_iff_ne]
        exact fun q => hl (by rw [q])
      rw [this]
  simp only [pk_ck k1, Option.bind_some, pw_let, if_neg h10, pk_gI g1 g3, pk_gI k1 k3, reduceIte, pk_gR g1 g2, pk_gR k1 k2, heq]
  cases (s1 == s2) <;> rfl
