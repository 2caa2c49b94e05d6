set_option maxRecDepth 100000
/-! a sum, by the model; terms -/
theorem pm_expr {K : List pz_T} {Z : zm_S} {cb a : Nat} (h1 : pm_ok K Z) (h13 : Z.1 13 = 0) (h11 : Z.1 11 = pj a) (h12 : Z.1 12 = pj (0 : Nat)) (ha : a < K.length) (h4 : a ≤ 400) (h39 : Z.1 39 = pj cb) (hcb : cb ≤ 420 * (cb / 420) + a ∧ cb < 840) :
    pw (gm_expression Z) (fun Z' => Sum.elim (fun q => pe_F Z cb q.1 q.2 Z') (fun r => pe_S K Z cb 0 [] r.1 r.2 Z' ∧ a < r.2) (pz_sm K 8 0 a)) := by
  unfold gm_expression
  rw [Option.bind_some, Option.bind_some]
  have e12 : (zm_sF Z 43 0).1 12 = pj 0 := (zm_sFn (by omega)).trans h12
  rw [e12]
  show pw ((zs_loop (4999 + 1) (gm_expression_L12 (pj 0)) (1, zm_sF Z 43 0)).bind (pe_fin (pj 0))) _
  have hf := pe_fr_F (cb := cb) (Z := Z) (k := 43) (0 : Int32) (by omega)
  have hS : pe_S K Z cb 0 [] [] a (zm_sF Z 43 0) := by
    refine ⟨pm_ok_fr hf h1, hf, ⟨zm_sFs _ _ _, fun j x hj => (by cases hj), (zm_sFn (by omega)).trans h39, fun j q hj => (by cases hj)⟩, (zm_sFn (by omega)).trans h13, (zm_sFn (by omega)).trans h11, e12, ha, h4, by simp only [List.length_nil]; omega, fun x hx => (by cases hx)⟩
  rw [pe_E1_eq (pj 0) 4999 _ hS.2.2.2.1]
  refine pe_SUM_all K Z cb 8 _ 0 a [] [] _ 5000 4999 (by omega) (by omega) (Or.inl rfl) hS (fun x hx => (by cases hx)) (by decide) (by omega) (by omega) ?_
  cases hr : pz_sm K 8 0 a with
  | inl q => exact fun Z' h => h
  | inr r =>
    intro P cs' Z' g' f' s1 s2 s3 s4 s5 s6 s7 s8
    obtain ⟨g', rfl⟩ : ∃ k, g' = k + 1 := ⟨g' - 1, by omega⟩
    obtain ⟨t1, t2, t3, t4, t5, t6, t7, t8, t9, t10⟩ := s1
    rw [List.append_nil] at t3 t9 t10
    have hI : ∀ k, k ≤ 100 → pz_kd K r.2 ≠ k → gm_is Z' (pj (k : Nat)) = some false := fun k hk q => by rw [pm_is0 t1 t4 t5 t7 t8 hk, decide_eq_false q]
    have hn0 : ¬ pj 0 < Z'.1 12 := by rw [t6, pj_lt (by omega) (by omega)]; omega
    have hL : gm_expression_L96 (pj 0) Z' = some (Sum.inr Z') := by
      unfold gm_expression_L96
      rw [show (7 : Int32) = pj ((7 : Nat) : Int) from rfl, pm_is0 t1 t4 t5 t7 t8 (by omega), Option.bind_some, if_neg hn0]
      split <;> rfl
    rw [pe_E2_out hL, pe_rsF (hI 8 (by omega) (by omega)) (hI 9 (by omega) (by omega)) (hI 10 (by omega) (by omega)) (hI 15 (by omega) (by omega)), Option.bind_some]
    show pw ((some (Sum.inl Z')).bind (pe_fin (pj 0))) _
    rw [Option.bind_some]
    unfold pe_fin
    rw [Sum.elim_inl, if_neg hn0, Option.bind_some]
    unfold gm_comesOut
    have hcl : (pe_cm P).length = P.length := List.length_map _
    refine pw_seq (Q := fun Z2 => pe_C cb [] (cs' ++ pe_cm P) Z2 ∧ pe_fr cb Z' Z2 ∧ ∀ j, j ≠ 39 → j ≠ 43 → Z2.1 j = Z'.1 j) ?_ (fun Z2 h2 => (pw_some _ _).2 ?_)
    · refine pw_seq (pm_comesOut (W := []) 0 P cs' 5000 (by omega) (by rw [List.append_nil]; exact t3) (by omega) (by rw [List.append_nil]; omega) (by rw [List.append_nil]; exact t10) (fun x hx => ?_) (Or.inl rfl)) (fun Z2 h2 => (pw_some _ _).2 h2)
      rcases s2 x hx with q | q | q | q
      · exact Or.inr ⟨Or.inl q, rfl⟩
      · exact Or.inr ⟨Or.inr q, rfl⟩
      · exact Or.inl (Or.inl q)
      · exact Or.inl (Or.inr q)
    · obtain ⟨u1, u2, u3⟩ := h2
      rw [s4, List.nil_append] at u1
      have hlen : r.1.length = cs'.length + P.length := by
        have := congrArg List.length s4
        rw [List.length_append, hcl, List.nil_append] at this
        exact this.symm
      exact ⟨⟨pm_ok_fr u2 t1, pe_fr_trans t2 u2, u1, (u3 13 (by omega) (by omega)).trans t4, (u3 11 (by omega) (by omega)).trans t5, (u3 12 (by omega) (by omega)).trans t6, t7, t8, by simp only [List.length_nil]; omega, fun x hx => (by cases hx)⟩, s8⟩
/-! what sums are like -/
def pz_h (c : zl_C) : Prop := (∀ n, c.foldl pl_hs (some n) = some (n + 1)) ∧ ∀ q ∈ c, q.1 ≤ 5 ∧ (q.1 = 1 → 0 ≤ q.2.toInt ∧ q.2.toInt < 9)
theorem pz_h_join {c d : zl_C} (hc : pz_h c) (hd : pz_h d) (k : Nat) : pz_h (c ++ d ++ [(pz_cd k, 0)]) := by
  have hk : 2 ≤ pz_cd k ∧ pz_cd k ≤ 5 := by
    unfold pz_cd
    repeat' split
    all_goals omega
  refine ⟨fun n => ?_, fun q hq => ?_⟩
  · rw [List.foldl_append, List.foldl_append, hc.1, hd.1]
    show (if pz_cd k < 2 then _ else if 2 ≤ n + 1 + 1 then some (n + 1 + 1 - 1) else none) = _
    rw [if_neg (by omega), if_pos (by omega)]
    rfl
  · rcases List.mem_append.1 hq with hq | hq
    · rcases List.mem_append.1 hq with hq | hq
      · exact hc.2 q hq
      · exact hd.2 q hq
    · rw [List.mem_singleton.1 hq]
      exact ⟨hk.2, fun e => by have e : pz_cd k = 1 := e; omega⟩
theorem pz_ps_inr {K : List pz_T} {a b : Nat} (h : pz_ps K a = Sum.inr b) : b = a + 1 ∧ a < 400 := by
  unfold pz_ps at h
  split at h
  · cases h
  · injection h with h; omega
theorem pz_bd_inr {α β : Type} {x : pz_R α} {f : α → pz_R β} {y : β} (h : pz_bd x f = Sum.inr y) : ∃ z, x = Sum.inr z ∧ f z = Sum.inr y := by
  cases x with
  | inl q => cases h
  | inr z => exact ⟨z, rfl, h⟩
def pz_g (a : Nat) (r : zl_C × Nat) : Prop := pz_h r.1 ∧ a < r.2 ∧ r.1.length + a ≤ r.2 ∧ r.2 ≤ 400
theorem pz_un_g {K : List pz_T} (hK : pz_wf K) {rf : Nat → Nat → pz_R (zl_C × Nat)} (hrf : ∀ op a r, rf op a = Sum.inr r → pz_g a r) {op a : Nat} {r : zl_C × Nat} (h : pz_un K rf op a = Sum.inr r) : pz_g a r := by
  have hb := (hK.2.1 a).1
  unfold pz_un at h
  split at h
  · obtain ⟨b, e1, e2⟩ := pz_bd_inr h
    injection e2 with e2
    obtain ⟨rfl, e3⟩ := pz_ps_inr e1
    subst e2
    refine ⟨⟨fun n => rfl, fun q hq => ?_⟩, Nat.lt_succ_self a, by show 1 + a ≤ a + 1; omega, by show a + 1 ≤ 400; omega⟩
    rw [List.mem_singleton.1 hq]
    exact ⟨Nat.zero_le _, fun e => (by cases e)⟩
  · split at h
    · obtain ⟨b, e1, e2⟩ := pz_bd_inr h
      injection e2 with e2
      obtain ⟨rfl, e3⟩ := pz_ps_inr e1
      subst e2
      refine ⟨⟨fun n => rfl, fun q hq => ?_⟩, Nat.lt_succ_self a, by show 1 + a ≤ a + 1; omega, by show a + 1 ≤ 400; omega⟩
      rw [List.mem_singleton.1 hq]
      refine ⟨by show (1 : Nat) ≤ 5; omega, fun _ => ?_⟩
      show 0 ≤ (pj _).toInt ∧ (pj _).toInt < 9
      rw [pj_toInt (by omega)]
      omega
    · split at h
      · split at h
        · cases h
        · obtain ⟨b, e1, h⟩ := pz_bd_inr h
          obtain ⟨r', e2, h⟩ := pz_bd_inr h
          obtain ⟨e, e3, h⟩ := pz_bd_inr h
          injection h with h
          subst h
          obtain ⟨rfl, -⟩ := pz_ps_inr e1
          obtain ⟨g1, g2, g3, g4⟩ := hrf _ _ _ e2
          unfold pz_tk at e3
          split at e3
          · obtain ⟨rfl, e4⟩ := pz_ps_inr e3
            exact ⟨g1, by show a < r'.2 + 1; omega, by show r'.1.length + a ≤ r'.2 + 1; omega, by show r'.2 + 1 ≤ 400; omega⟩
          · cases e3
      · cases h
theorem pz_ptL_g {K : List pz_T} (hK : pz_wf K) {rf : Nat → Nat → pz_R (zl_C × Nat)} (hrf : ∀ op a r, rf op a = Sum.inr r → pz_g a r) {op a0 : Nat} : ∀ (n : Nat) (c : zl_C) (a : Nat) (r : zl_C × Nat), pz_g a0 (c, a) → pz_ptL K rf op n c a = Sum.inr r → pz_g a0 r
  | 0, c, a, r, hg, h => by
    unfold pz_ptL at h
    injection h with h
    rw [← h]; exact hg
  | n + 1, c, a, r, hg, h => by
    unfold pz_ptL at h
    split at h
    · obtain ⟨b, e1, h1⟩ := pz_bd_inr h
      obtain ⟨r', e2, h2⟩ := pz_bd_inr h1
      obtain ⟨rfl, -⟩ := pz_ps_inr e1
      obtain ⟨u1, u2, u3, u4⟩ := pz_un_g hK hrf e2
      obtain ⟨g1, g2, g3, g4⟩ := hg
      dsimp only at g1 g2 g3 g4
      refine pz_ptL_g hK hrf n _ _ r ⟨pz_h_join g1 u1 _, by show a0 < r'.2; omega, ?_, u4⟩ h2
      show (c ++ r'.1 ++ [_]).length + a0 ≤ r'.2
      rw [List.length_append, List.length_append, List.length_singleton]
      omega
    · injection h with h
      rw [← h]; exact hg
theorem pz_pt_g {K : List pz_T} (hK : pz_wf K) {rf : Nat → Nat → pz_R (zl_C × Nat)} (hrf : ∀ op a r, rf op a = Sum.inr r → pz_g a r) {op a : Nat} {r : zl_C × Nat} (h : pz_pt K rf op a = Sum.inr r) : pz_g a r := by
  unfold pz_pt at h
  obtain ⟨r', e1, h⟩ := pz_bd_inr h
  exact pz_ptL_g hK hrf 401 _ _ r (pz_un_g hK hrf e1) h
theorem pz_smL_g {K : List pz_T} (hK : pz_wf K) {rf : Nat → Nat → pz_R (zl_C × Nat)} (hrf : ∀ op a r, rf op a = Sum.inr r → pz_g a r) {op a0 : Nat} : ∀ (n : Nat) (c : zl_C) (a : Nat) (r : zl_C × Nat), pz_g a0 (c, a) → pz_smL K rf op n c a = Sum.inr r → pz_g a0 r
  | 0, c, a, r, hg, h => by
    unfold pz_smL at h
    injection h with h
    rw [← h]; exact hg
  | n + 1, c, a, r, hg, h => by
    unfold pz_smL at h
    split at h
    · obtain ⟨b, e1, h1⟩ := pz_bd_inr h
      obtain ⟨r', e2, h2⟩ := pz_bd_inr h1
      obtain ⟨rfl, -⟩ := pz_ps_inr e1
      obtain ⟨u1, u2, u3, u4⟩ := pz_pt_g hK hrf e2
      obtain ⟨g1, g2, g3, g4⟩ := hg
      dsimp only at g1 g2 g3 g4
      refine pz_smL_g hK hrf n _ _ r ⟨pz_h_join g1 u1 _, by show a0 < r'.2; omega, ?_, u4⟩ h2
      show (c ++ r'.1 ++ [_]).length + a0 ≤ r'.2
      rw [List.length_append, List.length_append, List.length_singleton]
      omega
    · injection h with h
      rw [← h]; exact hg
theorem pz_sm_g {K : List pz_T} (hK : pz_wf K) : ∀ (n op a : Nat) (r : zl_C × Nat), pz_sm K n op a = Sum.inr r → pz_g a r
  | 0, op, a, r, h => (by cases h)
  | n + 1, op, a, r, h => by
    have h : pz_bd (pz_pt K (pz_sm K n) op a) (fun r => pz_smL K (pz_sm K n) op 401 r.1 r.2) = Sum.inr r := h
    obtain ⟨r', e1, h⟩ := pz_bd_inr h
    exact pz_smL_g hK (pz_sm_g hK n) 401 _ _ r (pz_pt_g hK (pz_sm_g hK n) e1) h
theorem pz_g_wf {a : Nat} {r : zl_C × Nat} (h : pz_g a r) : pl_wf r.1 := ⟨h.1.1 0, by have := h.2.2.1; have := h.2.2.2; omega, h.1.2⟩
/-! laws by the model -/
def px_fr (cb bb : Nat) (Z Z' : zm_S) : Prop := (∀ k, ¬ (k = 11 ∨ k = 12 ∨ k = 13 ∨ k = 14 ∨ k = 39 ∨ k = 43 ∨ k = 33) → Z'.1 k = Z.1 k) ∧ (∀ k, ¬ ((34 ≤ k ∧ k ≤ 38) ∨ (40 ≤ k ∧ k ≤ 42)) → Z'.2.1 k = Z.2.1 k) ∧ Z'.2.2 = Z.2.2 ∧ (∀ j, (j < 840 ∧ (j < cb ∨ (cb < 420 ∧ 420 ≤ j))) → Z'.2.1 40 j = Z.2.1 40 j ∧ Z'.2.1 41 j = Z.2.1 41 j) ∧ ∀ k j, 34 ≤ k → k ≤ 38 → (j < 260 ∧ (j < bb ∨ (bb < 130 ∧ 130 ≤ j))) → Z'.2.1 k j = Z.2.1 k j
theorem px_fr_rfl (cb bb : Nat) (Z : zm_S) : px_fr cb bb Z Z := ⟨fun _ _ => rfl, fun _ _ => rfl, rfl, fun _ _ => ⟨rfl, rfl⟩, fun _ _ _ _ _ => rfl⟩
theorem px_fr_trans {cb bb : Nat} {A B C : zm_S} (h : px_fr cb bb A B) (g : px_fr cb bb B C) : px_fr cb bb A C := ⟨fun k a => (g.1 k a).trans (h.1 k a), fun k a => (g.2.1 k a).trans (h.2.1 k a), g.2.2.1.trans h.2.2.1, fun j hj => ⟨(g.2.2.2.1 j hj).1.trans (h.2.2.2.1 j hj).1, (g.2.2.2.1 j hj).2.trans (h.2.2.2.1 j hj).2⟩, fun k j a b c => (g.2.2.2.2 k j a b c).trans (h.2.2.2.2 k j a b c)⟩
theorem px_fr_mono {cb bb cb' bb' : Nat} {A B : zm_S} (h : px_fr cb bb A B) (h1 : cb' ≤ cb ∧ (cb < 420 ∨ 420 ≤ cb' ∨ 840 ≤ cb)) (h2 : bb' ≤ bb ∧ (bb < 130 ∨ 130 ≤ bb' ∨ 260 ≤ bb)) : px_fr cb' bb' A B := ⟨h.1, h.2.1, h.2.2.1, fun j hj => h.2.2.2.1 j (by omega), fun k j a b c => h.2.2.2.2 k j a b (by omega)⟩
theorem px_fr_e {cb bb : Nat} {A B : zm_S} (h : pe_fr cb A B) : px_fr cb bb A B := ⟨fun k q => h.1 k (by omega), fun k q => h.2.1 k (by omega), h.2.2.1, h.2.2.2, fun k j a b _ => by rw [h.2.1 k (by omega)]⟩
theorem px_fr_F {cb bb : Nat} {Z : zm_S} {k : Nat} (x : Int32) (h : k = 11 ∨ k = 12 ∨ k = 13 ∨ k = 14 ∨ k = 39 ∨ k = 43 ∨ k = 33) : px_fr cb bb Z (zm_sF Z k x) := ⟨fun j hj => zm_sFn (by omega), fun _ _ => rfl, rfl, fun _ _ => ⟨rfl, rfl⟩, fun _ _ _ _ _ => rfl⟩
theorem px_fr_A {cb bb : Nat} {Z : zm_S} {k i : Nat} (x : Int32) (h : 34 ≤ k ∧ k ≤ 38) (hi : bb ≤ i ∧ bb < 260) (hi2 : i < 130 * (bb / 130) + 130) : px_fr cb bb Z (zm_sA Z k (pj (i : Nat)) x) := by
  refine ⟨fun _ _ => rfl, fun j hj => pm_sAn (by omega), rfl, fun j hj => ⟨by rw [pm_sAn (by omega)], by rw [pm_sAn (by omega)]⟩, fun q j a b c => ?_⟩
  rw [pm_sA, pj_nat (by omega), Int.toNat_natCast]
  by_cases e : q = k
  · subst e; rw [if_pos rfl, pj_upd, if_neg (by omega)]
  · rw [if_neg e]
theorem pm_ok_px {K : List pz_T} {cb bb : Nat} {Z Z' : zm_S} (h : px_fr cb bb Z Z') (g : pm_ok K Z) : pm_ok K Z' := by
  refine ⟨g.1, fun a h1 h2 => ?_⟩
  rw [h.2.1 5 (by omega), h.2.1 6 (by omega), h.2.1 7 (by omega)]
  exact g.2 a h1 h2
def px_S (K : List pz_T) (sd : Nat) (Z0 : zm_S) (cb0 bb0 a cb bb : Nat) (Z : zm_S) : Prop := pm_ok K Z ∧ px_fr cb0 bb0 Z0 Z ∧ Z.1 13 = 0 ∧ Z.1 11 = pj a ∧ Z.1 12 = pj (0 : Nat) ∧ Z.1 39 = pj cb ∧ Z.1 33 = pj bb ∧ a < K.length ∧ a ≤ 400 ∧ cb ≤ 420 * sd + a ∧ (cb0 ≤ cb ∧ 420 * sd ≤ cb0) ∧ (bb0 ≤ bb ∧ 130 * sd ≤ bb0) ∧ sd < 2 ∧ bb ≤ 130 * sd + 115
def px_F (Z0 : zm_S) (cb0 bb0 n pl bb : Nat) (Z : zm_S) : Prop := px_fr cb0 bb0 Z0 Z ∧ (n = 1 ∨ n = 2) ∧ Z.1 13 = pj n ∧ Z.1 14 = pj pl ∧ Z.1 33 = pj bb ∧ bb0 ≤ bb ∧ bb0 < 260
theorem px_S_b {K : List pz_T} {sd : Nat} {Z0 : zm_S} {cb0 bb0 a cb bb : Nat} {Z : zm_S} (h : px_S K sd Z0 cb0 bb0 a cb bb Z) : 420 * sd ≤ cb0 ∧ cb0 ≤ cb ∧ cb ≤ 420 * sd + a ∧ a ≤ 400 ∧ 130 * sd ≤ bb0 ∧ bb0 ≤ bb ∧ bb ≤ 130 * sd + 115 ∧ sd < 2 := by
  obtain ⟨h1, h2, h3, h4, h5, h6, h7, h8, h9, h10, h11, h12, h13, h14⟩ := h
  exact ⟨h11.2, h11.1, h10, h9, h12.2, h12.1, h14, h13⟩
theorem px_seq {α β : Type} {x : Option zm_S} {f : zm_S → Option zm_S} {r : pz_R α} {s : α → pz_R β} {F : Nat × Nat → zm_S → Prop} {G : α → zm_S → Prop} {F2 : Nat × Nat → zm_S → Prop} {G2 : β → zm_S → Prop} (hx : pw x (fun Z => Sum.elim (fun q => F q Z) (fun v => G v Z) r)) (h1 : ∀ q Z, F q Z → pw (f Z) (fun Z' => F2 q Z')) (h2 : ∀ v Z, r = Sum.inr v → G v Z → pw (f Z) (fun Z' => Sum.elim (fun q => F2 q Z') (fun v => G2 v Z') (s v))) :
    pw (x.bind f) (fun Z' => Sum.elim (fun q => F2 q Z') (fun v => G2 v Z') (pz_bd r s)) := by
  refine pw_seq hx (fun Z hZ => ?_)
  cases r with
  | inl q => exact h1 q Z hZ
  | inr v => exact h2 v Z rfl hZ
theorem px_mustF {Z : zm_S} {n : Nat} (hn : n = 1 ∨ n = 2) (h13 : Z.1 13 = pj n) (k : Int32) : gm_must Z k = some Z := by
  unfold gm_must
  rw [pm_isF hn h13, Option.bind_some, if_neg (by decide), pm_failF hn h13]; rfl
theorem px_exprF {Z : zm_S} {n : Nat} (hn : n = 1 ∨ n = 2) (h13 : Z.1 13 = pj n) : gm_expression Z = some (zm_sF Z 43 0) := by
  unfold gm_expression
  rw [Option.bind_some, Option.bind_some]
  have hne : ¬ (zm_sF Z 43 0).1 13 = 0 := by
    rw [zm_sFn (by omega), h13, pj_0, pj_eq (by omega) (by omega)]; omega
  have : zs_loop 5000 (gm_expression_L12 ((zm_sF Z 43 0).1 12)) (1, zm_sF Z 43 0) = some (Sum.inr (zm_sF Z 43 0)) := by
    show ((gm_expression_L12 ((zm_sF Z 43 0).1 12) (1, zm_sF Z 43 0)).bind fun s => Sum.elim (fun t' => zs_loop 4999 (gm_expression_L12 ((zm_sF Z 43 0).1 12)) t') some s) = _
    unfold gm_expression_L12
    rw [if_neg (show ¬ ((1 : Int32), zm_sF Z 43 0).1 = 0 from (by decide : ¬ (1 : Int32) = 0)), if_neg hne]; rfl
  rw [this]; rfl
/-- what a token must be -/
theorem px_must {K : List pz_T} {sd : Nat} {Z0 Z : zm_S} {cb0 bb0 a cb bb : Nat} (h : px_S K sd Z0 cb0 bb0 a cb bb Z) {k : Nat} (hk : k ≤ 100) (hk2 : k ≠ 0 ∧ k ≠ 3) :
    pw (gm_must Z (pj k)) (fun Z' => Sum.elim (fun q => px_F Z0 cb0 bb0 q.1 q.2 bb Z') (fun b => px_S K sd Z0 cb0 bb0 b cb bb Z' ∧ b = a + 1 ∧ px_fr 5000 5000 Z Z') (pz_tk K k a)) := by
  obtain ⟨h1, h2, h3, h4, h5, h6, h7, h8, h9, h10, h11, h12, h13, h14⟩ := h
  unfold gm_must pz_tk
  rw [pm_is0 h1 h3 h4 h8 h9 hk, Option.bind_some]
  by_cases c : pz_kd K a = k
  · rw [if_pos c, decide_eq_true c, if_pos rfl, pm_goes0 h1 h3 h4 h8 h9]
    unfold pz_ps
    rw [Option.bind_some, pw_some]
    by_cases d : 400 ≤ a
    · rw [if_pos d, if_pos d]
      refine ⟨px_fr_trans h2 (px_fr_trans (px_fr_F _ (by omega)) (px_fr_F _ (by omega))), Or.inr rfl, ?_, zm_sFs _ _ _, ?_, by omega⟩
      · rw [zm_sFn (by omega), zm_sFs]; rfl
      · rw [zm_sFn (by omega), zm_sFn (by omega)]; exact h7
    · rw [if_neg d, if_neg d]
      have hf := px_fr_F (cb := cb0) (bb := bb0) (Z := Z) (k := 11) (pj ((a + 1 : Nat) : Int)) (by omega)
      exact ⟨⟨pm_ok_px hf h1, px_fr_trans h2 hf, (zm_sFn (by omega)).trans h3, zm_sFs _ _ _, (zm_sFn (by omega)).trans h5, (zm_sFn (by omega)).trans h6, (zm_sFn (by omega)).trans h7, h1.1.2.2 a h8 (by omega) (by omega), by omega, by omega, h11, h12, h13, h14⟩, rfl, px_fr_F _ (by omega)⟩
  · rw [if_neg c, decide_eq_false c, if_neg (by decide), show (1 : Int32) = pj ((1 : Nat) : Int) from rfl, pm_fail0 h1 h3 h4 h8 h9, Option.bind_some, pw_some]
    refine ⟨px_fr_trans h2 (px_fr_trans (px_fr_F _ (by omega)) (px_fr_F _ (by omega))), Or.inl rfl, ?_, zm_sFs _ _ _, ?_, by omega⟩
    · rw [zm_sFn (by omega), zm_sFs]
    · rw [zm_sFn (by omega), zm_sFn (by omega)]; exact h7
theorem px_expr {K : List pz_T} {sd : Nat} {Z0 Z : zm_S} {cb0 bb0 a cb bb : Nat} (h : px_S K sd Z0 cb0 bb0 a cb bb Z) :
    pw (gm_expression Z) (fun Z' => Sum.elim (fun q => px_F Z0 cb0 bb0 q.1 q.2 bb Z') (fun r => px_S K sd Z0 cb0 bb0 r.2 (cb + r.1.length) bb Z' ∧ pz_g a r ∧ px_fr cb 5000 Z Z' ∧ pl_cd Z' cb r.1) (pz_sm K 8 0 a)) := by
  obtain ⟨h1, h2, h3, h4, h5, h6, h7, h8, h9, h10, h11, h12, h13, h14⟩ := h
  refine pw_mono (pm_expr h1 h3 h4 h5 h8 h9 h6 (by omega)) (fun Z' h' => ?_)
  cases hr : pz_sm K 8 0 a with
  | inl q =>
    rw [hr] at h'
    have h' : pe_F Z cb q.1 q.2 Z' := h'
    obtain ⟨f1, f2, f3, f4⟩ := h'
    exact ⟨px_fr_trans h2 (px_fr_mono (px_fr_e (bb := bb0) f1) (by omega) (by omega)), f2, f3, f4, (f1.1 33 (by omega)).trans h7, by omega⟩
  | inr r =>
    rw [hr] at h'
    obtain ⟨⟨s1, s2, s3, s4, s5, s6, s7, s8, s9, s10⟩, hlt⟩ := h'
    obtain ⟨c1, c2, c3, c4⟩ := s3
    have hg := pz_sm_g h1.1 8 0 a r hr
    have hg' := hg
    obtain ⟨g1, g2, g3, g4⟩ := hg'
    refine ⟨⟨s1, px_fr_trans h2 (px_fr_mono (px_fr_e (bb := bb0) s2) (by omega) (by omega)), s4, s5, s6, c3, (s2.1 33 (by omega)).trans h7, s7, s8, by omega, by omega, h12, h13, h14⟩, hg, px_fr_e s2, by omega, fun j q hj => ⟨(c4 j q hj).1, fun _ => (c4 j q hj).2⟩⟩
theorem px_cd_fr {cb bb : Nat} {Z Z' : zm_S} (h : px_fr cb bb Z Z') {a : Nat} {c : zl_C} (hc : a + c.length ≤ cb) (g : pl_cd Z a c) : pl_cd Z' a c := by
  refine ⟨g.1, fun j q hj => ?_⟩
  have := (List.getElem?_eq_some_iff.1 hj).1
  have h840 := g.1
  obtain ⟨e1, e2⟩ := h.2.2.2.1 (a + j) (by omega)
  rw [e1, e2]
  exact g.2 j q hj
/-- a write to a branch -/
theorem px_A {K : List pz_T} {sd : Nat} {Z0 Z : zm_S} {cb0 bb0 a cb bb : Nat} (h : px_S K sd Z0 cb0 bb0 a cb bb Z) (k : Nat) (x : Int32) (hk : 34 ≤ k ∧ k ≤ 38) :
    px_S K sd Z0 cb0 bb0 a cb bb (zm_sA Z k (pj bb) x) ∧ (zm_sA Z k (pj bb) x).2.1 k bb = x ∧ px_fr 5000 bb Z (zm_sA Z k (pj bb) x) ∧ ∀ j i, j ≠ k → (zm_sA Z k (pj bb) x).2.1 j i = Z.2.1 j i := by
  obtain ⟨h1, h2, h3, h4, h5, h6, h7, h8, h9, h10, h11, h12, h13, h14⟩ := h
  have hf : px_fr cb0 bb0 Z (zm_sA Z k (pj bb) x) := px_fr_A x hk (by omega) (by omega)
  refine ⟨⟨pm_ok_px hf h1, px_fr_trans h2 hf, h3, h4, h5, h6, h7, h8, h9, h10, h11, h12, h13, h14⟩, ?_, px_fr_A x hk (by omega) (by omega), fun j i hj => by rw [pm_sAn hj]⟩
  rw [pm_sA, if_pos rfl, pj_nat (by omega), Int.toNat_natCast, pj_upd, if_pos rfl]
theorem px_FA {Z0 Z : zm_S} {cb0 bb0 n pl bb : Nat} (h : px_F Z0 cb0 bb0 n pl bb Z) (hb : bb < 130 * (bb0 / 130) + 130) (k : Nat) (x : Int32) (hk : 34 ≤ k ∧ k ≤ 38) : px_F Z0 cb0 bb0 n pl bb (zm_sA Z k (pj bb) x) := by
  obtain ⟨h1, h2, h3, h4, h5, h6⟩ := h
  exact ⟨px_fr_trans h1 (px_fr_A x hk h6 (by omega)), h2, h3, h4, h5, h6⟩
theorem px_termF {Z0 Z : zm_S} {cb0 bb0 n pl bb : Nat} (h : px_F Z0 cb0 bb0 n pl bb Z) (hb : bb < 130 * (bb0 / 130) + 130) : pw (gm_term Z) (fun Z' => px_F Z0 cb0 bb0 n pl (bb + 1) Z') := by
  unfold gm_term
  obtain ⟨h1, h2, h3, h4, h5, h6⟩ := id h
  have hne : ∀ A : zm_S, A.1 13 = pj n → ¬ A.1 13 = 0 := fun A e => by
    rw [e, pj_0, pj_eq (by omega) (by omega)]; omega
  have hF1 := px_FA h hb 37 (Z.1 39) (by omega)
  rw [h5, pj_ast (by omega) (by omega), Option.bind_some, if_neg (hne _ hF1.2.2.1), Option.bind_some]
  generalize zm_sA Z 37 (pj bb) (Z.1 39) = Z1 at hF1
  have hF2 := px_FA hF1 hb 38 (Z1.1 39) (by omega)
  rw [hF1.2.2.2.2.1, pj_ast (by omega) (by omega), Option.bind_some, Option.bind_some, hF2.2.2.2.2.1, pj_1, pj_add, pw_some]
  obtain ⟨g1, g2, g3, g4, g5, g6⟩ := hF2
  exact ⟨px_fr_trans g1 (px_fr_F _ (by omega)), g2, (zm_sFn (by omega)).trans g3, (zm_sFn (by omega)).trans g4, zm_sFs _ _ _, by omega⟩
theorem px_term {K : List pz_T} {sd : Nat} {Z0 Z : zm_S} {cb0 bb0 a cb bb : Nat} (h : px_S K sd Z0 cb0 bb0 a cb bb Z) (hb : bb < 130 * sd + 115) :
    pw (gm_term Z) (fun Z' => Sum.elim (fun q => px_F Z0 cb0 bb0 q.1 q.2 (bb + 1) Z') (fun r => px_S K sd Z0 cb0 bb0 r.2 (cb + r.1.length) (bb + 1) Z' ∧ pz_g a r ∧ px_fr cb bb Z Z' ∧ pl_cd Z' cb r.1 ∧ Z'.2.1 37 bb = pj cb ∧ Z'.2.1 38 bb = pj ((cb + r.1.length : Nat) : Int) ∧ ∀ k j, 34 ≤ k → k ≤ 36 → j < 260 → Z'.2.1 k j = Z.2.1 k j) (pz_sm K 8 0 a)) := by
  unfold gm_term
  have hB := px_S_b h
  have e39 := h.2.2.2.2.2.1
  have e33 := h.2.2.2.2.2.2.1
  obtain ⟨q1, q2, q3, q4⟩ := px_A h 37 (Z.1 39) (by omega)
  have q4' : ∀ k, 34 ≤ k → k ≤ 36 → (zm_sA Z 37 (pj bb) (Z.1 39)).2.1 k = Z.2.1 k := fun k a b => pm_sAn (by omega)
  rw [e33, pj_ast (by omega) (by omega), Option.bind_some]
  generalize zm_sA Z 37 (pj bb) (Z.1 39) = Z1 at q1 q2 q3 q4 q4'
  rw [if_pos q1.2.2.1]
  have e1 : ∀ x : Option zm_S, (x.bind fun M5 => some M5) = x := fun x => by cases x <;> rfl
  rw [e1]
  have hx := px_expr q1
  have key := px_seq (f := fun p2 => (zs_ast 260 (p2.1 33) (zm_sA p2 38 (p2.1 33) (p2.1 39))).bind fun M3 => (some (zm_sF M3 33 ((M3.1 33) + 1))).bind fun M4 => some M4) (s := fun r => (Sum.inr r : pz_R (zl_C × Nat))) (F2 := fun q Z' => px_F Z0 cb0 bb0 q.1 q.2 (bb + 1) Z') (G2 := fun r Z' => px_S K sd Z0 cb0 bb0 r.2 (cb + r.1.length) (bb + 1) Z' ∧ pz_g a r ∧ px_fr cb bb Z Z' ∧ pl_cd Z' cb r.1 ∧ Z'.2.1 37 bb = pj cb ∧ Z'.2.1 38 bb = pj ((cb + r.1.length : Nat) : Int) ∧ ∀ k j, 34 ≤ k → k ≤ 36 → j < 260 → Z'.2.1 k j = Z.2.1 k j) hx ?_ ?_
  · have e2 : pz_bd (pz_sm K 8 0 a) (fun r => (Sum.inr r : pz_R (zl_C × Nat))) = pz_sm K 8 0 a := by
      cases pz_sm K 8 0 a <;> rfl
    rw [e2] at key
    exact key
  · intro q Z2 hF
    have hF2 := px_FA hF (by omega) 38 (Z2.1 39) (by omega)
    rw [hF.2.2.2.2.1, pj_ast (by omega) (by omega), Option.bind_some, Option.bind_some, hF2.2.2.2.2.1, pj_1, pj_add, pw_some]
    obtain ⟨g1, g2, g3, g4, g5, g6⟩ := hF2
    exact ⟨px_fr_trans g1 (px_fr_F _ (by omega)), g2, (zm_sFn (by omega)).trans g3, (zm_sFn (by omega)).trans g4, zm_sFs _ _ _, by omega⟩
  · intro r Z2 _ hG
    obtain ⟨s1, s2, s3, s4⟩ := hG
    have f33 := s1.2.2.2.2.2.2.1
    have f39 := s1.2.2.2.2.2.1
    obtain ⟨t1, t2, t3, t4⟩ := px_A s1 38 (Z2.1 39) (by omega)
    rw [f33, pj_ast (by omega) (by omega), Option.bind_some, Option.bind_some, t1.2.2.2.2.2.2.1, pj_1, pj_add, pw_some]
    obtain ⟨u1, u2, u3, u4, u5, u6, u7, u8, u9, u10, u11, u12, u13, u14⟩ := t1
    have hf : ∀ cb bb, px_fr cb bb (zm_sA Z2 38 (pj bb) (Z2.1 39)) (zm_sF (zm_sA Z2 38 (pj bb) (Z2.1 39)) 33 (pj ((bb : Int) + 1))) := fun cb bb => px_fr_F _ (by omega)
    have hlen : cb + r.1.length ≤ 820 := by omega
    refine ⟨⟨pm_ok_px (hf 0 bb) u1, px_fr_trans u2 (px_fr_F _ (by omega)), (zm_sFn (by omega)).trans u3, (zm_sFn (by omega)).trans u4, (zm_sFn (by omega)).trans u5, (zm_sFn (by omega)).trans u6, zm_sFs _ _ _, u8, u9, u10, u11, by omega, u13, by omega⟩, s2, ?_, ?_, ?_, ?_, ?_⟩
    · exact px_fr_trans (px_fr_mono q3 (by omega) (by omega)) (px_fr_trans (px_fr_mono s3 (by omega) (by omega)) (px_fr_trans (px_fr_mono t3 (by omega) (by omega)) (hf cb bb)))
    · exact px_cd_fr (cb := 5000) (bb := bb) (px_fr_trans t3 (hf 5000 bb)) (by omega) s4
    · show (zm_sA Z2 38 (pj bb) (Z2.1 39)).2.1 37 bb = _
      rw [t4 37 bb (by omega), s3.2.2.2.2 37 bb (by omega) (by omega) (by omega), q2, e39]
    · show (zm_sA Z2 38 (pj bb) (Z2.1 39)).2.1 38 bb = _
      rw [t2, f39]
    · intro k j k1 k2 hj
      show (zm_sA Z2 38 (pj bb) (Z2.1 39)).2.1 k j = _
      rw [pm_sAn (by omega), s3.2.2.2.2 k j (by omega) (by omega) (by omega), q4' k k1 k2]
/-! laws by the model: ifs -/
def pz_if (K : List pz_T) (a : Nat) : pz_R ((zl_C × zl_C × zl_C) × Nat) := pz_bd (pz_ps K a) fun b => pz_bd (pz_sm K 8 0 b) fun r1 => pz_bd (pz_tk K 13 r1.2) fun b2 => pz_bd (pz_sm K 8 0 b2) fun r2 => pz_bd (pz_tk K 31 r2.2) fun b3 => pz_bd (pz_sm K 8 0 b3) fun r3 => pz_bd (pz_tk K 32 r3.2) fun b4 => Sum.inr ((r1.1, r2.1, r3.1), b4)
def pz_ifs (K : List pz_T) : Nat → List (zl_C × zl_C × zl_C) → Nat → pz_R (List (zl_C × zl_C × zl_C) × Nat)
  | 0, L, a => Sum.inr (L, a)
  | n + 1, L, a => if pz_kd K a = 30 then (if L.length = 4 then Sum.inl (2, pz_fr K a) else pz_bd (pz_if K a) fun q => pz_ifs K n (L ++ [q.1]) q.2) else Sum.inr (L, a)
def pz_law (K : List pz_T) (a : Nat) : pz_R (zl_L × Nat) := pz_bd (pz_tk K 5 a) fun b => pz_bd (pz_ifs K 6 [] b) fun q => pz_bd (pz_sm K 8 0 q.2) fun r => Sum.inr ((q.1, r.1), r.2)
def px_c4 (Z : zm_S) : Option zm_S := (gm_must Z 31).bind fun M12 => (gm_term M12).bind fun M13 => gm_must M13 32
def px_c3 (Z : zm_S) : Option zm_S := (zs_ast 260 (Z.1 33) (zm_sA Z 36 (Z.1 33) (Z.1 39))).bind fun M10 => (if (M10.1 13) = 0 then ((gm_expression M10).bind fun M15 => some M15) else (some M10)).bind px_c4
def px_c2 (Z : zm_S) : Option zm_S := (gm_must Z 13).bind px_c3
def px_c1 (Z : zm_S) : Option zm_S := (zs_ast 260 (Z.1 33) (zm_sA Z 34 (Z.1 33) (vp_nar .boolean 1))).bind fun M6 => (zs_ast 260 (M6.1 33) (zm_sA M6 35 (M6.1 33) (M6.1 39))).bind fun M7 => (gm_expression M7).bind px_c2
def px_c0 (Z : zm_S) : Option zm_S := (gm_goesOn Z).bind px_c1
theorem px_F13 {Z0 Z : zm_S} {cb0 bb0 n pl bb : Nat} (h : px_F Z0 cb0 bb0 n pl bb Z) : ¬ Z.1 13 = 0 ∧ 0 < Z.1 13 := by
  have h1 := h.2.1
  rw [h.2.2.1, pj_0, pj_eq (by omega) (by omega), pj_lt (by omega) (by omega)]
  omega
theorem px_c4F {Z0 Z : zm_S} {cb0 bb0 n pl bb : Nat} (h : px_F Z0 cb0 bb0 n pl bb Z) (hb : bb < 130 * (bb0 / 130) + 130) : pw (px_c4 Z) (fun Z' => px_F Z0 cb0 bb0 n pl (bb + 1) Z') := by
  unfold px_c4
  rw [px_mustF h.2.1 h.2.2.1, Option.bind_some]
  refine pw_seq (px_termF h hb) (fun Z1 h1 => ?_)
  rw [px_mustF h1.2.1 h1.2.2.1, pw_some]
  exact h1
theorem px_c3F {Z0 Z : zm_S} {cb0 bb0 n pl bb : Nat} (h : px_F Z0 cb0 bb0 n pl bb Z) (hb : bb < 130 * (bb0 / 130) + 130) : pw (px_c3 Z) (fun Z' => px_F Z0 cb0 bb0 n pl (bb + 1) Z') := by
  have hbb := h.2.2.2.2.2
  have h1 := px_FA h hb 36 (Z.1 39) (by omega)
  unfold px_c3
  rw [h.2.2.2.2.1, pj_ast (by omega) (by omega), Option.bind_some, if_neg (px_F13 h1).1, Option.bind_some]
  exact px_c4F h1 hb
theorem px_c2F {Z0 Z : zm_S} {cb0 bb0 n pl bb : Nat} (h : px_F Z0 cb0 bb0 n pl bb Z) (hb : bb < 130 * (bb0 / 130) + 130) : pw (px_c2 Z) (fun Z' => px_F Z0 cb0 bb0 n pl (bb + 1) Z') := by
  unfold px_c2
  rw [px_mustF h.2.1 h.2.2.1, Option.bind_some]
  exact px_c3F h hb
theorem px_c1F {Z0 Z : zm_S} {cb0 bb0 n pl bb : Nat} (h : px_F Z0 cb0 bb0 n pl bb Z) (hb : bb < 130 * (bb0 / 130) + 130) : pw (px_c1 Z) (fun Z' => px_F Z0 cb0 bb0 n pl (bb + 1) Z') := by
  have hbb := h.2.2.2.2.2
  have h1 := px_FA h hb 34 (vp_nar .boolean 1) (by omega)
  unfold px_c1
  rw [h.2.2.2.2.1, pj_ast (by omega) (by omega), Option.bind_some, h1.2.2.2.2.1, pj_ast (by omega) (by omega), Option.bind_some]
  have h2 := px_FA h1 hb 35 ((zm_sA Z 34 (pj bb) (vp_nar .boolean 1)).1 39) (by omega)
  rw [px_exprF h2.2.1 h2.2.2.1, Option.bind_some]
  obtain ⟨g1, g2, g3, g4, g5, g6⟩ := h2
  exact px_c2F ⟨px_fr_trans g1 (px_fr_F _ (by omega)), g2, (zm_sFn (by omega)).trans g3, (zm_sFn (by omega)).trans g4, (zm_sFn (by omega)).trans g5, g6⟩ hb
/-- a branch that is laid -/
def px_b (Z : zm_S) (b : Nat) (q : zl_C × zl_C × zl_C) (a : Nat) : Prop := Z.2.1 34 b = 1 ∧ Z.2.1 35 b = pj a ∧ Z.2.1 36 b = pj (a + q.1.length : Nat) ∧ Z.2.1 37 b = pj (a + q.1.length + q.2.1.length : Nat) ∧ Z.2.1 38 b = pj (a + q.1.length + q.2.1.length + q.2.2.length : Nat) ∧ pl_cd Z a q.1 ∧ pl_cd Z (a + q.1.length) q.2.1 ∧ pl_cd Z (a + q.1.length + q.2.1.length) q.2.2
def pz_ql (q : zl_C × zl_C × zl_C) : Nat := q.1.length + q.2.1.length + q.2.2.length
theorem px_b_fr {cb bb : Nat} {Z Z' : zm_S} (h : px_fr cb bb Z Z') {b a : Nat} {q : zl_C × zl_C × zl_C} (hb : b < bb ∧ b < 260) (ha : a + pz_ql q ≤ cb) (g : px_b Z b q a) : px_b Z' b q a := by
  obtain ⟨g1, g2, g3, g4, g5, g6, g7, g8⟩ := g
  unfold pz_ql at ha
  have e := fun k h1 h2 => h.2.2.2.2 k b h1 h2 (by omega)
  exact ⟨(e 34 (by omega) (by omega)).trans g1, (e 35 (by omega) (by omega)).trans g2, (e 36 (by omega) (by omega)).trans g3, (e 37 (by omega) (by omega)).trans g4, (e 38 (by omega) (by omega)).trans g5, px_cd_fr h (by omega) g6, px_cd_fr h (by omega) g7, px_cd_fr h (by omega) g8⟩
theorem px_c4S {K : List pz_T} {sd : Nat} {Z0 Z : zm_S} {cb0 bb0 a cb bb : Nat} (h : px_S K sd Z0 cb0 bb0 a cb bb Z) (hb : bb < 130 * sd + 115) :
    pw (px_c4 Z) (fun Z' => Sum.elim (fun q => px_F Z0 cb0 bb0 q.1 q.2 (bb + 1) Z') (fun r => px_S K sd Z0 cb0 bb0 r.2 (cb + r.1.length) (bb + 1) Z' ∧ pl_wf r.1 ∧ a + 3 ≤ r.2 ∧ px_fr cb bb Z Z' ∧ pl_cd Z' cb r.1 ∧ Z'.2.1 37 bb = pj cb ∧ Z'.2.1 38 bb = pj ((cb + r.1.length : Nat) : Int) ∧ ∀ k j, 34 ≤ k → k ≤ 36 → j < 260 → Z'.2.1 k j = Z.2.1 k j)
      (pz_bd (pz_tk K 31 a) fun b3 => pz_bd (pz_sm K 8 0 b3) fun r3 => pz_bd (pz_tk K 32 r3.2) fun b4 => (Sum.inr (r3.1, b4) : pz_R (zl_C × Nat)))) := by
  have hB := px_S_b h
  unfold px_c4
  refine px_seq (px_must h (k := 31) (by omega) (by omega)) (fun q Z1 h1 => ?_) (fun b Z1 _ h1 => ?_)
  · refine pw_seq (px_termF h1 (by omega)) (fun Z2 h2 => ?_)
    rw [px_mustF h2.2.1 h2.2.2.1, pw_some]
    exact h2
  · obtain ⟨s1, rfl, s3⟩ := h1
    refine px_seq (px_term s1 hb) (fun q Z2 h2 => ?_) (fun r Z2 _ h2 => ?_)
    · rw [px_mustF h2.2.1 h2.2.2.1, pw_some]
      exact h2
    · obtain ⟨t1, t2, t3, t4, t5, t6, t7⟩ := h2
      refine pw_mono (px_must t1 (k := 32) (by omega) (by omega)) (fun Z3 h3 => ?_)
      cases hp : pz_tk K 32 r.2 with
      | inl q => rw [hp] at h3; exact h3
      | inr b4 =>
        rw [hp] at h3
        obtain ⟨u1, u2, u3⟩ := h3
        have hg := t2.2.1
        have hB1 := px_S_b t1
        have hlen := t1.2.2.2.2.2.2.2.2.2.1
        have ha4 := t1.2.2.2.2.2.2.2.2.1
        have hsd := t1.2.2.2.2.2.2.2.2.2.2.2.2.1
        have hw := pz_g_wf t2
        have hc3 := px_cd_fr (a := cb) (c := r.1) u3 (by omega) t4
        refine ⟨u1, hw, by show a + 3 ≤ b4; omega, px_fr_trans (px_fr_mono s3 (by omega) (by omega)) (px_fr_trans t3 (px_fr_mono u3 (by omega) (by omega))), hc3, ?_, ?_, fun k j k1 k2 hj => ?_⟩
        · rw [u3.2.2.2.2 37 bb (by omega) (by omega) (by omega)]; exact t5
        · rw [u3.2.2.2.2 38 bb (by omega) (by omega) (by omega)]; exact t6
        · rw [u3.2.2.2.2 k j (by omega) (by omega) (by omega), t7 k j k1 k2 (by omega), s3.2.2.2.2 k j (by omega) (by omega) (by omega)]
theorem px_c3S {K : List pz_T} {sd : Nat} {Z0 Z : zm_S} {cb0 bb0 a cb bb : Nat} (h : px_S K sd Z0 cb0 bb0 a cb bb Z) (hb : bb < 130 * sd + 115) :
    pw (px_c3 Z) (fun Z' => Sum.elim (fun q => px_F Z0 cb0 bb0 q.1 q.2 (bb + 1) Z') (fun r => px_S K sd Z0 cb0 bb0 r.2 (cb + r.1.1.length + r.1.2.length) (bb + 1) Z' ∧ (pl_wf r.1.1 ∧ pl_wf r.1.2) ∧ a + 4 ≤ r.2 ∧ px_fr cb bb Z Z' ∧ (pl_cd Z' cb r.1.1 ∧ pl_cd Z' (cb + r.1.1.length) r.1.2) ∧ Z'.2.1 36 bb = pj cb ∧ Z'.2.1 37 bb = pj ((cb + r.1.1.length : Nat) : Int) ∧ Z'.2.1 38 bb = pj ((cb + r.1.1.length + r.1.2.length : Nat) : Int) ∧ ∀ k j, 34 ≤ k → k ≤ 35 → j < 260 → Z'.2.1 k j = Z.2.1 k j)
      (pz_bd (pz_sm K 8 0 a) fun r2 => pz_bd (pz_tk K 31 r2.2) fun b3 => pz_bd (pz_sm K 8 0 b3) fun r3 => pz_bd (pz_tk K 32 r3.2) fun b4 => (Sum.inr ((r2.1, r3.1), b4) : pz_R ((zl_C × zl_C) × Nat)))) := by
  have hB := px_S_b h
  have e39 := h.2.2.2.2.2.1
  have e33 := h.2.2.2.2.2.2.1
  unfold px_c3
  obtain ⟨q1, q2, q3, q4⟩ := px_A h 36 (Z.1 39) (by omega)
  rw [e33, pj_ast (by omega) (by omega), Option.bind_some, if_pos q1.2.2.1]
  have q4' : ∀ k, 34 ≤ k → k ≤ 35 → (zm_sA Z 36 (pj bb) (Z.1 39)).2.1 k = Z.2.1 k := fun k a b => pm_sAn (by omega)
  generalize zm_sA Z 36 (pj bb) (Z.1 39) = Z1 at q1 q2 q3 q4 q4'
  have e1 : ∀ x : Option zm_S, (x.bind fun M5 => some M5) = x := fun x => by cases x <;> rfl
  rw [e1]
  refine px_seq (px_expr q1) (fun q Z2 h2 => px_c4F h2 (by omega)) (fun r2 Z2 _ h2 => ?_)
  obtain ⟨t1, t2, t3, t4⟩ := h2
  refine pw_mono (px_c4S t1 hb) (fun Z3 h3 => ?_)
  have hg := t2.2.1
  have hB1 := px_S_b t1
  have hlen := t1.2.2.2.2.2.2.2.2.2.1
  have ha4 := t1.2.2.2.2.2.2.2.2.1
  have hsd := t1.2.2.2.2.2.2.2.2.2.2.2.2.1
  revert h3
  generalize hgen : (pz_bd (pz_tk K 31 r2.2) fun b3 => pz_bd (pz_sm K 8 0 b3) fun r3 => pz_bd (pz_tk K 32 r3.2) fun b4 => (Sum.inr (r3.1, b4) : pz_R (zl_C × Nat))) = X
  intro h3
  have hX : (pz_bd (pz_tk K 31 r2.2) fun b3 => pz_bd (pz_sm K 8 0 b3) fun r3 => pz_bd (pz_tk K 32 r3.2) fun b4 => (Sum.inr ((r2.1, r3.1), b4) : pz_R ((zl_C × zl_C) × Nat))) = pz_bd X fun r => Sum.inr ((r2.1, r.1), r.2) := by
    rw [← hgen]
    cases pz_tk K 31 r2.2 with
    | inl q => rfl
    | inr b3 =>
      show pz_bd (pz_sm K 8 0 b3) _ = pz_bd (pz_bd (pz_sm K 8 0 b3) _) _
      cases pz_sm K 8 0 b3 with
      | inl q => rfl
      | inr r3 =>
        show pz_bd (pz_tk K 32 r3.2) _ = pz_bd (pz_bd (pz_tk K 32 r3.2) _) _
        cases pz_tk K 32 r3.2 <;> rfl
  rw [hX]
  cases X with
  | inl q => exact h3
  | inr r =>
    obtain ⟨u1, u2, u3, u4, u5, u6, u7, u8⟩ := h3
    have hw := pz_g_wf t2
    have hc3 := px_cd_fr (a := cb) (c := r2.1) u4 (by omega) t4
    refine ⟨u1, ⟨hw, u2⟩, by show a + 4 ≤ r.2; omega, px_fr_trans (px_fr_mono q3 (by omega) (by omega)) (px_fr_trans (px_fr_mono t3 (by omega) (by omega)) (px_fr_mono u4 (by omega) (by omega))), ⟨hc3, u5⟩, ?_, u6, u7, fun k j k1 k2 hj => ?_⟩
    · rw [u8 36 bb (by omega) (by omega) (by omega), t3.2.2.2.2 36 bb (by omega) (by omega) (by omega), q2, e39]
    · rw [u8 k j (by omega) (by omega) (by omega), t3.2.2.2.2 k j (by omega) (by omega) (by omega), q4' k k1 k2]
theorem px_c0S {K : List pz_T} {sd : Nat} {Z0 Z : zm_S} {cb0 bb0 a cb bb : Nat} (h : px_S K sd Z0 cb0 bb0 a cb bb Z) (hb : bb < 130 * sd + 115) (hk : pz_kd K a = 30) :
    pw (px_c0 Z) (fun Z' => Sum.elim (fun q => px_F Z0 cb0 bb0 q.1 q.2 (bb + 1) Z') (fun r => px_S K sd Z0 cb0 bb0 r.2 (cb + pz_ql r.1) (bb + 1) Z' ∧ (pl_wf r.1.1 ∧ pl_wf r.1.2.1 ∧ pl_wf r.1.2.2) ∧ a + 7 ≤ r.2 ∧ px_fr cb bb Z Z' ∧ px_b Z' bb r.1 cb) (pz_if K a)) := by
  have hB := px_S_b h
  have e39 := h.2.2.2.2.2.1
  have e33 := h.2.2.2.2.2.2.1
  obtain ⟨h1, h2, h3, h4, h5, h6, h7, h8, h9, h10, h11, h12, h13, h14⟩ := id h
  have hgo : pw (gm_goesOn Z) (fun Z' => Sum.elim (fun q => px_F Z0 cb0 bb0 q.1 q.2 bb Z') (fun b => px_S K sd Z0 cb0 bb0 b cb bb Z' ∧ b = a + 1 ∧ px_fr 5000 5000 Z Z') (pz_ps K a)) := by
    have := px_must h (k := 30) (by omega) (by omega)
    unfold gm_must pz_tk at this
    rw [if_pos hk, pm_is0 h1 h3 h4 h8 h9 (by omega), decide_eq_true hk, Option.bind_some, if_pos rfl] at this
    have e1 : ∀ x : Option zm_S, (x.bind fun M5 => some M5) = x := fun x => by cases x <;> rfl
    rw [e1] at this
    exact this
  unfold px_c0 pz_if
  refine px_seq hgo (fun q Z1 h1 => px_c1F h1 (by omega)) (fun b Z1 _ g1 => ?_)
  obtain ⟨s1, rfl, s3⟩ := g1
  have f33 := s1.2.2.2.2.2.2.1
  unfold px_c1
  obtain ⟨q1, q2, q3, q4⟩ := px_A s1 34 (vp_nar .boolean 1) (by omega)
  rw [f33, pj_ast (by omega) (by omega), Option.bind_some]
  generalize zm_sA Z1 34 (pj bb) (vp_nar .boolean 1) = Z2 at q1 q2 q3 q4
  have g33 := q1.2.2.2.2.2.2.1
  have g39 := q1.2.2.2.2.2.1
  obtain ⟨r1, r2, r3, r4⟩ := px_A q1 35 (Z2.1 39) (by omega)
  rw [g33, pj_ast (by omega) (by omega), Option.bind_some]
  generalize zm_sA Z2 35 (pj bb) (Z2.1 39) = Z3 at r1 r2 r3 r4
  refine px_seq (px_expr r1) (fun q Z4 h4 => px_c2F h4 (by omega)) (fun v1 Z4 _ t => ?_)
  obtain ⟨t1, t2, t3, t4⟩ := t
  unfold px_c2
  refine px_seq (px_must t1 (k := 13) (by omega) (by omega)) (fun q Z5 h5 => px_c3F h5 (by omega)) (fun b2 Z5 _ u => ?_)
  obtain ⟨u1, rfl, u3⟩ := u
  refine pw_mono (px_c3S u1 hb) (fun Z6 h6 => ?_)
  have hg := t2.2.1
  have hB1 := px_S_b t1
  have hlen := t1.2.2.2.2.2.2.2.2.2.1
  have ha4 := t1.2.2.2.2.2.2.2.2.1
  revert h6
  generalize hgen : (pz_bd (pz_sm K 8 0 (v1.2 + 1)) fun r2 => pz_bd (pz_tk K 31 r2.2) fun b3 => pz_bd (pz_sm K 8 0 b3) fun r3 => pz_bd (pz_tk K 32 r3.2) fun b4 => (Sum.inr ((r2.1, r3.1), b4) : pz_R ((zl_C × zl_C) × Nat))) = X
  intro h6
  have hX : (pz_bd (pz_sm K 8 0 (v1.2 + 1)) fun r2 => pz_bd (pz_tk K 31 r2.2) fun b3 => pz_bd (pz_sm K 8 0 b3) fun r3 => pz_bd (pz_tk K 32 r3.2) fun b4 => (Sum.inr ((v1.1, r2.1, r3.1), b4) : pz_R ((zl_C × zl_C × zl_C) × Nat))) = pz_bd X fun r => Sum.inr ((v1.1, r.1.1, r.1.2), r.2) := by
    rw [← hgen]
    cases pz_sm K 8 0 (v1.2 + 1) with
    | inl q => rfl
    | inr r2 =>
      show pz_bd (pz_tk K 31 r2.2) _ = pz_bd (pz_bd (pz_tk K 31 r2.2) _) _
      cases pz_tk K 31 r2.2 with
      | inl q => rfl
      | inr b3 =>
        show pz_bd (pz_sm K 8 0 b3) _ = pz_bd (pz_bd (pz_sm K 8 0 b3) _) _
        cases pz_sm K 8 0 b3 with
        | inl q => rfl
        | inr r3 =>
          show pz_bd (pz_tk K 32 r3.2) _ = pz_bd (pz_bd (pz_tk K 32 r3.2) _) _
          cases pz_tk K 32 r3.2 <;> rfl
  rw [hX]
  cases X with
  | inl q => exact h6
  | inr r =>
    obtain ⟨w1, w2, w3, w4, w5, w6, w7, w8, w9⟩ := h6
    have e1 : cb + pz_ql (v1.1, r.1.1, r.1.2) = cb + v1.1.length + r.1.1.length + r.1.2.length := by unfold pz_ql; dsimp only; omega
    have hfin : px_S K sd Z0 cb0 bb0 r.2 (cb + pz_ql (v1.1, r.1.1, r.1.2)) (bb + 1) Z6 := by rw [e1]; exact w1
    refine ⟨hfin, ⟨pz_g_wf t2, w2.1, w2.2⟩, by show a + 7 ≤ r.2; omega, ?_, ?_⟩
    · exact px_fr_trans (px_fr_mono s3 (by omega) (by omega)) (px_fr_trans (px_fr_mono q3 (by omega) (by omega)) (px_fr_trans (px_fr_mono r3 (by omega) (by omega)) (px_fr_trans (px_fr_mono t3 (by omega) (by omega)) (px_fr_trans (px_fr_mono u3 (by omega) (by omega)) (px_fr_mono w4 (by omega) (by omega))))))
    · have c34 : ∀ k, 34 ≤ k → k ≤ 35 → Z6.2.1 k bb = Z3.2.1 k bb := fun k k1 k2 => by
        rw [w9 k bb k1 k2 (by omega), u3.2.2.2.2 k bb (by omega) (by omega) (by omega), t3.2.2.2.2 k bb (by omega) (by omega) (by omega)]
      refine ⟨?_, ?_, w6, w7, w8, ?_, w5.1, w5.2⟩
      · rw [c34 34 (by omega) (by omega), r4 34 bb (by omega), q2]; decide
      · rw [c34 35 (by omega) (by omega), r2, g39]
      · exact px_cd_fr (px_fr_trans (px_fr_mono u3 (by omega) (by omega)) (px_fr_mono w4 (by omega) (by omega)) : px_fr (cb + v1.1.length) bb Z4 Z6) (Nat.le_refl _) t4
/-! laws by the model: whole -/
def px_bs (Z : zm_S) (f0 cl cb : Nat) (L : List (zl_C × zl_C × zl_C)) : Prop := ∀ (j : Nat) q, L[j]? = some q → (pl_wf q.1 ∧ pl_wf q.2.1 ∧ pl_wf q.2.2) ∧ ∃ a, px_b Z (f0 + j) q a ∧ cl ≤ a ∧ a + pz_ql q ≤ cb
theorem px_bs_fr {cb bb : Nat} {Z Z' : zm_S} (h : px_fr cb bb Z Z') {f0 cl : Nat} {L : List (zl_C × zl_C × zl_C)} (hb : f0 + L.length ≤ bb ∧ f0 + L.length ≤ 260) (g : px_bs Z f0 cl cb L) : px_bs Z' f0 cl cb L := fun j q hj => by
  obtain ⟨g1, a, g2, g3, g4⟩ := g j q hj
  have := (List.getElem?_eq_some_iff.1 hj).1
  exact ⟨g1, a, px_b_fr h (by omega) g4 g2, g3, g4⟩
theorem px_body {K : List pz_T} {sd : Nat} {Z0 Z : zm_S} {cb0 bb0 a cb bb : Nat} (h : px_S K sd Z0 cb0 bb0 a cb bb Z) (hk : pz_kd K a = 30) {i : Nat} (hi : i < 4) : gm_tellLaw_L12 (pj i, Z) = (px_c0 Z).bind fun M14 => some (Sum.inl (pj ((i + 1 : Nat) : Int), M14)) := by
  obtain ⟨h1, h2, h3, h4, h5, h6, h7, h8, h9, h10, h11, h12, h13, h14⟩ := id h
  have hI : gm_is Z 30 = some (decide (pz_kd K a = 30)) := pm_is0 h1 h3 h4 h8 h9 (k := 30) (by omega)
  have hi4 : ¬ pj (i : Nat) = 4 := by rw [show (4 : Int32) = pj 4 from rfl, pj_eq (by omega) (by omega)]; omega
  have hn0 : ¬ 0 < Z.1 13 := by rw [h3]; decide
  have ei : pj (i : Nat) + 1 = pj ((i + 1 : Nat) : Int) := by rw [pj_1, pj_add]; rfl
  unfold gm_tellLaw_L12 px_c0 px_c1 px_c2 px_c3 px_c4
  rw [if_pos h3, hI, decide_eq_true hk, Option.bind_some, if_pos rfl, if_neg hi4, Option.bind_some, if_neg hn0, ei]
  simp only [Option.bind_assoc]
theorem px_stop {Z : zm_S} (i : Int32) (h : ¬ Z.1 13 = 0 ∨ gm_is Z 30 = some false) : gm_tellLaw_L12 (i, Z) = some (Sum.inr (Sum.inl Z)) := by
  unfold gm_tellLaw_L12
  rcases h with h | h
  · rw [if_neg h]
  · by_cases c : Z.1 13 = 0
    · rw [if_pos c, h, Option.bind_some, if_neg (by decide)]
    · rw [if_neg c]
theorem px_ifs {K : List pz_T} {sd : Nat} {Z0 : zm_S} {cb0 bb0 f0 cl a0 : Nat} (hf0 : f0 ≤ 130 * sd + 105 ∧ sd < 2 ∧ 130 * sd ≤ bb0 ∧ bb0 ≤ f0) : ∀ (n : Nat) (L : List (zl_C × zl_C × zl_C)) (a cb : Nat) (Z : zm_S) (f : Nat), n + L.length = 6 → L.length ≤ 4 → n < f → px_S K sd Z0 cb0 bb0 a cb (f0 + L.length) Z → px_bs Z f0 cl cb L → cl ≤ cb → a0 + 7 * L.length ≤ a →
    pw (zs_loop f gm_tellLaw_L12 (pj L.length, Z)) (fun r => Sum.elim (fun q => (∃ Z' bb, r = Sum.inl Z' ∧ px_F Z0 cb0 bb0 q.1 q.2 bb Z' ∧ bb ≤ 130 * sd + 115) ∨ (∃ Z' bb, r = Sum.inr Z' ∧ px_F Z0 cb0 bb0 q.1 q.2 bb Z')) (fun v => ∃ Z' cb', r = Sum.inl Z' ∧ px_S K sd Z0 cb0 bb0 v.2 cb' (f0 + v.1.length) Z' ∧ px_bs Z' f0 cl cb' v.1 ∧ cl ≤ cb' ∧ v.1.length ≤ 4 ∧ a0 + 7 * v.1.length ≤ v.2 ∧ px_fr cb (f0 + L.length) Z Z' ∧ cb ≤ cb') (pz_ifs K n L a))
  | 0, L, a, cb, Z, f, h1, h2, h3, h4, h5, h6, h7 => absurd h1 (by omega)
  | n + 1, L, a, cb, Z, f, h1, h2, h3, h4, h5, h6, h7 => by
    obtain ⟨f, rfl⟩ : ∃ g, f = g + 1 := ⟨f - 1, by omega⟩
    show pw ((gm_tellLaw_L12 (pj L.length, Z)).bind fun s => Sum.elim (fun t' => zs_loop f gm_tellLaw_L12 t') some s) _
    obtain ⟨g1, g2, g3, g4, g5, g6, g7, g8, g9, g10, g11, g12, g13, g14⟩ := id h4
    unfold pz_ifs
    by_cases hk : pz_kd K a = 30
    · rw [if_pos hk]
      by_cases h44 : L.length = 4
      · rw [if_pos h44]
        have hI : gm_is Z 30 = some (decide (pz_kd K a = 30)) := pm_is0 g1 g3 g4 g8 g9 (k := 30) (by omega)
        have e4 : ((L.length : Nat) : Int) = 4 := by omega
        have hF : px_F Z0 cb0 bb0 2 (pz_fr K a) (f0 + L.length) (zm_sF (zm_sF Z 13 (pj (2 : Nat))) 14 (pj (pz_fr K a : Nat))) := by
          refine ⟨px_fr_trans g2 (px_fr_trans (px_fr_F _ (by omega)) (px_fr_F _ (by omega))), Or.inr rfl, ?_, zm_sFs _ _ _, ?_, by omega⟩
          · rw [zm_sFn (by omega), zm_sFs]
          · rw [zm_sFn (by omega), zm_sFn (by omega)]; exact g7
        have : gm_tellLaw_L12 (pj L.length, Z) = some (Sum.inr (Sum.inr (zm_sF (zm_sF Z 13 (pj (2 : Nat))) 14 (pj (pz_fr K a : Nat))))) := by
          unfold gm_tellLaw_L12
          rw [if_pos g3, hI, decide_eq_true hk, Option.bind_some, if_pos rfl, if_pos (by rw [e4]; rfl), show (2 : Int32) = pj ((2 : Nat) : Int) from rfl, pm_fail0 g1 g3 g4 g8 g9, Option.bind_some, Option.bind_some, if_pos (px_F13 hF).2]
        rw [this, Option.bind_some]
        exact (pw_some _ _).2 (Or.inr ⟨_, _, rfl, hF⟩)
      · rw [if_neg h44, px_body h4 hk (by omega)]
        rw [Option.bind_assoc]
        refine pw_seq (px_c0S h4 (by omega) hk) (fun Z1 hZ1 => ?_)
        rw [Option.bind_some, Sum.elim_inl]
        cases hr : pz_if K a with
        | inl q =>
          rw [hr] at hZ1
          have hZ1 : px_F Z0 cb0 bb0 q.1 q.2 (f0 + L.length + 1) Z1 := hZ1
          obtain ⟨f, rfl⟩ : ∃ g, f = g + 1 := ⟨f - 1, by omega⟩
          show pw ((gm_tellLaw_L12 (_, Z1)).bind fun s => Sum.elim (fun t' => zs_loop f gm_tellLaw_L12 t') some s) _
          rw [px_stop _ (Or.inl (px_F13 hZ1).1), Option.bind_some]
          exact (pw_some _ _).2 (Or.inl ⟨Z1, _, rfl, hZ1, by omega⟩)
        | inr r =>
          rw [hr] at hZ1
          obtain ⟨s1, s2, s3, s4, s5⟩ := hZ1
          have hB := px_S_b h4
          have hB1 := px_S_b s1
          have hlen : (L ++ [r.1]).length = L.length + 1 := by rw [List.length_append]; rfl
          have hst := px_ifs (cl := cl) (a0 := a0) hf0 n (L ++ [r.1]) r.2 (cb + pz_ql r.1) Z1 f (by rw [hlen]; omega) (by rw [hlen]; omega) (by omega) (by rw [hlen]; exact s1) (fun j q hj => by
            rcases pz_app_get hj with ⟨q1, q2⟩ | ⟨q1, q2⟩
            · obtain ⟨k1, a', k2, k3, k4⟩ := h5 j q q2
              exact ⟨k1, a', px_b_fr s4 (by omega) k4 k2, k3, by omega⟩
            · subst q1 q2
              exact ⟨s2, cb, s5, h6, Nat.le_refl _⟩) (by omega) (by rw [hlen]; omega)
          rw [hlen] at hst
          refine pw_mono hst (fun v hv => ?_)
          change Sum.elim _ _ (pz_ifs K n (L ++ [r.1]) r.2)
          cases hv2 : pz_ifs K n (L ++ [r.1]) r.2 with
          | inl q => rw [hv2] at hv; exact hv
          | inr w =>
            rw [hv2] at hv
            obtain ⟨Z', cb', e1, e2, e3, e4, e5, e6, e7, e8⟩ := hv
            exact ⟨Z', cb', e1, e2, e3, e4, e5, e6, px_fr_trans s4 (px_fr_mono e7 (by omega) (by omega)), by omega⟩
    · rw [if_neg hk, px_stop _ (Or.inr (by rw [show (30 : Int32) = pj ((30 : Nat) : Int) from rfl, pm_is0 g1 g3 g4 g8 g9 (by omega), decide_eq_false hk])), Option.bind_some]
      exact (pw_some _ _).2 ⟨Z, cb, rfl, h4, h5, h6, h2, h7, px_fr_rfl _ _ Z, Nat.le_refl _⟩
def py_fr (cb bb i : Nat) (Z Z' : zm_S) : Prop := Z'.2.1 31 i = Z.2.1 31 i ∧ Z'.2.1 32 i = Z.2.1 32 i ∧ (∀ k j, 34 ≤ k → k ≤ 38 → j < bb → Z'.2.1 k j = Z.2.1 k j) ∧ ∀ j, j < cb → Z'.2.1 40 j = Z.2.1 40 j ∧ Z'.2.1 41 j = Z.2.1 41 j
/-- a law that stands whatever is written behind it -/
def py_lw (cb bb : Nat) (Z : zm_S) (sd k : Nat) (o : Option zl_L) : Prop := ∀ Z', py_fr cb bb (4 * sd + k) Z Z' → pl_lw Z' sd k o
/-- one law, told: the sides' own part is 31, 32 at one place -/
theorem px_tellLaw {K : List pz_T} {sd : Nat} {Z0 Z : zm_S} {cb0 bb0 a cb bb : Nat} (h : px_S K sd Z0 cb0 bb0 a cb bb Z) (hb : bb ≤ 130 * sd + 104) (hcs : 420 * sd ≤ cb) (h19 : Z.1 19 = pj sd) {k : Nat} (hk : k < 4) :
    pw (gm_tellLaw Z (pj k)) (fun Z' => Sum.elim (fun q => ∃ bb, px_F Z0 cb0 bb0 q.1 q.2 bb Z') (fun r => ∃ Z1 cb', Z' = zm_sA (zm_sA Z1 31 (pj ((4 * sd + k : Nat) : Int)) (pj bb)) 32 (pj ((4 * sd + k : Nat) : Int)) (pj ((bb + r.1.1.length + 1 : Nat) : Int)) ∧ px_S K sd Z0 cb0 bb0 r.2 cb' (bb + r.1.1.length + 1) Z1 ∧ px_fr cb bb Z Z1 ∧ a + 4 + 7 * r.1.1.length - 1 ≤ r.2 ∧ py_lw cb' (bb + r.1.1.length + 1) Z' sd k (some r.1) ∧ cb ≤ cb')
      (pz_bd (pz_law K a) fun r => pz_bd (pz_tk K 4 r.2) fun b => (Sum.inr (r.1, b) : pz_R (zl_L × Nat)))) := by
  have hB := px_S_b h
  have e33 := h.2.2.2.2.2.2.1
  have hcbb := h.2.2.2.2.2.2.2.2.2.1
  have ha400 := h.2.2.2.2.2.2.2.2.1
  have hsd2 := h.2.2.2.2.2.2.2.2.2.2.2.2.1
  have hlaw : (pz_bd (pz_law K a) fun r => pz_bd (pz_tk K 4 r.2) fun b => (Sum.inr (r.1, b) : pz_R (zl_L × Nat))) = pz_bd (pz_tk K 5 a) fun b => pz_bd (pz_ifs K 6 [] b) fun q => pz_bd (pz_sm K 8 0 q.2) fun r => pz_bd (pz_tk K 4 r.2) fun b => Sum.inr ((q.1, r.1), b) := by
    unfold pz_law
    cases pz_tk K 5 a with
    | inl q => rfl
    | inr b =>
      show pz_bd (pz_bd (pz_ifs K 6 [] b) _) _ = pz_bd (pz_ifs K 6 [] b) _
      cases pz_ifs K 6 [] b with
      | inl q => rfl
      | inr q =>
        show pz_bd (pz_bd (pz_sm K 8 0 q.2) _) _ = pz_bd (pz_sm K 8 0 q.2) _
        cases pz_sm K 8 0 q.2 <;> rfl
  rw [hlaw]
  -- behind a fault
  have hend : ∀ {n pl bb' : Nat} {Z1 : zm_S} (x2 : Int32), px_F Z0 cb0 bb0 n pl bb' Z1 → bb' ≤ 130 * sd + 118 → pw ((zs_ast 260 (Z1.1 33) (zm_sA Z1 34 (Z1.1 33) (vp_nar .boolean 0))).bind fun M18 => (gm_term M18).bind fun M19 => (gm_must M19 4).bind fun M20 => if 0 < (M20.1 13) then (some M20) else ((zs_ast 8 ((4 * (M20.1 19)) + pj k) (zm_sA M20 31 ((4 * (M20.1 19)) + pj k) x2)).bind fun M21 => (zs_ast 8 ((4 * (M21.1 19)) + pj k) (zm_sA M21 32 ((4 * (M21.1 19)) + pj k) (M21.1 33))).bind fun M22 => some M22)) (fun Z' => ∃ bb, px_F Z0 cb0 bb0 n pl bb Z') := by
    intro n pl bb' Z1 x2 hF hbb
    have hbb := hF.2.2.2.2.2
    have h1 := px_FA hF (by omega) 34 (vp_nar .boolean 0) (by omega)
    rw [hF.2.2.2.2.1, pj_ast (by omega) (by omega), Option.bind_some]
    refine pw_seq (px_termF h1 (by omega)) (fun Z2 h2 => ?_)
    rw [px_mustF h2.2.1 h2.2.2.1, Option.bind_some, if_pos (px_F13 h2).2, pw_some]
    exact ⟨_, h2⟩
  have hloopF : ∀ {n pl bb' : Nat} {Z1 : zm_S} (x2 : Int32), px_F Z0 cb0 bb0 n pl bb' Z1 → bb' ≤ 130 * sd + 115 → pw ((zs_loop 5000 gm_tellLaw_L12 (0, Z1)).bind (Sum.elim (fun (r17 : zm_S) => (zs_ast 260 (r17.1 33) (zm_sA r17 34 (r17.1 33) (vp_nar .boolean 0))).bind fun M18 => (gm_term M18).bind fun M19 => (gm_must M19 4).bind fun M20 => if 0 < (M20.1 13) then (some M20) else ((zs_ast 8 ((4 * (M20.1 19)) + pj k) (zm_sA M20 31 ((4 * (M20.1 19)) + pj k) x2)).bind fun M21 => (zs_ast 8 ((4 * (M21.1 19)) + pj k) (zm_sA M21 32 ((4 * (M21.1 19)) + pj k) (M21.1 33))).bind fun M22 => some M22)) (fun z => some z))) (fun Z' => ∃ bb, px_F Z0 cb0 bb0 n pl bb Z') := by
    intro n pl bb' Z1 x2 hF hbb
    have : zs_loop 5000 gm_tellLaw_L12 (0, Z1) = some (Sum.inl Z1) := by
      show ((gm_tellLaw_L12 (0, Z1)).bind fun s => Sum.elim (fun t' => zs_loop 4999 gm_tellLaw_L12 t') some s) = _
      rw [px_stop _ (Or.inl (px_F13 hF).1)]; rfl
    rw [this, Option.bind_some, Sum.elim_inl]
    exact hend x2 hF (by omega)
  unfold gm_tellLaw
  refine px_seq (px_must h (k := 5) (by omega) (by omega)) (fun q Z1 h1 => ?_) (fun b Z1 _ h1 => ?_)
  · rw [Option.bind_some]
    exact hloopF _ h1 (by omega)
  · obtain ⟨s1, rfl, s3⟩ := h1
    rw [Option.bind_some, s1.2.2.2.2.2.2.1]
    have hifs := px_ifs (K := K) (sd := sd) (Z0 := Z0) (cb0 := cb0) (bb0 := bb0) (f0 := bb) (cl := cb) (a0 := a + 1) (by omega) 6 [] (a + 1) cb Z1 5000 rfl (by decide) (by omega) s1 (fun j q hj => (by cases hj)) (by omega) (by show a + 1 + 7 * 0 ≤ a + 1; omega)
    refine pw_seq hifs (fun r hr => ?_)
    cases hv : pz_ifs K 6 [] (a + 1) with
    | inl q =>
      rw [hv] at hr
      rcases hr with ⟨Z', bb', rfl, e1, e2⟩ | ⟨Z', bb', rfl, e1⟩
      · rw [Sum.elim_inl]
        exact hend _ e1 (by omega)
      · rw [Sum.elim_inr, pw_some]
        exact ⟨bb', e1⟩
    | inr v =>
      rw [hv] at hr
      obtain ⟨Z2, cb2, rfl, e2, e3, e4, e5, e6, e7, e8⟩ := hr
      have e7 : px_fr cb bb Z1 Z2 := e7
      have hB2 := px_S_b e2
      rw [Sum.elim_inl]
      have f33 := e2.2.2.2.2.2.2.1
      obtain ⟨q1, q2, q3, q4⟩ := px_A e2 34 (vp_nar .boolean 0) (by omega)
      rw [f33, pj_ast (by omega) (by omega), Option.bind_some]
      generalize zm_sA Z2 34 (pj ((bb + v.1.length : Nat) : Int)) (vp_nar .boolean 0) = Z3 at q1 q2 q3 q4
      show pw _ (fun Z' => Sum.elim _ _ (pz_bd (pz_sm K 8 0 v.2) _))
      refine px_seq (px_term q1 (by omega)) (fun q Z4 h4 => ?_) (fun r3 Z4 _ h4 => ?_)
      · rw [px_mustF h4.2.1 h4.2.2.1, Option.bind_some, if_pos (px_F13 h4).2, pw_some]
        exact ⟨_, h4⟩
      · obtain ⟨t1, t2, t3, t4, t5, t6, t7⟩ := h4
        refine px_seq (px_must t1 (k := 4) (by omega) (by omega)) (fun q Z5 h5 => ?_) (fun b4 Z5 _ h5 => ?_)
        · rw [if_pos (px_F13 h5).2, pw_some]
          exact ⟨_, h5⟩
        · obtain ⟨u1, rfl, u3⟩ := h5
          have hsd := u1.2.2.2.2.2.2.2.2.2.2.2.2.1
          have hfr : px_fr cb bb Z Z5 := px_fr_trans (px_fr_mono s3 (by omega) (by omega)) (px_fr_trans (px_fr_mono e7 (by omega) (by omega)) (px_fr_trans (px_fr_mono q3 (by omega) (by omega)) (px_fr_trans (px_fr_mono t3 (by omega) (by omega)) (px_fr_mono u3 (by omega) (by omega)))))
          have g19 : Z5.1 19 = pj sd := (hfr.1 19 (by omega)).trans h19
          have hn0 : ¬ 0 < Z5.1 13 := by rw [u1.2.2.1]; decide
          have g33 := u1.2.2.2.2.2.2.1
          have e4k : 4 * pj (sd : Nat) + pj (k : Nat) = pj ((4 * sd + k : Nat) : Int) := by
            rw [show (4 : Int32) = pj 4 from rfl, pj_mul, pj_add]; congr 1
          have a1 : ∀ (A : zm_S) q i x, (zm_sA A q i x).1 = A.1 := fun _ _ _ _ => rfl
          rw [if_neg hn0, g19, e4k, pj_ast (by omega) (by omega), Option.bind_some, a1, g19, e4k, pj_ast (by omega) (by omega), Option.bind_some, pw_some, g33]
          have hB1 := px_S_b t1
          have hB2 := px_S_b e2
          have hlen := t1.2.2.2.2.2.2.2.2.2.1
          have ha4 := t1.2.2.2.2.2.2.2.2.1
          have hg := t2.2.1
          refine ⟨Z5, cb2 + r3.1.length, rfl, u1, hfr, by show a + 4 + 7 * v.1.length - 1 ≤ r3.2 + 1; omega, ?_, by omega⟩
          have hcell : ∀ q, q ≠ 31 → q ≠ 32 → (zm_sA (zm_sA Z5 31 (pj ((4 * sd + k : Nat) : Int)) (pj (bb : Nat))) 32 (pj ((4 * sd + k : Nat) : Int)) (pj ((bb + v.1.length + 1 : Nat) : Int))).2.1 q = Z5.2.1 q := fun q q1 q2 => by rw [pm_sAn q2, pm_sAn q1]
          have h31 : (zm_sA (zm_sA Z5 31 (pj ((4 * sd + k : Nat) : Int)) (pj (bb : Nat))) 32 (pj ((4 * sd + k : Nat) : Int)) (pj ((bb + v.1.length + 1 : Nat) : Int))).2.1 31 (4 * sd + k) = pj bb := by
            rw [pm_sAn (by omega), pm_sA, if_pos rfl, pj_nat (by omega), Int.toNat_natCast, pj_upd, if_pos rfl]
          have h32 : (zm_sA (zm_sA Z5 31 (pj ((4 * sd + k : Nat) : Int)) (pj (bb : Nat))) 32 (pj ((4 * sd + k : Nat) : Int)) (pj ((bb + v.1.length + 1 : Nat) : Int))).2.1 32 (4 * sd + k) = pj ((bb + v.1.length + 1 : Nat) : Int) := by
            rw [pm_sA, if_pos rfl, pj_nat (by omega), Int.toNat_natCast, pj_upd, if_pos rfl]
          generalize zm_sA (zm_sA Z5 31 (pj ((4 * sd + k : Nat) : Int)) (pj (bb : Nat))) 32 (pj ((4 * sd + k : Nat) : Int)) (pj ((bb + v.1.length + 1 : Nat) : Int)) = Z6 at hcell h31 h32
          intro Z7 hZ7
          obtain ⟨y1, y2, y3, y4⟩ := hZ7
          have y3 : ∀ k j, 34 ≤ k → k ≤ 38 → j < bb + v.1.length + 1 → Z7.2.1 k j = Z6.2.1 k j := y3
          have y4 : ∀ j, j < cb2 + r3.1.length → Z7.2.1 40 j = Z6.2.1 40 j ∧ Z7.2.1 41 j = Z6.2.1 41 j := y4
          rw [h31] at y1
          rw [h32] at y2
          have hcd : ∀ a (c : zl_C), a + c.length ≤ cb2 + r3.1.length → pl_cd Z5 a c → pl_cd Z7 a c := fun a c hc g => ⟨g.1, fun j q hj => by
            have := (List.getElem?_eq_some_iff.1 hj).1
            obtain ⟨z1, z2⟩ := y4 (a + j) (by omega)
            rw [z1, z2, hcell 40 (by omega) (by omega), hcell 41 (by omega) (by omega)]; exact g.2 j q hj⟩
          have hfr2 : px_fr cb2 (bb + v.1.length) Z2 Z5 := px_fr_trans (px_fr_mono q3 (by omega) (by omega)) (px_fr_trans (px_fr_mono t3 (by omega) (by omega)) (px_fr_mono u3 (by omega) (by omega)))
          have hbs2 := px_bs_fr hfr2 (by omega) e3
          change ∃ f : Nat, (f + v.1.length < 260 ∧ 130 * sd ≤ f ∧ f + v.1.length < 130 * (sd + 1)) ∧ Z7.2.1 31 (4 * sd + k) = pj f ∧ Z7.2.1 32 (4 * sd + k) = pj (f + v.1.length + 1 : Nat) ∧ (∀ (j : Nat) q, v.1[j]? = some q → pl_br Z7 (f + j) q) ∧ pl_el Z7 (f + v.1.length) r3.1 ∧ pl_okL (v.1, r3.1)
          refine ⟨bb, ⟨by show bb + v.1.length < 260; omega, by omega, by show bb + v.1.length < 130 * (sd + 1); omega⟩, y1, y2, fun j q hj => ?_, ?_, e5, fun q hq => ?_, pz_g_wf t2⟩
          · obtain ⟨k1, a', ⟨b1, b2, b3, b4, b5, b6, b7, b8⟩, k3, k4⟩ := hbs2 j q hj
            have hjl := (List.getElem?_eq_some_iff.1 hj).1
            unfold pz_ql at k4
            refine ⟨a', ?_, ?_, ?_, ?_, ?_, hcd _ _ (by omega) b6, hcd _ _ (by omega) b7, hcd _ _ (by omega) b8, by omega, by omega⟩
            · rw [y3 34 _ (by omega) (by omega) (by omega), hcell 34 (by omega) (by omega)]; exact b1
            · rw [y3 35 _ (by omega) (by omega) (by omega), hcell 35 (by omega) (by omega)]; exact b2
            · rw [y3 36 _ (by omega) (by omega) (by omega), hcell 36 (by omega) (by omega)]; exact b3
            · rw [y3 37 _ (by omega) (by omega) (by omega), hcell 37 (by omega) (by omega)]; exact b4
            · rw [y3 38 _ (by omega) (by omega) (by omega), hcell 38 (by omega) (by omega)]; exact b5
          · refine ⟨cb2, ?_, ?_, ?_, hcd _ _ (by omega) (px_cd_fr u3 (by omega) t4), by omega, by omega⟩
            · rw [y3 34 _ (by omega) (by omega) (by omega), hcell 34 (by omega) (by omega), u3.2.2.2.2 34 _ (by omega) (by omega) (by omega), t7 34 _ (by omega) (by omega) (by omega), q2]; decide
            · rw [y3 37 _ (by omega) (by omega) (by omega), hcell 37 (by omega) (by omega), u3.2.2.2.2 37 _ (by omega) (by omega) (by omega)]; exact t5
            · rw [y3 38 _ (by omega) (by omega) (by omega), hcell 38 (by omega) (by omega), u3.2.2.2.2 38 _ (by omega) (by omega) (by omega)]; exact t6
          · obtain ⟨j, hj⟩ := List.getElem?_of_mem hq
            exact (e3 j q hj).1
