set_option maxRecDepth 100000
/-! the tokens of a tape are as tokens are -/
def pz_tw (b : Nat → Int) (p k : Nat) (q : pz_T) : Prop := k ≤ q.2.1 ∧ q.2.1 ≤ p ∧ q.1 ≤ 41 ∧ (q.1 = 2 → q.2.2.2 ≤ 9999) ∧ (q.1 = 1 → (∀ c ∈ pz_sl b q.2.1 q.2.2.1, 97 ≤ c ∧ c ≤ 122) ∧ (pz_sl b q.2.1 q.2.2.1).length ≤ 8)
theorem pz_wk_bd (b : Nat → Int) (k e : Nat) : pz_wk b k e ≤ 41 ∧ (pz_wk b k e = 1 → e - k ≤ 8) ∧ pz_wk b k e ≠ 2 ∧ pz_wk b k e ≠ 0 := by
  unfold pz_wk
  cases h : pz_wd (pz_sl b k e) with
  | some j =>
    have := (List.getElem?_eq_some_iff.1 (pz_wd_some h)).1
    have h22 : pr_words.length = 22 := rfl
    dsimp only
    omega
  | none =>
    dsimp only
    split <;> omega
theorem pz_sg_bd (c : Int) : pz_sg c ≤ 15 ∧ 3 ≤ pz_sg c := by
  unfold pz_sg
  repeat' split
  all_goals omega
theorem pz_tok_w {b : Nat → Int} {p k : Nat} (hk : k < p) : pz_tw b p k (pz_tok b p k) := by
  obtain ⟨s1, s2, s3⟩ := pz_tok_sp (b := b) hk
  refine ⟨by omega, by omega, ?_⟩
  unfold pz_tok
  by_cases c : pz_ltr b p k = true
  · rw [if_pos c]
    obtain ⟨w1, w2, w3, w4⟩ := pz_wk_bd b k (pz_le b p k)
    obtain ⟨l1, l2, l3, l4⟩ := pz_le_sp c
    refine ⟨w1, fun e => absurd e w3, fun e => ⟨pz_sl_ok l3, ?_⟩⟩
    show (pz_sl b k (pz_le b p k)).length ≤ 8
    rw [pz_sl_len]
    exact w2 e
  · rw [if_neg c]
    by_cases d : pz_dig b p k = true
    · rw [if_pos d]
      obtain ⟨l1, l2, l3, l4⟩ := pz_de_sp d
      refine ⟨?_, fun e => ?_, fun e => ?_⟩
      · show (if 4 < pz_de b p k - k then 3 else 2) ≤ 41
        split <;> omega
      · have e : (if 4 < pz_de b p k - k then 3 else 2) = 2 := e
        by_cases h4 : 4 < pz_de b p k - k
        · rw [if_pos h4] at e; omega
        · have := (pz_num_bd (b := b) (k := k) (pz_de b p k - k) (fun j hj => by have := pz_dig_c (l3 (k + j) (by omega) (by omega)); omega)).1
          have h10 : 10 ^ (pz_de b p k - k) ≤ 10 ^ 4 := Nat.pow_le_pow_right (by omega) (by omega)
          show pz_num b k (pz_de b p k - k) ≤ 9999
          omega
      · have e : (if 4 < pz_de b p k - k then 3 else 2) = 1 := e
        split at e <;> omega
    · rw [if_neg d]
      have := pz_sg_bd (pz_c b p k)
      refine ⟨by show pz_sg (pz_c b p k) ≤ 41; omega, fun e => ?_, fun e => ?_⟩
      · have e : pz_sg (pz_c b p k) = 2 := e; omega
      · have e : pz_sg (pz_c b p k) = 1 := e; omega
theorem pz_toks_w {b : Nat → Int} {p : Nat} : ∀ (n k : Nat), k ≤ p → p + 1 ≤ k + n → 0 < (pz_toks b p n k).length ∧ (∀ (j : Nat) q, (pz_toks b p n k)[j]? = some q → pz_tw b p k q ∧ (q.1 ≠ 0 → q.1 ≠ 3 → j + 1 < (pz_toks b p n k).length)) ∧ ∀ (i j : Nat) q r, i < j → (pz_toks b p n k)[i]? = some q → (pz_toks b p n k)[j]? = some r → q.2.1 < r.2.1
  | 0, k, h1, h2 => absurd h2 (by omega)
  | n + 1, k, h1, h2 => by
    have one : ∀ q : pz_T, pz_tw b p k q → (q.1 = 0 ∨ q.1 = 3) → 0 < [q].length ∧ (∀ (j : Nat) q', [q][j]? = some q' → pz_tw b p k q' ∧ (q'.1 ≠ 0 → q'.1 ≠ 3 → j + 1 < [q].length)) ∧ ∀ (i j : Nat) q1 r, i < j → [q][i]? = some q1 → [q][j]? = some r → q1.2.1 < r.2.1 := by
      intro q hq h3
      refine ⟨Nat.one_pos, fun j q' hj => ?_, fun i j q1 r hij hi hj => ?_⟩
      · have hl := (List.getElem?_eq_some_iff.1 hj).1
        rw [List.length_singleton] at hl
        have : j = 0 := by omega
        subst this
        injection hj with hj
        subst hj
        exact ⟨hq, fun a c => by omega⟩
      · have hl := (List.getElem?_eq_some_iff.1 hj).1
        rw [List.length_singleton] at hl
        omega
    unfold pz_toks
    by_cases c1 : p ≤ k
    · rw [if_pos c1]
      exact one _ ⟨by show k ≤ p; omega, Nat.le_refl _, Nat.zero_le _, fun e => (by cases e), fun e => (by cases e)⟩ (Or.inl rfl)
    rw [if_neg c1]
    by_cases c2 : pz_blk b p k = true
    · rw [if_pos c2]
      obtain ⟨i1, i2, i3⟩ := pz_toks_w (b := b) (p := p) n (k + 1) (by omega) (by omega)
      refine ⟨i1, fun j q hj => ?_, i3⟩
      obtain ⟨⟨a1, a2⟩, a3⟩ := i2 j q hj
      exact ⟨⟨by omega, a2⟩, a3⟩
    rw [if_neg c2]
    have hw := pz_tok_w (b := b) (show k < p by omega)
    by_cases c3 : (pz_tok b p k).1 = 3
    · rw [if_pos c3]
      exact one _ hw (Or.inr c3)
    rw [if_neg c3]
    obtain ⟨s1, s2, s3⟩ := pz_tok_sp (b := b) (show k < p by omega)
    obtain ⟨i1, i2, i3⟩ := pz_toks_w (b := b) (p := p) n (pz_tok b p k).2.2.1 s3 (by omega)
    refine ⟨Nat.succ_pos _, fun j q hj => ?_, fun i j q r hij hi hj => ?_⟩
    · cases j with
      | zero =>
        injection hj with hj
        subst hj
        exact ⟨hw, fun _ _ => by rw [List.length_cons]; omega⟩
      | succ j =>
        obtain ⟨⟨a1, a2⟩, a3⟩ := i2 j q (by simpa using hj)
        exact ⟨⟨by omega, a2⟩, fun x y => by rw [List.length_cons]; have := a3 x y; omega⟩
    · cases j with
      | zero => omega
      | succ j =>
        have hj' : (pz_toks b p n (pz_tok b p k).2.2.1)[j]? = some r := by simpa using hj
        cases i with
        | zero =>
          injection hi with hi
          subst hi
          have := (i2 j r hj').1.1
          omega
        | succ i => exact i3 i j q r (by omega) (by simpa using hi) hj'
theorem pz_getD {K : List pz_T} {a : Nat} (h : a < K.length) : K[a]? = some (K.getD a (3, 0, 0, 0)) := by
  rw [List.getElem?_eq_getElem h, List.getD_eq_getElem?_getD, List.getElem?_eq_getElem h]; rfl
theorem pz_getD0 {K : List pz_T} {a : Nat} (h : ¬ a < K.length) : K.getD a (3, 0, 0, 0) = (3, 0, 0, 0) := by
  rw [List.getD_eq_getElem?_getD, List.getElem?_eq_none (by omega)]; rfl
/-- tokens of a tape, as all that follows wants them -/
def pz_ok (b : Nat → Int) (K : List pz_T) : Prop := pz_wf K ∧ (∀ a, pz_kd K a = 1 → (∀ c ∈ pz_nm b K a, 97 ≤ c ∧ c ≤ 122) ∧ (pz_nm b K a).length ≤ 8) ∧ ∀ i j, i < j → j < K.length → pz_fr K i < pz_fr K j
theorem pz_K_ok {b : Nat → Int} {p : Nat} (hp : p ≤ 2000) : pz_ok b (pz_K b p) := by
  obtain ⟨h1, h2, h3⟩ := pz_toks_w (b := b) (p := p) (p + 1) 0 (Nat.zero_le _) (by omega)
  change 0 < (pz_K b p).length at h1
  change ∀ (j : Nat) q, (pz_K b p)[j]? = some q → pz_tw b p 0 q ∧ (q.1 ≠ 0 → q.1 ≠ 3 → j + 1 < (pz_K b p).length) at h2
  change ∀ (i j : Nat) q r, i < j → (pz_K b p)[i]? = some q → (pz_K b p)[j]? = some r → q.2.1 < r.2.1 at h3
  refine ⟨⟨h1, fun a => ?_, fun a ha q0 q3 => (h2 a _ (pz_getD ha)).2 q0 q3⟩, fun a hk => ?_, fun i j hij hj => h3 i j _ _ hij (pz_getD (by omega)) (pz_getD hj)⟩
  · unfold pz_kd pz_fr pz_vl
    by_cases c : a < (pz_K b p).length
    · obtain ⟨⟨a1, a2, a3, a4, a5⟩, -⟩ := h2 a _ (pz_getD c)
      exact ⟨a3, by omega, a4⟩
    · rw [pz_getD0 c]
      exact ⟨by decide, by decide, fun e => (by cases e)⟩
  · have c : a < (pz_K b p).length := by
      by_cases c : a < (pz_K b p).length
      · exact c
      · unfold pz_kd at hk; rw [pz_getD0 c] at hk; cases hk
    obtain ⟨⟨a1, a2, a3, a4, a5⟩, -⟩ := h2 a _ (pz_getD c)
    exact a5 hk
theorem py_ok_M {b : Nat → Int} {p : Nat} (hp : p ≤ 2000) {Z : zm_S} (h : pz_M b (pz_K b p) Z) : py_ok b (pz_K b p) Z := by
  obtain ⟨h1, h2, h3⟩ := pz_K_ok (b := b) hp
  refine ⟨⟨h1, fun a ha h4 => ?_⟩, fun a ha h4 hk => (h a _ (pz_getD ha) h4).2.2.2 hk, h2, h3⟩
  obtain ⟨a1, a2, a3, a4⟩ := h a _ (pz_getD ha) h4
  exact ⟨a1, a2, a3⟩
/-! a row goes on -/
theorem pz_nu_lt {K : List pz_T} {lo hi : Nat} {w : Nat × Nat} {a : Nat} {r : Nat × (Nat × Nat) × Nat} (h : pz_nu K lo hi w a = Sum.inr r) : r.2.2 = a + 1 := by
  unfold pz_nu at h
  obtain ⟨z, z1, z2⟩ := pz_bd_inr h
  injection z2 with z2
  rw [← z2]
  exact (pz_tk_inr z1).2.1
theorem pz_kn_lt {b : Nat → Int} {K : List pz_T} {hs : List (List Nat × Nat × Nat)} {w : Nat × Nat} {a : Nat} {r : Option Nat × (Nat × Nat) × Nat} (h : pz_kn b K hs w a = Sum.inr r) : r.2.2 = a + 1 := by
  unfold pz_kn at h
  obtain ⟨z, z1, z2⟩ := pz_bd_inr h
  injection z2 with z2
  rw [← z2]
  exact (pz_tk_inr z1).2.1
theorem pz_if_lt {K : List pz_T} (hK : pz_wf K) {a : Nat} {r : (zl_C × zl_C × zl_C) × Nat} (h : pz_if K a = Sum.inr r) : a < r.2 := by
  unfold pz_if at h
  obtain ⟨b1, e1, h⟩ := pz_bd_inr h
  obtain ⟨r1, e2, h⟩ := pz_bd_inr h
  obtain ⟨b2, e3, h⟩ := pz_bd_inr h
  obtain ⟨r2, e4, h⟩ := pz_bd_inr h
  obtain ⟨b3, e5, h⟩ := pz_bd_inr h
  obtain ⟨r3, e6, h⟩ := pz_bd_inr h
  obtain ⟨b4, e7, h⟩ := pz_bd_inr h
  injection h with h
  have := pz_ps_inr e1
  have := (pz_sm_g hK _ _ _ _ e2).2.1
  have := pz_tk_inr e3
  have := (pz_sm_g hK _ _ _ _ e4).2.1
  have := pz_tk_inr e5
  have := (pz_sm_g hK _ _ _ _ e6).2.1
  have := pz_tk_inr e7
  rw [← h]
  show a < b4
  omega
theorem pz_ifs_le {K : List pz_T} (hK : pz_wf K) : ∀ (n : Nat) (L : List (zl_C × zl_C × zl_C)) (a : Nat) (r : List (zl_C × zl_C × zl_C) × Nat), pz_ifs K n L a = Sum.inr r → a ≤ r.2
  | 0, L, a, r, h => by injection h with h; rw [← h]; exact Nat.le_refl _
  | n + 1, L, a, r, h => by
    unfold pz_ifs at h
    split at h
    · split at h
      · cases h
      · obtain ⟨q, e1, e2⟩ := pz_bd_inr h
        have := pz_if_lt hK e1
        have := pz_ifs_le hK n _ _ _ e2
        omega
    · injection h with h; rw [← h]; exact Nat.le_refl _
theorem pz_law_lt {K : List pz_T} (hK : pz_wf K) {a : Nat} {r : zl_L × Nat} (h : pz_law K a = Sum.inr r) : a < r.2 := by
  unfold pz_law at h
  obtain ⟨b1, e1, h⟩ := pz_bd_inr h
  obtain ⟨r1, e2, h⟩ := pz_bd_inr h
  obtain ⟨r2, e3, h⟩ := pz_bd_inr h
  injection h with h
  have := pz_tk_inr e1
  have := pz_ifs_le hK _ _ _ _ e2
  have := (pz_sm_g hK _ _ _ _ e3).2.1
  rw [← h]
  show a < r2.2
  omega
theorem pz_ho_lt {b : Nat → Int} {K : List pz_T} {X : pz_X} {w : Nat × Nat} {a : Nat} {r : pz_X × (Nat × Nat) × Nat} (h : pz_ho b K X w a = Sum.inr r) : a < r.2.2 := by
  unfold pz_ho at h
  obtain ⟨b1, e1, h⟩ := pz_bd_inr h
  obtain ⟨r1, e2, h⟩ := pz_bd_inr h
  obtain ⟨r2, e3, h⟩ := pz_bd_inr h
  injection h with h
  have := pz_tk_inr e1
  have := pz_nu_lt e2
  have := pz_nu_lt e3
  rw [← h]
  show a < r2.2.2
  omega
theorem pz_li_lt {b : Nat → Int} {K : List pz_T} {X : pz_X} {w : Nat × Nat} {a : Nat} {r : pz_X × (Nat × Nat) × Nat} (h : pz_li b K X w a = Sum.inr r) : a < r.2.2 := by
  unfold pz_li at h
  obtain ⟨r1, e1, h⟩ := pz_bd_inr h
  obtain ⟨r2, e2, h⟩ := pz_bd_inr h
  obtain ⟨r3, e3, h⟩ := pz_bd_inr h
  injection h with h
  have := pz_kn_lt e1
  have := pz_kn_lt e2
  have := pz_nu_lt e3
  rw [← h]
  show a < r3.2.2
  omega
theorem pz_fi_lt {K : List pz_T} {X : pz_X} {w : Nat × Nat} {k lo hi a : Nat} {r : pz_X × (Nat × Nat) × Nat} (h : pz_fi K X w k lo hi a = Sum.inr r) : a < r.2.2 := by
  unfold pz_fi at h
  obtain ⟨r1, e1, h⟩ := pz_bd_inr h
  injection h with h
  have := pz_nu_lt e1
  rw [← h]
  show a < r1.2.2
  omega
theorem pz_told_lt {b : Nat → Int} {K : List pz_T} (hK : pz_wf K) {X : pz_X} {w : Nat × Nat} {a : Nat} {r : pz_X × (Nat × Nat) × Nat} (h : pz_told b K X w a = Sum.inr r) : a < r.2.2 := by
  unfold pz_told at h
  have key : ∀ f : Nat → pz_R (pz_X × (Nat × Nat) × Nat), (∀ c r, f c = Sum.inr r → c < r.2.2) → pz_bd (pz_ps K a) f = Sum.inr r → a < r.2.2 := fun f hf e => by
    obtain ⟨c, e1, e2⟩ := pz_bd_inr e
    have := pz_ps_inr e1
    have := hf _ _ e2
    omega
  split at h
  · split at h
    · cases h
    · exact key _ (fun _ _ e => pz_ho_lt e) h
  split at h
  · split at h
    · cases h
    · exact key _ (fun _ _ e => pz_li_lt e) h
  split at h
  · exact key _ (fun _ _ e => pz_fi_lt e) h
  split at h
  · exact key _ (fun _ _ e => pz_fi_lt e) h
  split at h
  · exact key _ (fun _ _ e => pz_fi_lt e) h
  split at h
  · exact key _ (fun _ _ e => pz_fi_lt e) h
  split at h
  · refine key _ (fun c r e => ?_) h
    obtain ⟨r1, e1, e2⟩ := pz_bd_inr e
    injection e2 with e2
    have := pz_law_lt hK e1
    rw [← e2]
    exact this
  · cases h
theorem pz_tell_lt {b : Nat → Int} {K : List pz_T} (hK : pz_wf K) {X : pz_X} {w : Nat × Nat} {a : Nat} {r : pz_X × (Nat × Nat) × Nat} (h : pz_tell b K X w a = Sum.inr r) : a < r.2.2 := by
  unfold pz_tell pz_sc at h
  obtain ⟨r1, e1, h⟩ := pz_bd_inr h
  obtain ⟨e, e2, h⟩ := pz_bd_inr h
  injection h with h
  have := pz_told_lt hK e1
  have := pz_tk_inr e2
  rw [← h]
  show a < e
  omega
/-! a tape is copied and cut; a side is made plain, by the model -/
theorem pj_by : ∀ v, v < 256 → vp_nar .byte (pj ((v : Nat) - 128 : Int)) = pj ((v : Nat) - 128 : Int) := by decide +kernel
theorem pj_byZ {z : Int} (h : -128 ≤ z ∧ z < 128) : vp_nar .byte (pj z) = pj z := by
  have := pj_by (z + 128).toNat (by omega)
  rw [show (((z + 128).toNat : Nat) : Int) - 128 = z by omega] at this
  exact this
theorem py_copy {b : Nat → Int} {p : Nat} {Z : zm_S} (hp : p ≤ 2000) (h4 : Z.1 4 = pj p) (ht : ∀ j, j < p → Z.2.1 1 j = pj (b j) ∧ -128 ≤ b j ∧ b j < 128) :
    ∃ Z', zs_loop 5000 gm_read_L10 (0, Z) = some Z' ∧ Z'.1 = Z.1 ∧ Z'.2.2 = Z.2.2 ∧ (∀ k, k ≠ 3 → Z'.2.1 k = Z.2.1 k) ∧ ∀ j, j < p → Z'.2.1 3 j = pj (b j) := by
  obtain ⟨Z', e1, e2, e3, e4, e5⟩ := pm_cploop (b := gm_read_L10) (N := p) (dst := 3) (g := fun Z x => vp_nar .byte (Z.2.1 1 x)) Z 0 (by omega) (by omega) (fun Z' q1 q2 q3 x hx _ => by show vp_nar .byte (Z'.2.1 1 x) = _; rw [q3 1 (by omega)]) (fun Z' k q1 q2 q3 hk => by
    have hlt : (k : Int) < (p : Nat) := by omega
    unfold gm_read_L10
    dsimp only
    rw [q1, h4, if_pos ((pj_lt (by omega) (by omega)).2 hlt), pj_ald (by omega) (by omega), Int.toNat_natCast, Option.bind_some, pj_ast (by omega) (by omega), Option.bind_some, pj_1, pj_add, Nat.zero_add]) (fun Z' q1 q2 q3 => by
    unfold gm_read_L10
    dsimp only
    rw [q1, h4, if_neg (by rw [pj_lt (by omega) (by omega)]; omega)])
  refine ⟨Z', e1, e2, e3, e4, fun j hj => ?_⟩
  obtain ⟨t1, t2⟩ := ht j hj
  rw [e5 j, if_pos (by omega), Nat.sub_zero, t1, pj_byZ t2]
def py_up (Z : zm_S) (k i : Nat) (x : Int32) : zm_S := zm_sA Z k (pj (i : Nat)) x
theorem py_up1 (Z : zm_S) (k i : Nat) (x : Int32) : (py_up Z k i x).1 = Z.1 ∧ (py_up Z k i x).2.2 = Z.2.2 := ⟨rfl, rfl⟩
theorem py_up2 {Z : zm_S} {k i : Nat} {x : Int32} (hi : i < 5000) (j m : Nat) : (py_up Z k i x).2.1 j m = if j = k ∧ m = i then x else Z.2.1 j m := by
  unfold py_up
  rw [pm_sA, pj_nat (by omega), Int.toNat_natCast]
  by_cases c : j = k
  · subst c; rw [if_pos rfl, pj_upd]; simp
  · rw [if_neg c, if_neg (fun q => c q.1)]
theorem py_plain {sd : Nat} (hsd : sd < 2) (Z : zm_S) : pw (gm_plain Z (pj (sd : Nat))) (fun Z' => Z'.1 = Z.1 ∧ Z'.2.2 = Z.2.2 ∧ py_M sd Z Z' ∧ (∀ k, ¬ (k = 22 ∨ k = 25 ∨ (26 ≤ k ∧ k ≤ 32)) → Z'.2.1 k = Z.2.1 k) ∧ Z'.2.1 22 sd = 0 ∧ Z'.2.1 25 sd = 0 ∧ (∀ x, x < 36 → Z'.2.1 26 (36 * sd + x) = 5) ∧ Z'.2.1 27 sd = 20 ∧ Z'.2.1 28 sd = 10 ∧ Z'.2.1 29 sd = 0 ∧ Z'.2.1 30 sd = 0 ∧ ∀ x, x < 4 → Z'.2.1 31 (4 * sd + x) = 0 ∧ Z'.2.1 32 (4 * sd + x) = 0) := by
  unfold gm_plain
  rw [pj_ast (by omega) (by omega), Option.bind_some, pj_ast (by omega) (by omega), Option.bind_some]
  have hM2 : py_M sd Z (zm_sA (zm_sA Z 22 (pj (sd : Nat)) 0) 25 (pj (sd : Nat)) 0) := py_M_trans (py_M_A hsd _ (s := 1) rfl (by omega) (by omega)) (py_M_A hsd _ (s := 1) rfl (by omega) (by omega))
  have e2 : ∀ j m, (zm_sA (zm_sA Z 22 (pj (sd : Nat)) 0) 25 (pj (sd : Nat)) 0).2.1 j m = if (j = 22 ∨ j = 25) ∧ m = sd then 0 else Z.2.1 j m := fun j m => by
    rw [show (zm_sA (zm_sA Z 22 (pj (sd : Nat)) 0) 25 (pj (sd : Nat)) 0) = py_up (py_up Z 22 sd 0) 25 sd 0 from rfl, py_up2 (by omega), py_up2 (by omega)]
    by_cases c1 : j = 25 ∧ m = sd
    · rw [if_pos c1, if_pos ⟨Or.inr c1.1, c1.2⟩]
    · rw [if_neg c1]
      by_cases c2 : j = 22 ∧ m = sd
      · rw [if_pos c2, if_pos ⟨Or.inl c2.1, c2.2⟩]
      · rw [if_neg c2, if_neg (by omega)]
  have e21 : (zm_sA (zm_sA Z 22 (pj (sd : Nat)) 0) 25 (pj (sd : Nat)) 0).1 = Z.1 ∧ (zm_sA (zm_sA Z 22 (pj (sd : Nat)) 0) 25 (pj (sd : Nat)) 0).2.2 = Z.2.2 := ⟨rfl, rfl⟩
  generalize zm_sA (zm_sA Z 22 (pj (sd : Nat)) 0) 25 (pj (sd : Nat)) 0 = Z2 at hM2 e2 e21
  obtain ⟨Z3, l1, l2, l3, l4, l5⟩ := pm_cploop (b := gm_plain_L16 (pj (sd : Nat))) (N := 36) (dst := 26) (g := fun _ _ => 5) Z2 (36 * sd) (by omega) (by omega) (fun _ _ _ _ _ _ _ => rfl) (fun Z' k q1 q2 q3 hk => by
    have hlt : (k : Int) < 36 := by omega
    have hix : 36 * pj (sd : Nat) + pj (k : Nat) = pj ((36 * sd + k : Nat) : Int) := by rw [show (36 : Int32) = pj 36 from rfl, pj_mul, pj_add]; congr 1
    unfold gm_plain_L16
    dsimp only
    rw [hix, show (36 : Int32) = pj 36 from rfl, if_pos ((pj_lt (by omega) (by omega)).2 hlt), pj_ast (by omega) (by omega), Option.bind_some, pj_1, pj_add]) (fun Z' q1 q2 q3 => by
    unfold gm_plain_L16
    dsimp only
    rw [show (36 : Int32) = pj 36 from rfl, if_neg (by rw [pj_lt (by omega) (by omega)]; omega)])
  rw [show (0 : Int32) = pj 0 from rfl, l1, Option.bind_some]
  have hM3 : py_M sd Z2 Z3 := ⟨fun k _ => by rw [l2], fun k h1 _ => l4 k (fun e => by subst e; cases h1), fun k j hj => by
    by_cases c : k = 26
    · subst c
      have hs : py_sz 26 = 36 := rfl
      rw [hs] at hj ⊢
      rw [l5, if_neg]
      have : sd = 0 ∨ sd = 1 := by omega
      rcases this with rfl | rfl <;> omega
    · rw [l4 k c], fun k _ _ => by rw [l3]⟩
  rw [pj_ast (by omega) (by omega), Option.bind_some, pj_ast (by omega) (by omega), Option.bind_some, pj_ast (by omega) (by omega), Option.bind_some, pj_ast (by omega) (by omega), Option.bind_some]
  have hM4 : py_M sd Z3 (py_up (py_up (py_up (py_up Z3 27 sd 20) 28 sd 10) 29 sd (pj 0)) 30 sd (pj 0)) := py_M_trans (py_M_trans (py_M_trans (py_M_A hsd _ (s := 1) rfl (by omega) (by omega)) (py_M_A hsd _ (s := 1) rfl (by omega) (by omega))) (py_M_A hsd _ (s := 1) rfl (by omega) (by omega))) (py_M_A hsd _ (s := 1) rfl (by omega) (by omega))
  have e4 : ∀ j m, (py_up (py_up (py_up (py_up Z3 27 sd 20) 28 sd 10) 29 sd (pj 0)) 30 sd (pj 0)).2.1 j m = if j = 30 ∧ m = sd then pj 0 else if j = 29 ∧ m = sd then pj 0 else if j = 28 ∧ m = sd then 10 else if j = 27 ∧ m = sd then 20 else Z3.2.1 j m := fun j m => by
    rw [py_up2 (by omega), py_up2 (by omega), py_up2 (by omega), py_up2 (by omega)]
  have e41 : (py_up (py_up (py_up (py_up Z3 27 sd 20) 28 sd 10) 29 sd (pj 0)) 30 sd (pj 0)).1 = Z3.1 ∧ (py_up (py_up (py_up (py_up Z3 27 sd 20) 28 sd 10) 29 sd (pj 0)) 30 sd (pj 0)).2.2 = Z3.2.2 := ⟨rfl, rfl⟩
  show pw ((zs_loop 5000 (gm_plain_L72 (pj (sd : Nat))) (pj 0, py_up (py_up (py_up (py_up Z3 27 sd 20) 28 sd 10) 29 sd (pj 0)) 30 sd (pj 0))).bind fun z => some z) _
  generalize py_up (py_up (py_up (py_up Z3 27 sd 20) 28 sd 10) 29 sd (pj 0)) 30 sd (pj 0) = Z4 at hM4 e4 e41
  have e1 : ∀ x : Option zm_S, (x.bind fun M5 => some M5) = x := fun x => by cases x <;> rfl
  rw [e1]
  have hloop : pw (zs_loop 5000 (gm_plain_L72 (pj (sd : Nat))) (pj 0, Z4)) (fun Z' => Z'.1 = Z4.1 ∧ Z'.2.2 = Z4.2.2 ∧ py_M sd Z4 Z' ∧ ∀ j m, Z'.2.1 j m = if (j = 31 ∨ j = 32) ∧ 4 * sd ≤ m ∧ m < 4 * sd + 4 then pj 0 else Z4.2.1 j m) := by
    refine pw_for 4 (fun k t => ∃ Z', t = (pj (k : Nat), Z') ∧ Z'.1 = Z4.1 ∧ Z'.2.2 = Z4.2.2 ∧ py_M sd Z4 Z' ∧ ∀ j m, Z'.2.1 j m = if (j = 31 ∨ j = 32) ∧ 4 * sd ≤ m ∧ m < 4 * sd + k then pj 0 else Z4.2.1 j m) 5000 (by omega) ?_ ?_ (pj 0, Z4) ⟨Z4, rfl, rfl, rfl, py_M_rfl _ _, fun j m => by rw [if_neg (by omega)]⟩
    · rintro k t hk ⟨Z', rfl, q1, q2, q3, q4⟩
      have hlt : (k : Int) < 4 := by omega
      have hix : 4 * pj (sd : Nat) + pj (k : Nat) = pj ((4 * sd + k : Nat) : Int) := by rw [show (4 : Int32) = pj 4 from rfl, pj_mul, pj_add]; congr 1
      unfold gm_plain_L72
      dsimp only
      rw [hix, show (4 : Int32) = pj 4 from rfl, if_pos ((pj_lt (by omega) (by omega)).2 hlt), pj_ast (by omega) (by omega), Option.bind_some, pj_ast (by omega) (by omega), Option.bind_some, pj_1, pj_add, pw_some]
      refine ⟨py_up (py_up Z' 31 (4 * sd + k) 0) 32 (4 * sd + k) 0, rfl, q1, q2, py_M_trans q3 (py_M_trans (py_M_A hsd _ (s := 4) rfl (by omega) (by omega)) (py_M_A hsd _ (s := 4) rfl (by omega) (by omega))), fun j m => ?_⟩
      rw [py_up2 (by omega), py_up2 (by omega), q4]
      by_cases c1 : j = 32 ∧ m = 4 * sd + k
      · rw [if_pos c1, if_pos (by omega)]; rfl
      · rw [if_neg c1]
        by_cases c2 : j = 31 ∧ m = 4 * sd + k
        · rw [if_pos c2, if_pos (by omega)]; rfl
        · rw [if_neg c2]
          by_cases c3 : (j = 31 ∨ j = 32) ∧ 4 * sd ≤ m ∧ m < 4 * sd + k
          · rw [if_pos c3, if_pos (by omega)]
          · rw [if_neg c3, if_neg (by omega)]
    · rintro t ⟨Z', rfl, q1, q2, q3, q4⟩
      unfold gm_plain_L72
      dsimp only
      rw [show (4 : Int32) = pj 4 from rfl, if_neg (by rw [pj_lt (by omega) (by omega)]; omega), pw_some]
      exact ⟨q1, q2, q3, q4⟩
  refine pw_mono hloop (fun Z5 h5 => ?_)
  obtain ⟨f1, f2, f3, f4⟩ := h5
  refine ⟨?_, ?_, py_M_trans hM2 (py_M_trans hM3 (py_M_trans hM4 f3)), fun k hk => ?_, ?_, ?_, fun x hx => ?_, ?_, ?_, ?_, ?_, fun x hx => ⟨?_, ?_⟩⟩
  · rw [f1, e41.1, l2, e21.1]
  · rw [f2, e41.2, l3, e21.2]
  · funext m
    rw [f4, if_neg (by omega), e4, if_neg (by omega), if_neg (by omega), if_neg (by omega), if_neg (by omega), l4 k (by omega), e2, if_neg (by omega)]
  · rw [f4, if_neg (by omega), e4, if_neg (by omega), if_neg (by omega), if_neg (by omega), if_neg (by omega), l4 22 (by omega), e2, if_pos (by omega)]; rfl
  · rw [f4, if_neg (by omega), e4, if_neg (by omega), if_neg (by omega), if_neg (by omega), if_neg (by omega), l4 25 (by omega), e2, if_pos (by omega)]; rfl
  · rw [f4, if_neg (by omega), e4, if_neg (by omega), if_neg (by omega), if_neg (by omega), if_neg (by omega), l5, if_pos (by omega)]
  · rw [f4, if_neg (by omega), e4, if_neg (by omega), if_neg (by omega), if_neg (by omega), if_pos (by omega)]
  · rw [f4, if_neg (by omega), e4, if_neg (by omega), if_neg (by omega), if_pos (by omega)]
  · rw [f4, if_neg (by omega), e4, if_neg (by omega), if_pos (by omega)]
  · rw [f4, if_neg (by omega), e4, if_pos (by omega)]
  · rw [f4, if_pos (by omega)]
  · rw [f4, if_pos (by omega)]
/-! all rows of a text, by the model -/
theorem py_all {b : Nat → Int} {K : List pz_T} {sd : Nat} {Z0 : zm_S} : ∀ (n : Nat) (X : pz_X) (w : Nat × Nat) (a : Nat) (Z : zm_S) (f : Nat), 401 ≤ a + n → n < f → py_S b K sd Z0 X w a Z →
    pw (zs_loop f gm_read_L112 Z) (fun M => Sum.elim (fun q => py_F sd Z0 q.1 q.2 M) (fun r => ∃ a, py_S b K sd Z0 r.1 r.2 a M) (pz_all b K n X w a))
  | 0, X, w, a, Z, f, h1, h2, h => absurd h.2.2.2.2.2.2.1 (by omega)
  | n + 1, X, w, a, Z, f, h1, h2, h => by
    obtain ⟨f, rfl⟩ : ∃ g, f = g + 1 := ⟨f - 1, by omega⟩
    show pw ((gm_read_L112 Z).bind fun s => Sum.elim (fun t' => zs_loop f gm_read_L112 t') some s) _
    unfold gm_read_L112 pz_all
    rw [if_pos h.2.2.1, show (0 : Int32) = pj ((0 : Nat) : Int) from rfl, py_is h (k := 0) (by omega), Option.bind_some]
    by_cases c : pz_kd K a = 0
    · rw [if_pos c, decide_eq_true c, if_pos rfl, Option.bind_some, Sum.elim_inr, pw_some]
      exact ⟨a, h⟩
    · rw [if_neg c, decide_eq_false c, if_neg (by decide), Option.bind_assoc]
      refine pw_seq (py_tellOne h) (fun M hM => ?_)
      rw [Option.bind_some, Sum.elim_inl]
      cases ht : pz_tell b K X w a with
      | inl q =>
        rw [ht] at hM
        have hM : py_F sd Z0 q.1 q.2 M := hM
        obtain ⟨f, rfl⟩ : ∃ g, f = g + 1 := ⟨f - 1, by omega⟩
        show pw ((gm_read_L112 M).bind fun s => Sum.elim (fun t' => zs_loop f gm_read_L112 t') some s) _
        unfold gm_read_L112
        rw [if_neg (py_F13 hM).1, Option.bind_some, Sum.elim_inr, pw_some]
        exact hM
      | inr r =>
        rw [ht] at hM
        have := pz_tell_lt h.1.1.1 ht
        exact py_all n r.1 r.2.1 r.2.2 M f (by omega) (by omega) hM
/-! the first state that is read from -/
theorem py_first {b : Nat → Int} {p s : Nat} {Z : zm_S} (hp : p ≤ 2000) (h2 : Z.1 2 = pj p) (ht : ∀ j, j < p → Z.2.1 1 j = pj (b j) ∧ -128 ≤ b j ∧ b j < 128) (hs : s < 2) (h18 : Z.1 18 = pj s) (hK : pr_K Z) {β : Type} {Q : β → Prop} {f : zm_S → Option β} (hf : ∀ Z', py_S b (pz_K b p) (1 - s) (zm_sF Z 2 0) pz_X0 (0, 0) 0 Z' → pw (f Z') Q) :
    pw ((some (zm_sF Z 4 (Z.1 2))).bind fun M1 =>
      (zs_loop 5000 gm_read_L10 (0, M1)).bind fun (r4 : zm_S) =>
      (some (zm_sF r4 2 0)).bind fun M5 =>
      (gm_cut M5).bind fun M6 =>
      (some (zm_sF M6 11 0)).bind fun M7 =>
      (some (zm_sF M7 12 0)).bind fun M8 =>
      (some (zm_sF M8 13 0)).bind fun M9 =>
      (some (zm_sF M9 15 0)).bind fun M10 =>
      (some (zm_sF M10 19 (1 - (M10.1 18)))).bind fun M11 =>
      (some (zm_sF M11 20 0)).bind fun M12 =>
      (gm_plain M12 (M12.1 19)).bind fun M13 =>
      (some (zm_sF M13 33 (130 * (M13.1 19)))).bind fun M14 =>
      (some (zm_sF M14 39 (420 * (M14.1 19)))).bind f) Q := by
  obtain ⟨sd, hsd, hsd2⟩ : ∃ sd, sd = 1 - s ∧ sd < 2 := ⟨1 - s, rfl, by omega⟩
  rw [← hsd] at hf
  rw [Option.bind_some, h2]
  have e1 : ∀ k, k ≠ 4 → (zm_sF Z 4 (pj (p : Nat))).1 k = Z.1 k := fun k hk => zm_sFn hk
  have e14 : (zm_sF Z 4 (pj (p : Nat))).1 4 = pj p := zm_sFs _ _ _
  have e12 : (zm_sF Z 4 (pj (p : Nat))).2 = Z.2 := rfl
  generalize zm_sF Z 4 (pj (p : Nat)) = Z1 at e1 e14 e12
  obtain ⟨Z2, c1, c2, c3, c4, c5⟩ := py_copy (b := b) hp e14 (by rw [e12]; exact ht)
  rw [c1, Option.bind_some, Option.bind_some]
  have hM2 : py_M sd (zm_sF Z 2 0) (zm_sF Z2 2 0) := by
    refine ⟨fun k hk => ?_, fun k _ hk => ?_, fun k j hj => ?_, fun k _ _ => ?_⟩
    · by_cases c : k = 2
      · rw [c, zm_sFs, zm_sFs]
      · rw [zm_sFn c, zm_sFn c, c2, e1 k (by omega)]
    · show Z2.2.1 k = Z.2.1 k
      rw [c4 k (fun e => hk (Or.inl e)), e12]
    · show Z2.2.1 k _ = Z.2.1 k _
      rw [c4 k (fun e => by subst e; exact absurd hj (Nat.not_lt_zero _)), e12]
    · show Z2.2.2 k = Z.2.2 k
      rw [c3, e12]
  have hby : pm_by b p (zm_sF Z2 2 0) := by
    refine ⟨hp, ?_, fun k hk => ⟨c5 k hk, (ht k hk).2⟩⟩
    rw [zm_sFn (by omega), c2]; exact e14
  have hK2 : pr_K (zm_sF Z2 2 0) := fun j w hw => by
    show Z2.2.2 9 j = _
    rw [c3, e12]; exact hK j w hw
  have f18 : (zm_sF Z2 2 0).1 18 = pj s := by rw [zm_sFn (by omega), c2, e1 18 (by omega)]; exact h18
  generalize zm_sF Z2 2 0 = Z3 at hM2 hby hK2 f18
  refine pw_seq (pz_cutAll hby hK2) (fun Z4 h4 => ?_)
  obtain ⟨g1, g2⟩ := h4
  have hok := py_ok_M hp g2
  have hM3 : py_M sd Z3 Z4 := ⟨fun k hk => g1.1 k (by omega), fun k _ hk => g1.2.1 k (by omega) (by omega) (by omega), fun k j hj => by
    rw [g1.2.1 k (fun e => by subst e; exact absurd hj (Nat.not_lt_zero _)) (fun e => by subst e; exact absurd hj (Nat.not_lt_zero _)) (fun e => by subst e; exact absurd hj (Nat.not_lt_zero _))], fun k h8 _ => g1.2.2 k h8⟩
  have g18 : Z4.1 18 = pj s := (g1.1 18 (by omega)).trans f18
  have hlen := hok.1.1.1
  rw [Option.bind_some, Option.bind_some, Option.bind_some, Option.bind_some, Option.bind_some, Option.bind_some]
  have hsub : 1 - (zm_sF (zm_sF (zm_sF (zm_sF Z4 11 0) 12 0) 13 0) 15 0).1 18 = pj (sd : Nat) := by
    rw [zm_sFn (by omega), zm_sFn (by omega), zm_sFn (by omega), zm_sFn (by omega), g18, pj_1, pj_sub]
    congr 1; omega
  rw [hsub]
  have hM5 : py_M sd Z4 (zm_sF (zm_sF (zm_sF (zm_sF (zm_sF (zm_sF Z4 11 0) 12 0) 13 0) 15 0) 19 (pj sd)) 20 0) := py_M_trans (py_M_trans (py_M_trans (py_M_trans (py_M_trans (py_M_F _ (by omega)) (py_M_F _ (by omega))) (py_M_F _ (by omega))) (py_M_F _ (by omega))) (py_M_F _ (by omega))) (py_M_F _ (by omega))
  have q2 : (zm_sF (zm_sF (zm_sF (zm_sF (zm_sF (zm_sF Z4 11 0) 12 0) 13 0) 15 0) 19 (pj sd)) 20 0).2 = Z4.2 := rfl
  have q1 : ∀ j, (zm_sF (zm_sF (zm_sF (zm_sF (zm_sF (zm_sF Z4 11 0) 12 0) 13 0) 15 0) 19 (pj sd)) 20 0).1 j = if j = 20 then 0 else if j = 19 then pj sd else if j = 15 then 0 else if j = 13 then 0 else if j = 12 then 0 else if j = 11 then 0 else Z4.1 j := fun j => rfl
  generalize zm_sF (zm_sF (zm_sF (zm_sF (zm_sF (zm_sF Z4 11 0) 12 0) 13 0) 15 0) 19 (pj sd)) 20 0 = Z5 at hM5 q1 q2
  rw [show Z5.1 19 = pj sd by rw [q1, if_neg (by omega), if_pos rfl]]
  refine pw_seq (py_plain hsd2 Z5) (fun Z6 h6 => ?_)
  obtain ⟨r1, r2, r3, r4, r22, r25, r26, r27, r28, r29, r30, r31⟩ := h6
  have r19 : Z6.1 19 = pj sd := by rw [r1, q1, if_neg (by omega), if_pos rfl]
  have hmul : ∀ m : Nat, m < 1000 → pj (m : Nat) * pj (sd : Nat) = pj ((m * sd : Nat) : Int) := fun m _ => by rw [pj_mul]; congr 1
  rw [Option.bind_some, Option.bind_some, zm_sFn (by omega), r19, show (130 : Int32) = pj ((130 : Nat) : Int) from rfl, show (420 : Int32) = pj ((420 : Nat) : Int) from rfl, hmul 130 (by omega), hmul 420 (by omega)]
  have hM7 : py_M sd Z6 (zm_sF (zm_sF Z6 33 (pj ((130 * sd : Nat) : Int))) 39 (pj ((420 * sd : Nat) : Int))) := py_M_trans (py_M_F _ (by omega)) (py_M_F _ (by omega))
  have s2 : (zm_sF (zm_sF Z6 33 (pj ((130 * sd : Nat) : Int))) 39 (pj ((420 * sd : Nat) : Int))).2 = Z6.2 := rfl
  have s1 : ∀ j, (zm_sF (zm_sF Z6 33 (pj ((130 * sd : Nat) : Int))) 39 (pj ((420 * sd : Nat) : Int))).1 j = if j = 39 then pj ((420 * sd : Nat) : Int) else if j = 33 then pj ((130 * sd : Nat) : Int) else if j = 20 then 0 else if j = 19 then pj sd else if j = 15 then 0 else if j = 13 then 0 else if j = 12 then 0 else if j = 11 then 0 else Z4.1 j := fun j => by
    rw [← q1 j, ← r1]; rfl
  generalize zm_sF (zm_sF Z6 33 (pj ((130 * sd : Nat) : Int))) 39 (pj ((420 * sd : Nat) : Int)) = Z7 at hM7 s1 s2
  refine hf Z7 ⟨⟨⟨hok.1.1, fun a ha h4 => ?_⟩, fun a ha h4 hk => ?_, hok.2.2⟩, py_M_trans hM2 (py_M_trans hM3 (py_M_trans hM5 (py_M_trans r3 hM7))), ?_, ?_, ?_, hlen, Nat.zero_le _, hsd2, ⟨Nat.zero_le _, ?_, fun e => absurd rfl e⟩, 420 * sd, 130 * sd, by omega, ?_, ?_, by decide, by decide, ?_, ?_, ?_, ?_, fun j h hj => (by cases hj), fun p q hp hq => ?_, ?_, ?_, ?_, ?_, fun k hk Z'' hZ => ?_⟩
  · rw [s2, r4 5 (by omega), r4 6 (by omega), r4 7 (by omega), q2]; exact hok.1.2 a ha h4
  · rw [s2, r2, q2]; exact hok.2.1 a ha h4 hk
  · rw [s1]; rfl
  · rw [s1]; rfl
  · rw [s1]; rfl
  · rw [s1]; rfl
  · rw [s1]; rfl
  · rw [s1]; rfl
  · rw [s1]; rfl
  · rw [s1]; rfl
  · rw [s2, r22]; rfl
  · rw [s2, r25]; rfl
  · rw [s2, Nat.add_assoc, r26 (6 * p + q) (by omega)]; rfl
  · rw [s2, r27]; rfl
  · rw [s2, r28]; rfl
  · rw [s2, r29]; rfl
  · rw [s2, r30]; rfl
  · show Z''.2.1 31 (4 * sd + k) = Z''.2.1 32 (4 * sd + k)
    rw [hZ.1, hZ.2.1, s2, (r31 k hk).1, (r31 k hk).2]
/-! what a reading ends in, by the model -/
def pt_X (T : zt_T) (X : pz_X) : Prop := zt_n T = X.1.length ∧ (∀ (h : Nat) q, X.1[h]? = some q → zt_hi T h 1 = pj q.2.1 ∧ zt_hi T h 2 = pj q.2.2) ∧ (∀ a b, a < 6 → b < 6 → zt_lk T a b = pj (X.2.2.1 a b)) ∧ (∀ k, 4 ≤ k → k ≤ 7 → zt_f T k = pj (X.2.2.2.1 k)) ∧ ∀ k, k < 4 → zt_lw T k = X.2.2.2.2 k
def pz_hr (X : pz_X) (x : Nat) : Int32 := match X.1[x]? with | some h => pj h.2.1 | none => 0
theorem pm_begins {sd n : Nat} {Z : zm_S} (hsd : sd < 2) (hn : n ≤ 6) (h18 : Z.1 18 = pj sd) (h22 : Z.2.1 22 sd = pj n) :
    pw (gm_begins Z) (fun Z' => (∀ k, k ≠ 49 → k ≠ 50 → Z'.1 k = Z.1 k) ∧ (∀ k, k ≠ 48 → Z'.2.1 k = Z.2.1 k) ∧ Z'.2.2 = Z.2.2 ∧ ∀ x, x < 33 → Z'.2.1 48 x = if x < n then Z.2.1 23 (6 * sd + x) else 0) := by
  unfold gm_begins
  obtain ⟨Z1, l1, l2, l3, l4, l5⟩ := pm_cploop (b := gm_begins_L2) (N := 33) (dst := 48) (g := fun _ _ => 0) Z 0 (by omega) (by omega) (fun _ _ _ _ _ _ _ => rfl) (fun Z' k q1 q2 q3 hk => by
    have hlt : (k : Int) < 33 := by omega
    unfold gm_begins_L2
    dsimp only
    rw [show (33 : Int32) = pj 33 from rfl, if_pos ((pj_lt (by omega) (by omega)).2 hlt), pj_ast (by omega) (by omega), Option.bind_some, pj_1, pj_add, Nat.zero_add]) (fun Z' q1 q2 q3 => by
    unfold gm_begins_L2
    dsimp only
    rw [show (33 : Int32) = pj 33 from rfl, if_neg (by rw [pj_lt (by omega) (by omega)]; omega)])
  rw [show (0 : Int32) = pj 0 from rfl, l1, Option.bind_some]
  obtain ⟨Z2, m1, m2, m3, m4, m5⟩ := pm_cploop (b := gm_begins_L23) (N := n) (dst := 48) (g := fun Z x => Z.2.1 23 (6 * sd + x)) Z1 0 (by omega) (by omega) (fun Z' q1 q2 q3 x hx _ => by show Z'.2.1 23 _ = _; rw [q3 23 (by omega)]) (fun Z' k q1 q2 q3 hk => by
    have hlt : (k : Int) < (n : Nat) := by omega
    have hix : 6 * pj (sd : Nat) + pj (k : Nat) = pj ((6 * sd + k : Nat) : Int) := by rw [show (6 : Int32) = pj 6 from rfl, pj_mul, pj_add]; congr 1
    unfold gm_begins_L23
    dsimp only
    rw [q1, l2, h18, q3 22 (by omega), l4 22 (by omega), pj_ald (by omega) (by omega), Int.toNat_natCast, h22, Option.bind_some, if_pos ((pj_lt (by omega) (by omega)).2 hlt), hix, pj_ald (by omega) (by omega), Int.toNat_natCast, Option.bind_some, pj_ast (by omega) (by omega), Option.bind_some, pj_1, pj_add, Nat.zero_add]) (fun Z' q1 q2 q3 => by
    unfold gm_begins_L23
    dsimp only
    rw [q1, l2, h18, q3 22 (by omega), l4 22 (by omega), pj_ald (by omega) (by omega), Int.toNat_natCast, h22, Option.bind_some, if_neg (by rw [pj_lt (by omega) (by omega)]; omega)])
  rw [m1, Option.bind_some, m2, l2, h18, pj_ald (by omega) (by omega), Option.bind_some, Option.bind_some, Option.bind_some, pw_some]
  refine ⟨fun k h1 h2 => ?_, fun k h1 => ?_, ?_, fun x hx => ?_⟩
  · rw [zm_sFn h2, zm_sFn h1, m2, l2]
  · show Z2.2.1 k = _
    rw [m4 k h1, l4 k h1]
  · show Z2.2.2 = _
    rw [m3, l3]
  · show Z2.2.1 48 x = _
    rw [m5, l5]
    by_cases c : x < n
    · rw [if_pos (by omega), if_pos c, Nat.sub_zero, l4 23 (by omega)]
    · rw [if_neg (by omega), if_pos (by omega), if_neg c]; rfl
theorem py_keepsRow (Z : zm_S) : pw (gm_keepsRow Z) (fun Z' => Z'.1 = Z.1 ∧ (∀ k, k ≠ 47 → Z'.2.1 k = Z.2.1 k) ∧ Z'.2.2 = Z.2.2 ∧ ∀ x, x < 33 → Z'.2.1 47 x = Z.2.1 48 x) := by
  unfold gm_keepsRow
  obtain ⟨Z1, l1, l2, l3, l4, l5⟩ := pm_cploop (b := gm_keepsRow_L2) (N := 33) (dst := 47) (g := fun Z x => Z.2.1 48 x) Z 0 (by omega) (by omega) (fun Z' q1 q2 q3 x hx _ => by show Z'.2.1 48 _ = _; rw [q3 48 (by omega)]) (fun Z' k q1 q2 q3 hk => by
    have hlt : (k : Int) < 33 := by omega
    unfold gm_keepsRow_L2
    dsimp only
    rw [show (33 : Int32) = pj 33 from rfl, if_pos ((pj_lt (by omega) (by omega)).2 hlt), pj_ald (by omega) (by omega), Int.toNat_natCast, Option.bind_some, pj_ast (by omega) (by omega), Option.bind_some, pj_1, pj_add, Nat.zero_add]) (fun Z' q1 q2 q3 => by
    unfold gm_keepsRow_L2
    dsimp only
    rw [show (33 : Int32) = pj 33 from rfl, if_neg (by rw [pj_lt (by omega) (by omega)]; omega)])
  rw [show (0 : Int32) = pj 0 from rfl, l1, Option.bind_some, pw_some]
  exact ⟨l2, l4, l3, fun x hx => by rw [l5, if_pos (by omega), Nat.sub_zero]⟩
def py_tail (r18 : zm_S) : Option (Int32 × zm_S) := (if 0 < (r18.1 13) then (some (r18.1 14))
  else (if 0 < (r18.1 15) then (some (r18.1 16))
  else (some (-1)))).bind fun (p19 : Int32) =>
  (some (zm_sF r18 17 p19)).bind fun M20 =>
  if 0 < (M20.1 13) then (some ((M20.1 13), M20))
  else (if 0 < (M20.1 15) then (some ((M20.1 15), M20))
  else ((some (zm_sF M20 18 (M20.1 19))).bind fun M21 =>
  (gm_begins M21).bind fun M22 =>
  (gm_keepsRow M22).bind fun M23 =>
  (some (zm_sF M23 53 0)).bind fun M24 =>
  (some (zm_sF M24 63 0)).bind fun M25 =>
  (zs_loop 5000 gm_read_L219 (0, M25)).bind fun z => some z))
/-- a text that was told well -/
def py_good (X : pz_X) (sd : Nat) (Z : zm_S) (Z' : zm_S) : Prop := (∀ T, pt_X T X → pm_T T sd Z') ∧ (∀ x, x < 33 → Z'.2.1 47 x = pz_hr X x) ∧ Z'.1 17 = pj (-1) ∧ Z'.1 53 = 0 ∧ Z'.1 63 = 0 ∧ (∀ k, k < 3 → Z'.2.1 69 k = 0) ∧ (∀ k, ¬ (k = 4 ∨ (10 ≤ k ∧ k ≤ 20) ∨ k = 33 ∨ k = 39 ∨ k = 43 ∨ k = 49 ∨ k = 50 ∨ k = 53 ∨ k = 63) → Z'.1 k = Z.1 k) ∧ (∀ k, py_sz k = 0 → ¬ (k = 3 ∨ k = 5 ∨ k = 6 ∨ k = 7 ∨ k = 42 ∨ k = 47 ∨ k = 48 ∨ k = 69) → Z'.2.1 k = Z.2.1 k) ∧ ∀ k, k ≠ 8 → k ≠ 21 → Z'.2.2 k = Z.2.2 k
theorem py_tailF {sd : Nat} {Z0 Z : zm_S} {n pl : Nat} (h : py_F sd Z0 n pl Z) : pw (py_tail Z) (fun p => p.1 = pj n ∧ p.2.1 17 = pj pl ∧ py_M sd Z0 p.2) := by
  unfold py_tail
  rw [if_pos (py_F13 h).2, Option.bind_some, Option.bind_some, zm_sFn (by omega), if_pos (py_F13 h).2, pw_some, h.2.2.2]
  exact ⟨h.2.2.1, zm_sFs _ _ _, py_M_trans h.1 (py_M_F _ (by omega))⟩
theorem py_tailW {b : Nat → Int} {K : List pz_T} {sd : Nat} {Z0 Z : zm_S} {X : pz_X} {w : Nat × Nat} {a : Nat} (h : py_S b K sd Z0 X w a Z) (hw : w.1 ≠ 0) : pw (py_tail Z) (fun p => p.1 = pj w.1 ∧ p.2.1 17 = pj (pz_fr K w.2 : Nat) ∧ py_M sd Z0 p.2) := by
  obtain ⟨h1, h2, h3, h4, h5, h6, h7, h8, ⟨w1, w2, w3⟩, -⟩ := h
  obtain ⟨w4, -⟩ := w3 hw
  have h15 : 0 < Z.1 15 := by rw [w2, pj_0, pj_lt (by omega) (by omega)]; omega
  have hn : ¬ 0 < Z.1 13 := by rw [h3]; decide
  unfold py_tail
  rw [if_neg hn, if_pos h15, Option.bind_some, Option.bind_some, zm_sFn (by omega), if_neg hn, zm_sFn (by omega), if_pos h15, pw_some, w4]
  exact ⟨w2, zm_sFs _ _ _, py_M_trans h2 (py_M_F _ (by omega))⟩
theorem py_tailS {b : Nat → Int} {K : List pz_T} {sd : Nat} {Z0 Z : zm_S} {X : pz_X} {w : Nat × Nat} {a : Nat} (h : py_S b K sd Z0 X w a Z) (hw : w.1 = 0) : pw (py_tail Z) (fun p => p.1 = 0 ∧ py_good X sd Z0 p.2) := by
  obtain ⟨h1, h2, h3, h4, h5, h6, h7, h8, ⟨w1, w2, w3⟩, cb, bb, h10, d1, d2, d3, d4, d5, d6, d7, d8, d9, d10, d11, d12, d13, d14, d15⟩ := h
  have h15 : ¬ 0 < Z.1 15 := by rw [w2, hw]; decide
  have hn : ¬ 0 < Z.1 13 := by rw [h3]; decide
  unfold py_tail
  rw [if_neg hn, if_neg h15, Option.bind_some, Option.bind_some, zm_sFn (by omega), if_neg hn, zm_sFn (by omega), if_neg h15, Option.bind_some, zm_sFn (by omega), d1]
  have e18 : (zm_sF (zm_sF Z 17 (-1)) 18 (pj (sd : Nat))).1 18 = pj sd := zm_sFs _ _ _
  have e1 : ∀ k, k ≠ 18 → k ≠ 17 → (zm_sF (zm_sF Z 17 (-1)) 18 (pj (sd : Nat))).1 k = Z.1 k := fun k a c => by rw [zm_sFn a, zm_sFn c]
  have e17 : (zm_sF (zm_sF Z 17 (-1)) 18 (pj (sd : Nat))).1 17 = pj (-1) := by rw [zm_sFn (by omega), zm_sFs]; rfl
  have e2 : (zm_sF (zm_sF Z 17 (-1)) 18 (pj (sd : Nat))).2 = Z.2 := rfl
  generalize zm_sF (zm_sF Z 17 (-1)) 18 (pj (sd : Nat)) = Z1 at e18 e1 e17 e2
  refine pw_seq (pm_begins h8 d3 e18 (by rw [e2]; exact d7)) (fun Z2 k2 => ?_)
  obtain ⟨f1, f2, f3, f4⟩ := k2
  refine pw_seq (py_keepsRow Z2) (fun Z3 k3 => ?_)
  obtain ⟨g1, g2, g3, g4⟩ := k3
  rw [Option.bind_some, Option.bind_some]
  have q1 : ∀ k, k ≠ 53 → k ≠ 63 → (zm_sF (zm_sF Z3 53 0) 63 0).1 k = Z3.1 k := fun k a c => by rw [zm_sFn c, zm_sFn a]
  have q53 : (zm_sF (zm_sF Z3 53 0) 63 0).1 53 = 0 := by rw [zm_sFn (by omega), zm_sFs]
  have q63 : (zm_sF (zm_sF Z3 53 0) 63 0).1 63 = 0 := zm_sFs _ _ _
  have q2 : (zm_sF (zm_sF Z3 53 0) 63 0).2 = Z3.2 := rfl
  generalize zm_sF (zm_sF Z3 53 0) 63 0 = Z4 at q1 q53 q63 q2
  have hloop : pw (zs_loop 5000 gm_read_L219 (pj 0, Z4)) (fun p => p.1 = 0 ∧ p.2.1 = Z4.1 ∧ p.2.2.2 = Z4.2.2 ∧ (∀ k, k ≠ 69 → p.2.2.1 k = Z4.2.1 k) ∧ ∀ k, k < 3 → p.2.2.1 69 k = 0) := by
    refine pw_for 3 (fun k t => ∃ Z', t = (pj (k : Nat), Z') ∧ Z'.1 = Z4.1 ∧ Z'.2.2 = Z4.2.2 ∧ (∀ k, k ≠ 69 → Z'.2.1 k = Z4.2.1 k) ∧ ∀ j, j < k → Z'.2.1 69 j = 0) 5000 (by omega) ?_ ?_ (pj 0, Z4) ⟨Z4, rfl, rfl, rfl, fun _ _ => rfl, fun j hj => by omega⟩
    · rintro k t hk ⟨Z', rfl, r1, r2, r3, r4⟩
      have hlt : (k : Int) < 3 := by omega
      unfold gm_read_L219
      dsimp only
      rw [show (3 : Int32) = pj 3 from rfl, if_pos ((pj_lt (by omega) (by omega)).2 hlt), pj_ast (by omega) (by omega), Option.bind_some, pj_1, pj_add, pw_some]
      refine ⟨py_up Z' 69 k (vp_nar .boolean 0), rfl, r1, r2, fun j hj => by rw [← r3 j hj]; exact pm_sAn hj, fun j hj => ?_⟩
      rw [py_up2 (by omega)]
      by_cases c : j = k
      · rw [if_pos ⟨rfl, c⟩]; decide
      · rw [if_neg (fun q => c q.2)]; exact r4 j (by omega)
    · rintro t ⟨Z', rfl, r1, r2, r3, r4⟩
      unfold gm_read_L219
      dsimp only
      rw [show (3 : Int32) = pj 3 from rfl, if_neg (by rw [pj_lt (by omega) (by omega)]; omega), pw_some]
      exact ⟨rfl, r1, r2, r3, r4⟩
  refine pw_seq hloop (fun p hp => (pw_some _ _).2 ?_)
  obtain ⟨p1, p2, p3, p4, p5⟩ := hp
  have fld : ∀ k, k ≠ 17 → k ≠ 18 → k ≠ 49 → k ≠ 50 → k ≠ 53 → k ≠ 63 → p.2.1 k = Z.1 k := fun k a1 a2 a3 a4 a5 a6 => by rw [p2, q1 k a5 a6, g1, f1 k a3 a4, e1 k a2 a1]
  have arr : ∀ k, k ≠ 47 → k ≠ 48 → k ≠ 69 → p.2.2.1 k = Z.2.1 k := fun k a1 a2 a3 => by rw [p4 k a3, q2, g2 k a1, f2 k a2, e2]
  have lng : p.2.2.2 = Z.2.2 := by rw [p3, q2, g3, f3, e2]
  have p18 : p.2.1 18 = pj sd := by rw [p2, q1 18 (by omega) (by omega), g1, f1 18 (by omega) (by omega)]; exact e18
  refine ⟨p1, ⟨fun T hT => ?_, fun x hx => ?_, ?_, ?_, ?_, p5, fun k hk => ?_, fun k h1 h2' => ?_, fun k h1 h2' => ?_⟩⟩
  · obtain ⟨t1, t2, t3, t4, t5⟩ := hT
    refine ⟨h8, p18, ?_, fun h hh => ?_, fun x y hx hy => ?_, ?_, ?_, ?_, ?_, fun k hk => ?_⟩
    · rw [arr 22 (by omega) (by omega) (by omega), t1]; exact d7
    · rw [t1] at hh
      have hx : X.1[h]? = some X.1[h] := List.getElem?_eq_getElem hh
      obtain ⟨u1, u2⟩ := t2 h _ hx
      obtain ⟨v1, v2, -⟩ := d9 h _ hx
      unfold pt_h pt_s
      rw [arr 23 (by omega) (by omega) (by omega), arr 24 (by omega) (by omega) (by omega), u1, u2, ← u1, pj_of, u1, ← u2, pj_of, u2]
      exact ⟨v1, v2⟩
    · unfold pt_k
      rw [arr 26 (by omega) (by omega) (by omega), pj_of, t3 x y hx hy]; exact d10 x y hx hy
    · unfold pt_f
      rw [arr 27 (by omega) (by omega) (by omega), pj_of, t4 4 (by omega) (by omega)]; exact d11
    · unfold pt_f
      rw [arr 28 (by omega) (by omega) (by omega), pj_of, t4 5 (by omega) (by omega)]; exact d12
    · unfold pt_f
      rw [arr 29 (by omega) (by omega) (by omega), pj_of, t4 6 (by omega) (by omega)]; exact d13
    · rw [arr 30 (by omega) (by omega) (by omega), t4 7 (by omega) (by omega)]; exact d14
    · rw [t5 k hk]
      refine d15 k hk p.2 ⟨?_, ?_, fun q j q1 q2 _ => ?_, fun j _ => ⟨?_, ?_⟩⟩
      · rw [arr 31 (by omega) (by omega) (by omega)]
      · rw [arr 32 (by omega) (by omega) (by omega)]
      · rw [arr q (by omega) (by omega) (by omega)]
      · rw [arr 40 (by omega) (by omega) (by omega)]
      · rw [arr 41 (by omega) (by omega) (by omega)]
  · rw [p4 47 (by omega), q2, g4 x hx, f4 x hx, e2]
    unfold pz_hr
    by_cases c : x < X.1.length
    · rw [if_pos c, List.getElem?_eq_getElem c]
      exact (d9 x _ (List.getElem?_eq_getElem c)).1
    · rw [if_neg c, List.getElem?_eq_none (by omega)]
  · rw [p2, q1 17 (by omega) (by omega), g1, f1 17 (by omega) (by omega)]; exact e17
  · rw [p2]; exact q53
  · rw [p2]; exact q63
  · rw [fld k (by omega) (by omega) (by omega) (by omega) (by omega) (by omega), h2.1 k (by omega)]
  · rw [arr k (by omega) (by omega) (by omega), h2.2.1 k h1 (by omega)]
  · rw [lng, h2.2.2.2 k h1 h2']
/-- READING BY THE MODEL -/
theorem py_read {b : Nat → Int} {p s : Nat} {Z : zm_S} (hp : p ≤ 2000) (h2 : Z.1 2 = pj p) (ht : ∀ j, j < p → Z.2.1 1 j = pj (b j) ∧ -128 ≤ b j ∧ b j < 128) (hs : s < 2) (h18 : Z.1 18 = pj s) (hK : pr_K Z) :
    pw (gm_read Z) (fun q => Sum.elim (fun e => q.1 = pj e.1 ∧ q.2.1 17 = pj e.2 ∧ py_M (1 - s) (zm_sF Z 2 0) q.2) (fun X => q.1 = 0 ∧ py_good X (1 - s) (zm_sF Z 2 0) q.2) (pz_read b (pz_K b p))) := by
  have hgm : gm_read Z = (some (zm_sF Z 4 (Z.1 2))).bind fun M1 =>
      (zs_loop 5000 gm_read_L10 (0, M1)).bind fun (r4 : zm_S) =>
      (some (zm_sF r4 2 0)).bind fun M5 =>
      (gm_cut M5).bind fun M6 =>
      (some (zm_sF M6 11 0)).bind fun M7 =>
      (some (zm_sF M7 12 0)).bind fun M8 =>
      (some (zm_sF M8 13 0)).bind fun M9 =>
      (some (zm_sF M9 15 0)).bind fun M10 =>
      (some (zm_sF M10 19 (1 - (M10.1 18)))).bind fun M11 =>
      (some (zm_sF M11 20 0)).bind fun M12 =>
      (gm_plain M12 (M12.1 19)).bind fun M13 =>
      (some (zm_sF M13 33 (130 * (M13.1 19)))).bind fun M14 =>
      (some (zm_sF M14 39 (420 * (M14.1 19)))).bind fun M15 => (zs_loop 5000 gm_read_L112 M15).bind py_tail := rfl
  rw [hgm]
  refine py_first hp h2 ht hs h18 hK (fun Z1 hS => ?_)
  refine pw_seq (py_all 401 pz_X0 (0, 0) 0 Z1 5000 (by omega) (by omega) hS) (fun M hM => ?_)
  unfold pz_read
  cases hr : pz_all b (pz_K b p) 401 pz_X0 (0, 0) 0 with
  | inl q =>
    rw [hr] at hM
    exact py_tailF hM
  | inr r =>
    rw [hr] at hM
    obtain ⟨a, hM⟩ := hM
    by_cases c : r.2.1 = 0
    · refine pw_mono (py_tailS hM c) (fun p hp => ?_)
      show Sum.elim _ _ (if r.2.1 = 0 then Sum.inr r.1 else Sum.inl (r.2.1, _))
      rw [if_pos c]
      exact hp
    · refine pw_mono (py_tailW hM c) (fun p hp => ?_)
      show Sum.elim _ _ (if r.2.1 = 0 then Sum.inr r.1 else Sum.inl (r.2.1, _))
      rw [if_neg c]
      exact hp
