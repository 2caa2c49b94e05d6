set_option maxRecDepth 100000
/-! what a text tells -/
abbrev pz_X : Type := List (List Nat × Nat × Nat) × Nat × (Nat → Nat → Nat) × (Nat → Nat) × (Nat → Option zl_L)
def pz_X0 : pz_X := ([], 0, fun _ _ => 5, fun k => if k = 4 then 20 else if k = 5 then 10 else 0, fun _ => none)
def pz_wr (w : Nat × Nat) (n t : Nat) : Nat × Nat := if w.1 ≠ 0 ∧ (w.2 < t ∨ (t = w.2 ∧ w.1 ≤ n)) then w else (n, t)
def pz_nu (K : List pz_T) (lo hi : Nat) (w : Nat × Nat) (a : Nat) : pz_R (Nat × (Nat × Nat) × Nat) := pz_bd (pz_tk K 2 a) fun b => Sum.inr (pz_vl K a, (if lo ≤ pz_vl K a ∧ pz_vl K a ≤ hi then w else pz_wr w 5 a), b)
def pz_nm (b : Nat → Int) (K : List pz_T) (a : Nat) : List Nat := pz_sl b (pz_fr K a) (pz_to K a)
def pz_ix (hs : List (List Nat × Nat × Nat)) (s : List Nat) : Option Nat := hs.findIdx? fun h => h.1 == s
def pz_kn (b : Nat → Int) (K : List pz_T) (hs : List (List Nat × Nat × Nat)) (w : Nat × Nat) (a : Nat) : pz_R (Option Nat × (Nat × Nat) × Nat) := pz_bd (pz_tk K 1 a) fun e => Sum.inr (pz_ix hs (pz_nm b K a), (if (pz_ix hs (pz_nm b K a)).isSome = true then w else pz_wr w 4 a), e)
def pz_ho (b : Nat → Int) (K : List pz_T) (X : pz_X) (w : Nat × Nat) (a : Nat) : pz_R (pz_X × (Nat × Nat) × Nat) := pz_bd (pz_tk K 1 a) fun a1 => pz_bd (pz_nu K 0 20 (if (pz_ix X.1 (pz_nm b K a)).isSome = true then pz_wr w 3 a else w) a1) fun r1 => pz_bd (pz_nu K 1 99 r1.2.1 r1.2.2) fun r2 => Sum.inr ((X.1 ++ [(pz_nm b K a, r1.1, r2.1)], X.2), r2.2.1, r2.2.2)
def pz_up2 (l : Nat → Nat → Nat) (x y v : Nat) : Nat → Nat → Nat := fun p q => if p = x ∧ q = y then v else l p q
def pz_lk2 (l : Nat → Nat → Nat) (x y : Option Nat) (v : Nat) : Nat → Nat → Nat := if x.isSome = true ∧ y.isSome = true then pz_up2 (pz_up2 l (x.getD 0) (y.getD 0) v) (y.getD 0) (x.getD 0) v else l
def pz_li (b : Nat → Int) (K : List pz_T) (X : pz_X) (w : Nat × Nat) (a : Nat) : pz_R (pz_X × (Nat × Nat) × Nat) := pz_bd (pz_kn b K X.1 w a) fun r1 => pz_bd (pz_kn b K X.1 r1.2.1 r1.2.2) fun r2 => pz_bd (pz_nu K 0 9 (if r1.1.isSome = true ∧ r1.1 = r2.1 then pz_wr r2.2.1 3 r1.2.2 else r2.2.1) r2.2.2) fun r3 => Sum.inr ((X.1, X.2.1 + 1, pz_lk2 X.2.2.1 r1.1 r2.1 r3.1, X.2.2.2), r3.2.1, r3.2.2)
def pz_se (X : pz_X) (k v : Nat) : pz_X := (X.1, X.2.1, X.2.2.1, (fun j => if j = k then v else X.2.2.2.1 j), X.2.2.2.2)
def pz_sw (X : pz_X) (k : Nat) (L : zl_L) : pz_X := (X.1, X.2.1, X.2.2.1, X.2.2.2.1, fun j => if j = k then some L else X.2.2.2.2 j)
def pz_fi (K : List pz_T) (X : pz_X) (w : Nat × Nat) (k lo hi a : Nat) : pz_R (pz_X × (Nat × Nat) × Nat) := pz_bd (pz_nu K lo hi w a) fun r => Sum.inr (pz_se X k r.1, r.2.1, r.2.2)
def pz_told (b : Nat → Int) (K : List pz_T) (X : pz_X) (w : Nat × Nat) (a : Nat) : pz_R (pz_X × (Nat × Nat) × Nat) :=
  if pz_kd K a = 20 then (if X.1.length = 6 then Sum.inl (2, pz_fr K a) else pz_bd (pz_ps K a) fun a1 => pz_ho b K X w a1)
  else if pz_kd K a = 21 then (if X.2.1 = 20 then Sum.inl (2, pz_fr K a) else pz_bd (pz_ps K a) fun a1 => pz_li b K X w a1)
  else if pz_kd K a = 22 then pz_bd (pz_ps K a) fun a1 => pz_fi K X w 4 1 99 a1
  else if pz_kd K a = 23 then pz_bd (pz_ps K a) fun a1 => pz_fi K X w 5 0 99 a1
  else if pz_kd K a = 28 then pz_bd (pz_ps K a) fun a1 => pz_fi K X w 6 0 100 a1
  else if pz_kd K a = 29 then pz_bd (pz_ps K a) fun a1 => pz_fi K X w 7 0 9999 a1
  else if 24 ≤ pz_kd K a ∧ pz_kd K a ≤ 27 then pz_bd (pz_ps K a) fun a1 => pz_bd (pz_law K a1) fun r => Sum.inr (pz_sw X (pz_kd K a - 24) r.1, w, r.2)
  else Sum.inl (1, pz_fr K a)
def pz_sc (K : List pz_T) (r : pz_X × (Nat × Nat) × Nat) : pz_R (pz_X × (Nat × Nat) × Nat) := pz_bd (pz_tk K 4 r.2.2) fun e => Sum.inr (r.1, r.2.1, e)
def pz_tell (b : Nat → Int) (K : List pz_T) (X : pz_X) (w : Nat × Nat) (a : Nat) : pz_R (pz_X × (Nat × Nat) × Nat) := pz_bd (pz_told b K X w a) (pz_sc K)
def pz_all (b : Nat → Int) (K : List pz_T) : Nat → pz_X → Nat × Nat → Nat → pz_R (pz_X × (Nat × Nat))
  | 0, X, w, _ => Sum.inr (X, w)
  | n + 1, X, w, a => if pz_kd K a = 0 then Sum.inr (X, w) else pz_bd (pz_tell b K X w a) fun r => pz_all b K n r.1 r.2.1 r.2.2
def pz_read (b : Nat → Int) (K : List pz_T) : pz_R pz_X := pz_bd (pz_all b K 401 pz_X0 (0, 0) 0) fun r => if r.2.1 = 0 then Sum.inr r.1 else Sum.inl (r.2.1, pz_fr K r.2.2)
/-! the model's state while it reads -/
def py_sz (k : Nat) : Nat := if k = 22 ∨ k = 25 ∨ (27 ≤ k ∧ k ≤ 30) then 1 else if k = 23 ∨ k = 24 then 6 else if k = 26 then 36 else if k = 31 ∨ k = 32 then 4 else if 34 ≤ k ∧ k ≤ 38 then 130 else if k = 40 ∨ k = 41 then 420 else 0
/-- all but what is read into, and the other side -/
def py_M (sd : Nat) (Z Z' : zm_S) : Prop := (∀ k, ¬ (k = 4 ∨ (10 ≤ k ∧ k ≤ 17) ∨ k = 19 ∨ k = 20 ∨ k = 33 ∨ k = 39 ∨ k = 43) → Z'.1 k = Z.1 k) ∧ (∀ k, py_sz k = 0 → ¬ (k = 3 ∨ k = 5 ∨ k = 6 ∨ k = 7 ∨ k = 42) → Z'.2.1 k = Z.2.1 k) ∧ (∀ k j, j < py_sz k → Z'.2.1 k (py_sz k * (1 - sd) + j) = Z.2.1 k (py_sz k * (1 - sd) + j)) ∧ ∀ k, k ≠ 8 → k ≠ 21 → Z'.2.2 k = Z.2.2 k
theorem py_M_rfl (sd : Nat) (Z : zm_S) : py_M sd Z Z := ⟨fun _ _ => rfl, fun _ _ _ => rfl, fun _ _ _ => rfl, fun _ _ _ => rfl⟩
theorem py_M_trans {sd : Nat} {A B C : zm_S} (h : py_M sd A B) (g : py_M sd B C) : py_M sd A C := ⟨fun k a => (g.1 k a).trans (h.1 k a), fun k a b => (g.2.1 k a b).trans (h.2.1 k a b), fun k j a => (g.2.2.1 k j a).trans (h.2.2.1 k j a), fun k a b => (g.2.2.2 k a b).trans (h.2.2.2 k a b)⟩
theorem py_M_F {sd : Nat} {Z : zm_S} {k : Nat} (x : Int32) (h : k = 4 ∨ (10 ≤ k ∧ k ≤ 17) ∨ k = 19 ∨ k = 20 ∨ k = 33 ∨ k = 39 ∨ k = 43) : py_M sd Z (zm_sF Z k x) := ⟨fun j hj => zm_sFn (by omega), fun _ _ _ => rfl, fun _ _ _ => rfl, fun _ _ _ => rfl⟩
theorem py_M_A {sd : Nat} (hsd : sd < 2) {Z : zm_S} {k i s : Nat} (x : Int32) (hs : py_sz k = s) (hi : s * sd ≤ i ∧ i < s * sd + s) (hi2 : i < 5000) : py_M sd Z (zm_sA Z k (pj (i : Nat)) x) := by
  refine ⟨fun _ _ => rfl, fun j h1 h2 => ?_, fun j q hq => ?_, fun _ _ _ => rfl⟩
  · have : j ≠ k := fun e => by rw [e, hs] at h1; omega
    rw [pm_sAn this]
  · rw [pm_sA]
    by_cases e : j = k
    · subst e
      rw [if_pos rfl, pj_nat (by omega), Int.toNat_natCast, pj_upd, if_neg]
      rw [hs] at hq ⊢
      have : sd = 0 ∨ sd = 1 := by omega
      rcases this with rfl | rfl
      · simp at hi ⊢; omega
      · simp at hi ⊢; omega
    · rw [if_neg e]
theorem py_M_px {sd cb bb : Nat} (hsd : sd < 2) (hc : 420 * sd ≤ cb ∧ cb < 420 * sd + 420) (hb : 130 * sd ≤ bb ∧ bb < 130 * sd + 130) {Z Z' : zm_S} (h : px_fr cb bb Z Z') : py_M sd Z Z' := by
  refine ⟨fun k hk => h.1 k (by omega), fun k h1 h2 => h.2.1 k ?_, fun k j hj => ?_, fun k _ _ => by rw [h.2.2.1]⟩
  · rintro (q | q)
    · unfold py_sz at h1
      rw [if_neg (by omega), if_neg (by omega), if_neg (by omega), if_neg (by omega), if_pos q] at h1
      omega
    · have : k = 40 ∨ k = 41 := by omega
      unfold py_sz at h1
      rw [if_neg (by omega), if_neg (by omega), if_neg (by omega), if_neg (by omega), if_neg (by omega), if_pos this] at h1
      omega
  · by_cases c1 : 34 ≤ k ∧ k ≤ 38
    · have e : py_sz k = 130 := by
        unfold py_sz
        rw [if_neg (by omega), if_neg (by omega), if_neg (by omega), if_neg (by omega), if_pos c1]
      rw [e] at hj ⊢
      exact h.2.2.2.2 k _ c1.1 c1.2 (by omega)
    · by_cases c2 : k = 40 ∨ k = 41
      · have e : py_sz k = 420 := by
          unfold py_sz
          rw [if_neg (by omega), if_neg (by omega), if_neg (by omega), if_neg (by omega), if_neg (by omega), if_pos c2]
        rw [e] at hj ⊢
        have := h.2.2.2.1 (420 * (1 - sd) + j) (by omega)
        rcases c2 with rfl | rfl
        · exact this.1
        · exact this.2
      · by_cases c3 : k = 42
        · subst c3
          exact absurd hj (by rw [show py_sz 42 = 0 from by decide]; omega)
        · rw [h.2.1 k (by omega)]
/-- tokens with their names -/
def py_ok (b : Nat → Int) (K : List pz_T) (Z : zm_S) : Prop := pm_ok K Z ∧ (∀ a, a < K.length → a ≤ 400 → pz_kd K a = 1 → Z.2.2 8 a = pr_key (pz_nm b K a)) ∧ (∀ a, pz_kd K a = 1 → (∀ c ∈ pz_nm b K a, 97 ≤ c ∧ c ≤ 122) ∧ (pz_nm b K a).length ≤ 8) ∧ ∀ i j, i < j → j < K.length → pz_fr K i < pz_fr K j
def py_W (K : List pz_T) (w : Nat × Nat) (Z : zm_S) : Prop := w.1 ≤ 5 ∧ Z.1 15 = pj w.1 ∧ (w.1 ≠ 0 → Z.1 16 = pj (pz_fr K w.2 : Nat) ∧ w.2 < K.length ∧ w.2 ≤ 400)
def py_D (sd : Nat) (X : pz_X) (cb bb : Nat) (Z : zm_S) : Prop :=
  Z.1 19 = pj sd ∧ Z.1 20 = pj X.1.length ∧ X.1.length ≤ 6 ∧ X.2.1 ≤ 20 ∧ Z.1 33 = pj bb ∧ Z.1 39 = pj cb ∧ Z.2.1 22 sd = pj X.1.length ∧ Z.2.1 25 sd = pj X.2.1 ∧
  (∀ j h, X.1[j]? = some h → Z.2.1 23 (6 * sd + j) = pj h.2.1 ∧ Z.2.1 24 (6 * sd + j) = pj h.2.2 ∧ Z.2.2 21 j = pr_key h.1 ∧ (∀ c ∈ h.1, 97 ≤ c ∧ c ≤ 122) ∧ h.1.length ≤ 8) ∧
  (∀ p q, p < 6 → q < 6 → Z.2.1 26 (36 * sd + 6 * p + q) = pj (X.2.2.1 p q)) ∧ Z.2.1 27 sd = pj (X.2.2.2.1 4) ∧ Z.2.1 28 sd = pj (X.2.2.2.1 5) ∧ Z.2.1 29 sd = pj (X.2.2.2.1 6) ∧ Z.2.1 30 sd = pj (X.2.2.2.1 7) ∧ ∀ k, k < 4 → py_lw cb bb Z sd k (X.2.2.2.2 k)
def py_S (b : Nat → Int) (K : List pz_T) (sd : Nat) (Z0 : zm_S) (X : pz_X) (w : Nat × Nat) (a : Nat) (Z : zm_S) : Prop :=
  py_ok b K Z ∧ py_M sd Z0 Z ∧ Z.1 13 = 0 ∧ Z.1 11 = pj a ∧ Z.1 12 = pj (0 : Nat) ∧ a < K.length ∧ a ≤ 400 ∧ sd < 2 ∧ py_W K w Z ∧ ∃ cb bb, (420 * sd ≤ cb ∧ cb ≤ 420 * sd + a ∧ 130 * sd ≤ bb ∧ 4 * bb ≤ 520 * sd + a) ∧ py_D sd X cb bb Z
def py_F (sd : Nat) (Z0 : zm_S) (n pl : Nat) (Z : zm_S) : Prop := py_M sd Z0 Z ∧ (n = 1 ∨ n = 2) ∧ Z.1 13 = pj n ∧ Z.1 14 = pj pl
theorem py_lw_fr {cb bb : Nat} {Z Z' : zm_S} {sd k : Nat} {o : Option zl_L} (h : ∀ j, (j = 31 ∨ j = 32 ∨ (34 ≤ j ∧ j ≤ 38) ∨ j = 40 ∨ j = 41) → Z'.2.1 j = Z.2.1 j) (g : py_lw cb bb Z sd k o) : py_lw cb bb Z' sd k o := fun Z'' h2 => by
  refine g Z'' ?_
  unfold py_fr at h2 ⊢
  rw [← h 31 (by omega), ← h 32 (by omega), ← h 40 (by omega), ← h 41 (by omega)]
  exact ⟨h2.1, h2.2.1, fun q j a b c => by rw [← h q (by omega)]; exact h2.2.2.1 q j a b c, h2.2.2.2⟩
theorem py_D_F {sd : Nat} {X : pz_X} {cb bb : Nat} {Z : zm_S} {k : Nat} (x : Int32) (hk : k ≠ 19 ∧ k ≠ 20 ∧ k ≠ 33 ∧ k ≠ 39) (h : py_D sd X cb bb Z) : py_D sd X cb bb (zm_sF Z k x) := by
  obtain ⟨h1, h2, h3, h4, h5, h6, h7⟩ := h
  exact ⟨(zm_sFn (by omega)).trans h1, (zm_sFn (by omega)).trans h2, h3, h4, (zm_sFn (by omega)).trans h5, (zm_sFn (by omega)).trans h6, h7⟩
theorem py_W_F {K : List pz_T} {w : Nat × Nat} {Z : zm_S} {k : Nat} (x : Int32) (hk : k ≠ 15 ∧ k ≠ 16) (h : py_W K w Z) : py_W K w (zm_sF Z k x) := ⟨h.1, (zm_sFn (by omega)).trans h.2.1, fun q => by rw [zm_sFn (by omega)]; exact h.2.2 q⟩
theorem py_F13 {sd : Nat} {Z0 Z : zm_S} {n pl : Nat} (h : py_F sd Z0 n pl Z) : ¬ Z.1 13 = 0 ∧ 0 < Z.1 13 := by
  have h1 := h.2.1
  rw [h.2.2.1, pj_0, pj_eq (by omega) (by omega), pj_lt (by omega) (by omega)]
  omega
theorem py_goes {b : Nat → Int} {K : List pz_T} {sd : Nat} {Z0 Z : zm_S} {X : pz_X} {w : Nat × Nat} {a : Nat} (h : py_S b K sd Z0 X w a Z) (hk : pz_kd K a ≠ 0 ∧ pz_kd K a ≠ 3) :
    pw (gm_goesOn Z) (fun M => Sum.elim (fun q => py_F sd Z0 q.1 q.2 M) (fun e => e = a + 1 ∧ py_S b K sd Z0 X w e M) (pz_ps K a)) := by
  obtain ⟨h1, h2, h3, h4, h5, h6, h7, h8, h9, cb, bb, h10, h11⟩ := h
  rw [pm_goes0 h1.1 h3 h4 h6 h7, pw_some]
  unfold pz_ps
  by_cases c : 400 ≤ a
  · rw [if_pos c, if_pos c]
    refine ⟨py_M_trans h2 (py_M_trans (py_M_F _ (by omega)) (py_M_F _ (by omega))), Or.inr rfl, ?_, zm_sFs _ _ _⟩
    rw [zm_sFn (by omega), zm_sFs]; rfl
  · rw [if_neg c, if_neg c]
    exact ⟨rfl, h1, py_M_trans h2 (py_M_F _ (by omega)), (zm_sFn (by omega)).trans h3, zm_sFs _ _ _, (zm_sFn (by omega)).trans h5, h1.1.1.2.2 a h6 hk.1 hk.2, by omega, h8, py_W_F _ (by omega) h9, cb, bb, by omega, py_D_F _ (by omega) h11⟩
theorem py_failS {b : Nat → Int} {K : List pz_T} {sd : Nat} {Z0 Z : zm_S} {X : pz_X} {w : Nat × Nat} {a : Nat} (h : py_S b K sd Z0 X w a Z) (n : Nat) (hn : n = 1 ∨ n = 2) : pw (gm_fail Z (pj n)) (fun M => py_F sd Z0 n (pz_fr K a) M) := by
  obtain ⟨h1, h2, h3, h4, h5, h6, h7, h8, h9, cb, bb, h10, h11⟩ := h
  rw [pm_fail0 h1.1 h3 h4 h6 h7, pw_some]
  refine ⟨py_M_trans h2 (py_M_trans (py_M_F _ (by omega)) (py_M_F _ (by omega))), hn, ?_, zm_sFs _ _ _⟩
  rw [zm_sFn (by omega), zm_sFs]
theorem py_is {b : Nat → Int} {K : List pz_T} {sd : Nat} {Z0 Z : zm_S} {X : pz_X} {w : Nat × Nat} {a : Nat} (h : py_S b K sd Z0 X w a Z) {k : Nat} (hk : k ≤ 100) : gm_is Z (pj k) = some (decide (pz_kd K a = k)) := pm_is0 h.1.1 h.2.2.1 h.2.2.2.1 h.2.2.2.2.2.1 h.2.2.2.2.2.2.1 hk
theorem py_must {b : Nat → Int} {K : List pz_T} {sd : Nat} {Z0 Z : zm_S} {X : pz_X} {w : Nat × Nat} {a : Nat} (h : py_S b K sd Z0 X w a Z) {k : Nat} (hk : k ≤ 100) (hk2 : k ≠ 0 ∧ k ≠ 3) :
    pw (gm_must Z (pj k)) (fun M => Sum.elim (fun q => py_F sd Z0 q.1 q.2 M) (fun e => e = a + 1 ∧ py_S b K sd Z0 X w e M) (pz_tk K k a)) := by
  unfold gm_must pz_tk
  have e1 : ∀ x : Option zm_S, (x.bind fun M5 => some M5) = x := fun x => by cases x <;> rfl
  rw [py_is h hk, Option.bind_some, e1, e1]
  by_cases c : pz_kd K a = k
  · rw [if_pos c, decide_eq_true c, if_pos rfl]
    exact py_goes h (by omega)
  · rw [if_neg c, decide_eq_false c, if_neg (by decide)]
    exact py_failS h 1 (Or.inl rfl)
theorem py_wr {b : Nat → Int} {K : List pz_T} {sd : Nat} {Z0 Z : zm_S} {X : pz_X} {w : Nat × Nat} {a : Nat} (h : py_S b K sd Z0 X w a Z) {n t : Nat} (hn : 1 ≤ n ∧ n ≤ 5) (ht : t < K.length ∧ t ≤ 400) : pw (gm_wrong Z (pj n) (pj t)) (fun M => py_S b K sd Z0 X (pz_wr w n t) a M) := by
  obtain ⟨h1, h2, h3, h4, h5, h6, h7, h8, ⟨w1, w2, w3⟩, cb, bb, h10, h11⟩ := id h
  have e6 := (h1.1.2 t ht.1 ht.2).2.1
  have hfb := (h1.1.1.2.1 t).2.1
  have hn0 : ¬ 0 < Z.1 13 := by rw [h3]; decide
  unfold gm_wrong
  rw [pj_ald (by omega) (by omega), Int.toNat_natCast, Option.bind_some, if_neg hn0, pw_let, e6, w2]
  have hJ : pw ((some (zm_sF Z 15 (pj n))).bind fun M3 => (some (zm_sF M3 16 (pj (pz_fr K t : Nat)))).bind fun M4 => some M4) (fun M => py_S b K sd Z0 X (n, t) a M) := by
    rw [Option.bind_some, Option.bind_some, pw_some]
    refine ⟨h1, py_M_trans h2 (py_M_trans (py_M_F _ (by omega)) (py_M_F _ (by omega))), ?_, ?_, ?_, h6, h7, h8, ⟨hn.2, ?_, fun _ => ⟨zm_sFs _ _ _, ht.1, ht.2⟩⟩, cb, bb, h10, py_D_F _ (by omega) (py_D_F _ (by omega) h11)⟩
    · rw [zm_sFn (by omega), zm_sFn (by omega)]; exact h3
    · rw [zm_sFn (by omega), zm_sFn (by omega)]; exact h4
    · rw [zm_sFn (by omega), zm_sFn (by omega)]; exact h5
    · rw [zm_sFn (by omega), zm_sFs]
  unfold pz_wr
  by_cases c0 : w.1 = 0
  · rw [if_pos (by rw [c0]; rfl), if_neg (fun q => q.1 c0)]
    exact hJ
  · obtain ⟨w4, w5, w6⟩ := w3 c0
    have hwb := (h1.1.1.2.1 w.2).2.1
    have hmono := h1.2.2.2
    have hlt : pz_fr K w.2 < pz_fr K t ↔ w.2 < t := by
      constructor
      · intro q
        by_cases d : w.2 < t
        · exact d
        · by_cases d2 : w.2 = t
          · rw [d2] at q; omega
          · have := hmono t w.2 (by omega) w5; omega
      · exact fun q => hmono _ _ q ht.1
    have heq : pz_fr K t = pz_fr K w.2 ↔ t = w.2 := by
      constructor
      · intro q
        by_cases d : w.2 < t
        · have := hmono _ _ d ht.1; omega
        · by_cases d2 : t < w.2
          · have := hmono _ _ d2 w5; omega
          · omega
      · exact fun q => by rw [q]
    rw [if_neg (by rw [pj_0, pj_eq (by omega) (by omega)]; omega), w4]
    by_cases c1 : w.2 < t
    · rw [if_pos ((pj_lt (by omega) (by omega)).2 (by have := hlt.2 c1; omega)), if_pos ⟨c0, Or.inl c1⟩, pw_some]
      exact h
    · rw [if_neg (fun q => c1 (hlt.1 (by have := (pj_lt (by omega) (by omega)).1 q; omega)))]
      by_cases c2 : t = w.2
      · rw [if_pos ((pj_eq (by omega) (by omega)).2 (by have := heq.2 c2; omega))]
        by_cases c3 : n < w.1
        · rw [if_pos ((pj_lt (by omega) (by omega)).2 (by omega)), if_neg (fun q => by rcases q.2 with q | q <;> omega)]
          exact hJ
        · rw [if_neg (fun q => c3 (by have := (pj_lt (by omega) (by omega)).1 q; omega)), if_pos ⟨c0, Or.inr ⟨c2, by omega⟩⟩, pw_some]
          exact h
      · rw [if_neg (fun q => c2 (heq.1 (by have := (pj_eq (by omega) (by omega)).1 q; omega))), if_neg (fun q => by rcases q.2 with q | q <;> omega)]
        exact hJ
theorem py_boundedF {sd : Nat} {Z0 Z : zm_S} {n pl : Nat} (h : py_F sd Z0 n pl Z) (lo hi : Int32) : gm_bounded Z lo hi = some (lo, Z) := by
  unfold gm_bounded
  rw [pw_let, if_pos (py_F13 h).2, pm_failF h.2.1 h.2.2.1]; rfl
theorem py_bounded {b : Nat → Int} {K : List pz_T} {sd : Nat} {Z0 Z : zm_S} {X : pz_X} {w : Nat × Nat} {a : Nat} (h : py_S b K sd Z0 X w a Z) {lo hi : Nat} (hb : lo ≤ 10000 ∧ hi ≤ 10000) :
    pw (gm_bounded Z (pj lo) (pj hi)) (fun p => Sum.elim (fun q => py_F sd Z0 q.1 q.2 p.2) (fun r => p.1 = pj r.1 ∧ py_S b K sd Z0 X r.2.1 r.2.2 p.2 ∧ r.1 ≤ 9999) (pz_nu K lo hi w a)) := by
  obtain ⟨h1, h2, h3, h4, h5, h6, h7, h8, h9, cb, bb, h10, h11⟩ := id h
  have hn0 : ¬ 0 < Z.1 13 := by rw [h3]; decide
  unfold gm_bounded pz_nu pz_tk
  rw [pw_let, if_neg hn0, show (2 : Int32) = pj ((2 : Nat) : Int) from rfl, py_is h (by omega), Option.bind_some]
  by_cases c : pz_kd K a = 2
  · have e7 := (h1.1.2 a h6 h7).2.2 c
    have hv := (h1.1.1.2.1 a).2.2 c
    rw [if_pos c, decide_eq_true c, if_pos rfl, h4, pj_ald (by omega) (by omega), Int.toNat_natCast, Option.bind_some, e7, pw_let]
    have hmid : pw (if pj ((pz_vl K a : Nat) : Int) < pj lo then (gm_wrong Z 5 (pj a)).bind fun M8 => some M8 else if pj hi < pj ((pz_vl K a : Nat) : Int) then (gm_wrong Z 5 (pj a)).bind fun M8 => some M8 else some Z) (fun M => py_S b K sd Z0 X (if lo ≤ pz_vl K a ∧ pz_vl K a ≤ hi then w else pz_wr w 5 a) a M) := by
      have e1 : ∀ x : Option zm_S, (x.bind fun M5 => some M5) = x := fun x => by cases x <;> rfl
      rw [e1]
      have hwr := py_wr h (n := 5) (t := a) (by omega) ⟨h6, h7⟩
      by_cases d1 : pz_vl K a < lo
      · rw [if_pos ((pj_lt (by omega) (by omega)).2 (by omega)), if_neg (by omega)]; exact hwr
      · rw [if_neg (fun q => d1 (by have := (pj_lt (by omega) (by omega)).1 q; omega))]
        by_cases d2 : hi < pz_vl K a
        · rw [if_pos ((pj_lt (by omega) (by omega)).2 (by omega)), if_neg (by omega)]; exact hwr
        · rw [if_neg (fun q => d2 (by have := (pj_lt (by omega) (by omega)).1 q; omega)), if_pos (by omega), pw_some]; exact h
    refine pw_seq hmid (fun M hM => ?_)
    refine pw_seq (py_goes hM (by omega)) (fun M2 hM2 => (pw_some _ _).2 ?_)
    cases hp : pz_ps K a with
    | inl q => rw [hp] at hM2; exact hM2
    | inr e =>
      rw [hp] at hM2
      exact ⟨rfl, hM2.2, hv⟩
  · rw [if_neg c, decide_eq_false c, if_neg (by decide)]
    exact pw_seq (py_failS h 1 (Or.inl rfl)) (fun M hM => (pw_some _ _).2 hM)
/-! partial answers; what of the arrays a step leaves -/
def pa {α : Type} (o : Option α) (R : α → Prop) : Prop := ∀ a, o = some a → R a
theorem pa_bind {α β : Type} {x : Option α} {f : α → Option β} {P : α → Prop} {R : β → Prop} (h : pa x P) (g : ∀ a, P a → pa (f a) R) : pa (x.bind f) R := fun b hb => by
  obtain ⟨a, e1, e2⟩ := zs_bsome hb
  exact g a (h a e1) b e2
theorem pa_ite {α : Type} {c : Prop} [Decidable c] {x y : Option α} {R : α → Prop} (h : c → pa x R) (g : ¬ c → pa y R) : pa (if c then x else y) R := by
  by_cases d : c
  · rw [if_pos d]; exact h d
  · rw [if_neg d]; exact g d
theorem pa_some {α : Type} {a : α} {R : α → Prop} (h : R a) : pa (some a) R := fun b hb => by cases hb; exact h
theorem pa_any {α : Type} (x : Option α) : pa x (fun _ => True) := fun _ _ => trivial
theorem pa_loop {τ ρ : Type} {b : τ → Option (τ ⊕ ρ)} {I : τ → Prop} {Q : ρ → Prop} (step : ∀ t, I t → pa (b t) (Sum.elim I Q)) : ∀ n t, I t → pa (zs_loop n b t) Q
  | 0, _, _ => fun _ h => by cases h
  | n + 1, t, h => by
    show pa ((b t).bind fun s => Sum.elim (fun t' => zs_loop n b t') some s) Q
    refine pa_bind (step t h) (fun s hs => ?_)
    cases s with
    | inl t' => exact pa_loop step n t' hs
    | inr r => exact pa_some hs
theorem pw_pa {α : Type} {o : Option α} {Q R : α → Prop} (h : pw o Q) (g : pa o R) : pw o (fun a => Q a ∧ R a) := by
  obtain ⟨a, e, q⟩ := h
  exact ⟨a, e, q, g a e⟩
theorem pa_fail {Z0 Z : zm_S} (h : Z.2 = Z0.2) (k : Int32) : pa (gm_fail Z k) (fun Z' => Z'.2 = Z0.2) := by
  unfold gm_fail
  refine pa_ite (fun _ => pa_some h) (fun _ => ?_)
  rw [Option.bind_some]
  refine pa_bind (pa_any _) (fun x _ => ?_)
  rw [Option.bind_some]
  exact pa_some h
theorem pa_goes {Z0 Z : zm_S} (h : Z.2 = Z0.2) : pa (gm_goesOn Z) (fun Z' => Z'.2 = Z0.2) := by
  unfold gm_goesOn
  refine pa_ite (fun _ => pa_bind (pa_fail h _) (fun a ha => pa_some ha)) (fun _ => ?_)
  rw [Option.bind_some]
  exact pa_some h
theorem pa_must {Z0 Z : zm_S} (h : Z.2 = Z0.2) (k : Int32) : pa (gm_must Z k) (fun Z' => Z'.2 = Z0.2) := by
  unfold gm_must
  refine pa_bind (pa_any _) (fun b _ => ?_)
  exact pa_ite (fun _ => pa_bind (pa_goes h) (fun a ha => pa_some ha)) (fun _ => pa_bind (pa_fail h _) (fun a ha => pa_some ha))
theorem pa_wrong {Z0 Z : zm_S} (h : Z.2 = Z0.2) (k i : Int32) : pa (gm_wrong Z k i) (fun Z' => Z'.2 = Z0.2) := by
  unfold gm_wrong
  refine pa_bind (pa_any _) (fun x _ => ?_)
  refine pa_ite (fun _ => pa_some h) (fun _ => ?_)
  rw [pw_let]
  have hJ : pa ((some (zm_sF Z 15 k)).bind fun M3 => (some (zm_sF M3 16 x)).bind fun M4 => some M4) (fun Z' => Z'.2 = Z0.2) := by
    rw [Option.bind_some, Option.bind_some]; exact pa_some h
  refine pa_ite (fun _ => hJ) (fun _ => pa_ite (fun _ => pa_some h) (fun _ => pa_ite (fun _ => pa_ite (fun _ => hJ) (fun _ => pa_some h)) (fun _ => hJ)))
theorem pa_bounded {Z0 Z : zm_S} (h : Z.2 = Z0.2) (lo hi : Int32) : pa (gm_bounded Z lo hi) (fun p => p.2.2 = Z0.2) := by
  unfold gm_bounded
  rw [pw_let]
  have hJ : pa ((gm_fail Z 1).bind fun M2 => some (lo, M2)) (fun p => p.2.2 = Z0.2) := pa_bind (pa_fail h _) (fun a ha => pa_some ha)
  refine pa_ite (fun _ => hJ) (fun _ => pa_bind (pa_any _) (fun b _ => pa_ite (fun _ => ?_) (fun _ => hJ)))
  refine pa_bind (pa_any _) (fun x _ => ?_)
  rw [pw_let]
  have hK : pa ((gm_wrong Z 5 (Z.1 11)).bind fun M8 => some M8) (fun Z' => Z'.2 = Z0.2) := pa_bind (pa_wrong h _ _) (fun a ha => pa_some ha)
  refine pa_bind (P := fun Z' => Z'.2 = Z0.2) (pa_ite (fun _ => hK) (fun _ => pa_ite (fun _ => hK) (fun _ => pa_some h))) (fun a ha => ?_)
  exact pa_bind (pa_goes ha) (fun a ha => pa_some ha)
/-- a loop that looks for the first -/
theorem pz_floopA {α ρ : Type} {l : List α} {q : α → Bool} {bd : Int32 → Option (Int32 ⊕ ρ)} {R : Nat → ρ} {E : ρ} (h1 : ∀ k x, l[k]? = some x → bd (pj (k : Nat)) = some (if q x = true then Sum.inr (R k) else Sum.inl (pj ((k + 1 : Nat) : Int)))) (h2 : bd (pj (l.length : Nat)) = some (Sum.inr E)) :
    ∀ (r : List α) (k f : Nat), l.drop k = r → k + r.length = l.length → r.length < f → zs_loop f bd (pj (k : Nat)) = some (match r.findIdx? q with | some j => R (k + j) | none => E)
  | [], k, f, hr, hk, hf => by
    obtain ⟨f, rfl⟩ : ∃ g, f = g + 1 := ⟨f - 1, by omega⟩
    have : k = l.length := by simpa using hk
    subst this
    show ((bd (pj (l.length : Nat))).bind fun s => Sum.elim (fun t' => zs_loop f bd t') some s) = _
    rw [h2]; rfl
  | x :: r, k, f, hr, hk, hf => by
    obtain ⟨f, rfl⟩ : ∃ g, f = g + 1 := ⟨f - 1, by omega⟩
    have hx : l[k]? = some x := by
      have := congrArg (fun s => s[0]?) hr
      simpa using this
    have hr2 : l.drop (k + 1) = r := by
      rw [← List.tail_drop, hr]; rfl
    rw [List.length_cons] at hk hf
    show ((bd (pj (k : Nat))).bind fun s => Sum.elim (fun t' => zs_loop f bd t') some s) = _
    rw [h1 k x hx, Option.bind_some, List.findIdx?_cons]
    by_cases c : q x = true
    · rw [if_pos c, if_pos c]; rfl
    · rw [if_neg c, if_neg c, Sum.elim_inl, pz_floopA h1 h2 r (k + 1) f hr2 (by omega) (by omega)]
      cases r.findIdx? q with
      | none => rfl
      | some j =>
        show some (R (k + 1 + j)) = some (R (k + (j + 1)))
        rw [show k + 1 + j = k + (j + 1) by omega]
theorem pz_floop {α ρ : Type} {l : List α} {q : α → Bool} {bd : Int32 → Option (Int32 ⊕ ρ)} {R : Nat → ρ} {E : ρ} {f : Nat} (h1 : ∀ k x, l[k]? = some x → bd (pj (k : Nat)) = some (if q x = true then Sum.inr (R k) else Sum.inl (pj ((k + 1 : Nat) : Int)))) (h2 : bd (pj (l.length : Nat)) = some (Sum.inr E)) (hf : l.length < f) :
    zs_loop f bd 0 = some (match l.findIdx? q with | some j => R j | none => E) := by
  have := pz_floopA h1 h2 l 0 f rfl (by omega) hf
  simp only [Nat.zero_add] at this
  exact this
/-! houses that are known, by the model -/
def pz_oi (o : Option Nat) : Int := match o with | some k => (k : Nat) | none => -1
theorem pz_ix_lt {hs : List (List Nat × Nat × Nat)} {s : List Nat} {k : Nat} (h : pz_ix hs s = some k) : k < hs.length := by
  unfold pz_ix at h
  rw [List.findIdx?_eq_some_iff_getElem] at h
  exact h.1
theorem py_F_must {sd : Nat} {Z0 Z : zm_S} {n pl : Nat} (h : py_F sd Z0 n pl Z) (k : Int32) : gm_must Z k = some Z := px_mustF h.2.1 h.2.2.1 k
theorem py_knownF {sd : Nat} {Z0 Z : zm_S} {n pl : Nat} (h : py_F sd Z0 n pl Z) : gm_known Z = some (-1, Z) := by
  unfold gm_known
  rw [Option.bind_some, py_F_must h, Option.bind_some, if_pos (py_F13 h).2]
theorem py_nameEq {b : Nat → Int} {K : List pz_T} {sd : Nat} {Z0 Z : zm_S} {X : pz_X} {w : Nat × Nat} {a e : Nat} (h : py_S b K sd Z0 X w e Z) (ha : a < K.length) (h4 : a ≤ 400) (hk : pz_kd K a = 1) {k : Nat} {x : List Nat × Nat × Nat} (hx : X.1[k]? = some x) : (Z.2.2 21 k = Z.2.2 8 a) ↔ ((x.1 == pz_nm b K a) = true) := by
  obtain ⟨h1, h2, h3, h4', h5, h6, h7, h8, h9, cb, bb, h10, d1, d2, d3, d4, d5, d6, d7, d8, d9, d10⟩ := h
  obtain ⟨e1, e2, e3, e4, e5⟩ := d9 k x hx
  obtain ⟨f1, f2⟩ := h1.2.2.1 a hk
  rw [e3, h1.2.1 a ha h4 hk, pz_key_inj e4 f1 e5 f2]
  exact ⟨fun q => by rw [q]; exact beq_self_eq_true _, fun q => by simpa using q⟩
theorem py_known {b : Nat → Int} {K : List pz_T} {sd : Nat} {Z0 Z : zm_S} {X : pz_X} {w : Nat × Nat} {a : Nat} (h : py_S b K sd Z0 X w a Z) :
    pw (gm_known Z) (fun p => Sum.elim (fun q => p.1 = -1 ∧ py_F sd Z0 q.1 q.2 p.2) (fun r => p.1 = pj (pz_oi r.1) ∧ py_S b K sd Z0 X r.2.1 r.2.2 p.2) (pz_kn b K X.1 w a)) := by
  have h11 := h.2.2.2.1
  have ha := h.2.2.2.2.2.1
  have h4 := h.2.2.2.2.2.2.1
  unfold gm_known pz_kn
  rw [Option.bind_some, h11]
  refine pw_seq (py_must h (k := 1) (by omega) (by omega)) (fun M hM => ?_)
  cases hp : pz_tk K 1 a with
  | inl q =>
    rw [hp] at hM
    have hM : py_F sd Z0 q.1 q.2 M := hM
    rw [if_pos (py_F13 hM).2, pw_some]
    exact ⟨rfl, hM⟩
  | inr e =>
    rw [hp] at hM
    obtain ⟨rfl, hM⟩ := hM
    have hk : pz_kd K a = 1 := by
      unfold pz_tk at hp
      split at hp
      · assumption
      · cases hp
    obtain ⟨-, -, g13, -, -, g6, g7, -, -, cb, bb, -, d1, d2, d3, -⟩ := id hM
    have hn0 : ¬ 0 < M.1 13 := by rw [g13]; decide
    rw [if_neg hn0]
    have hloop := pz_floop (f := 5000) (l := X.1) (q := fun h => h.1 == pz_nm b K a) (bd := gm_known_L21 M (pj (a : Nat))) (R := fun j => (Sum.inr (pj (j : Nat), M) : Unit ⊕ (Int32 × zm_S))) (E := Sum.inl ()) (fun k x hx => ?_) ?_ (by omega)
    · rw [hloop]
      show pw _ (fun p => Sum.elim _ _ (Sum.inr (pz_ix X.1 (pz_nm b K a), _, a + 1)))
      unfold pz_ix
      cases hf : X.1.findIdx? (fun h => h.1 == pz_nm b K a) with
      | some j =>
        rw [Option.bind_some, Sum.elim_inr, pw_some]
        exact ⟨rfl, hM⟩
      | none =>
        rw [Option.bind_some, Sum.elim_inl]
        refine pw_seq (py_wr hM (n := 4) (t := a) (by omega) ⟨ha, h4⟩) (fun M2 h2 => (pw_some _ _).2 ⟨rfl, h2⟩)
    · have hlt := (List.getElem?_eq_some_iff.1 hx).1
      have hlt' : pj (k : Nat) < pj (X.1.length : Nat) := (pj_lt (by omega) (by omega)).2 (by omega)
      have heq := py_nameEq hM ha h4 hk hx
      unfold gm_known_L21
      rw [d2, if_pos hlt', pj_ald (by omega) (by omega), Int.toNat_natCast, Option.bind_some, pj_ald (by omega) (by omega), Int.toNat_natCast, Option.bind_some]
      by_cases c : (x.1 == pz_nm b K a) = true
      · rw [if_pos (heq.2 c), if_pos c]
      · rw [if_neg (fun q => c (heq.1 q)), if_neg c, pj_1, pj_add]; rfl
    · unfold gm_known_L21
      rw [d2, if_neg (by rw [pj_lt (by omega) (by omega)]; omega)]
/-! houses told, by the model -/
theorem py_F_A {sd : Nat} {Z0 Z : zm_S} {n pl k i s : Nat} (h : py_F sd Z0 n pl Z) (hsd : sd < 2) (x : Int32) (hs : py_sz k = s) (hi : s * sd ≤ i ∧ i < s * sd + s) (hi2 : i < 5000) : py_F sd Z0 n pl (zm_sA Z k (pj (i : Nat)) x) := ⟨py_M_trans h.1 (py_M_A hsd x hs hi hi2), h.2.1, h.2.2.1, h.2.2.2⟩
theorem py_ok_A {b : Nat → Int} {K : List pz_T} {Z : zm_S} (h : py_ok b K Z) (k : Nat) (hk : k ≠ 5 ∧ k ≠ 6 ∧ k ≠ 7) (i x : Int32) : py_ok b K (zm_sA Z k i x) := by
  refine ⟨⟨h.1.1, fun a h1 h2 => ?_⟩, h.2.1, h.2.2⟩
  rw [pm_sAn (by omega), pm_sAn (by omega), pm_sAn (by omega)]
  exact h.1.2 a h1 h2
theorem py_S_A {b : Nat → Int} {K : List pz_T} {sd : Nat} {Z0 Z : zm_S} {X : pz_X} {w : Nat × Nat} {a : Nat} (h : py_S b K sd Z0 X w a Z) {k : Nat} (hk : k = 23 ∨ k = 24) (hl : X.1.length < 6) (x : Int32) : py_S b K sd Z0 X w a (zm_sA Z k (pj ((6 * sd + X.1.length : Nat) : Int)) x) := by
  obtain ⟨h1, h2, h3, h4, h5, h6, h7, h8, h9, cb, bb, h10, d1, d2, d3, d4, d5, d6, d7, d8, d9, d10, d11, d12, d13, d14, d15⟩ := h
  have hs : py_sz k = 6 := by rcases hk with rfl | rfl <;> rfl
  refine ⟨py_ok_A h1 k (by omega) _ _, py_M_trans h2 (py_M_A h8 x hs (by omega) (by omega)), h3, h4, h5, h6, h7, h8, h9, cb, bb, h10, d1, d2, d3, d4, d5, d6, ?_, ?_, fun j q hj => ?_, fun p q hp hq => ?_, ?_, ?_, ?_, ?_, fun j hj => py_lw_fr (fun j hj => pm_sAn (by omega)) (d15 j hj)⟩
  · rw [pm_sAn (by omega)]; exact d7
  · rw [pm_sAn (by omega)]; exact d8
  · have hlt := (List.getElem?_eq_some_iff.1 hj).1
    obtain ⟨e1, e2, e3⟩ := d9 j q hj
    refine ⟨?_, ?_, e3⟩
    · rw [pm_sA, pj_nat (by omega), Int.toNat_natCast]
      split
      · subst k; rw [pj_upd, if_neg (by omega)]; exact e1
      · exact e1
    · rw [pm_sA, pj_nat (by omega), Int.toNat_natCast]
      split
      · subst k; rw [pj_upd, if_neg (by omega)]; exact e2
      · exact e2
  · rw [pm_sAn (by omega)]; exact d10 p q hp hq
  · rw [pm_sAn (by omega)]; exact d11
  · rw [pm_sAn (by omega)]; exact d12
  · rw [pm_sAn (by omega)]; exact d13
  · rw [pm_sAn (by omega)]; exact d14
theorem pz_wr_wr (w : Nat × Nat) {n t : Nat} (hn : n ≠ 0) : pz_wr (pz_wr w n t) n t = pz_wr w n t := by
  unfold pz_wr
  by_cases c : w.1 ≠ 0 ∧ (w.2 < t ∨ t = w.2 ∧ w.1 ≤ n)
  · rw [if_pos c, if_pos c]
  · rw [if_neg c, if_pos ⟨hn, Or.inr ⟨rfl, Nat.le_refl _⟩⟩]
theorem py_hLF {sd : Nat} {Z0 Z : zm_S} {n pl : Nat} (h : py_F sd Z0 n pl Z) (x : Int32) : zs_loop 5000 (gm_tellHouse_L30 x) (0, Z) = some Z := by
  show ((gm_tellHouse_L30 x (0, Z)).bind fun s => Sum.elim (fun t' => zs_loop 4999 (gm_tellHouse_L30 x) t') some s) = _
  have : gm_tellHouse_L30 x (0, Z) = some (Sum.inr Z) := by
    unfold gm_tellHouse_L30
    by_cases c : (0 : Int32) < Z.1 20
    · rw [if_pos c, if_neg (py_F13 h).1]
    · rw [if_neg c]
  rw [this]; rfl
theorem py_hL {b : Nat → Int} {K : List pz_T} {sd : Nat} {Z0 Z : zm_S} {X : pz_X} {w : Nat × Nat} {a e : Nat} (h : py_S b K sd Z0 X w e Z) (ha : a < K.length) (h4 : a ≤ 400) (hk : pz_kd K a = 1) :
    pw (zs_loop 5000 (gm_tellHouse_L30 (pj (a : Nat))) (0, Z)) (fun M => py_S b K sd Z0 X (if (pz_ix X.1 (pz_nm b K a)).isSome = true then pz_wr w 3 a else w) e M ∧ M.2 = Z.2) := by
  have hany : (pz_ix X.1 (pz_nm b K a)).isSome = (X.1.take X.1.length).any (fun h => h.1 == pz_nm b K a) := by
    rw [List.take_length]
    exact List.findIdx?_isSome
  have hlen : X.1.length ≤ 6 := by
    obtain ⟨-, -, -, -, -, -, -, -, -, cb, bb, -, -, -, d3, -⟩ := h
    exact d3
  rw [hany]
  refine pw_for X.1.length (fun k t => ∃ M, t = (pj (k : Nat), M) ∧ py_S b K sd Z0 X (if (X.1.take k).any (fun h => h.1 == pz_nm b K a) = true then pz_wr w 3 a else w) e M ∧ M.2 = Z.2) 5000 (by omega) ?_ ?_ (0, Z) ⟨Z, rfl, h, rfl⟩
  · rintro k t hlt ⟨M, rfl, hM, hM2⟩
    obtain ⟨-, -, g13, -, -, -, -, -, -, cb, bb, -, d1, d2, d3, -⟩ := id hM
    have hx : X.1[k]? = some X.1[k] := List.getElem?_eq_getElem hlt
    have heq := py_nameEq hM ha h4 hk hx
    have htk : (X.1.take (k + 1)).any (fun h => h.1 == pz_nm b K a) = ((X.1.take k).any (fun h => h.1 == pz_nm b K a) || (X.1[k].1 == pz_nm b K a)) := by
      rw [List.take_succ_eq_append_getElem hlt, List.any_append]
      simp
    have hlt' : pj (k : Nat) < pj (X.1.length : Nat) := (pj_lt (by omega) (by omega)).2 (by omega)
    have e1 : pj (k : Nat) + 1 = pj ((k + 1 : Nat) : Int) := by rw [pj_1, pj_add]; rfl
    unfold gm_tellHouse_L30
    dsimp only
    rw [d2, if_pos hlt', if_pos g13, pj_ald (by omega) (by omega), Int.toNat_natCast, Option.bind_some, pj_ald (by omega) (by omega), Int.toNat_natCast, Option.bind_some, e1]
    by_cases c : (X.1[k].1 == pz_nm b K a) = true
    · rw [if_pos (heq.2 c)]
      refine pw_seq (pw_pa (py_wr hM (n := 3) (t := a) (by omega) ⟨ha, h4⟩) (pa_wrong hM2 _ _)) (fun M2 h2 => (pw_some _ _).2 ⟨M2, rfl, ?_, h2.2⟩)
      rw [htk, c, Bool.or_true, if_pos rfl]
      have := h2.1
      by_cases d : (X.1.take k).any (fun h => h.1 == pz_nm b K a) = true
      · rw [if_pos d, pz_wr_wr w (by omega)] at this; exact this
      · rw [if_neg d] at this; exact this
    · rw [if_neg (fun q => c (heq.1 q)), pw_some]
      refine ⟨M, rfl, ?_, hM2⟩
      have c' : (X.1[k].1 == pz_nm b K a) = false := by simpa using c
      rw [htk, c', Bool.or_false]
      exact hM
  · rintro t ⟨M, rfl, hM, hM2⟩
    obtain ⟨-, -, g13, -, -, -, -, -, -, cb, bb, -, d1, d2, d3, -⟩ := id hM
    unfold gm_tellHouse_L30
    dsimp only
    rw [d2, if_neg (by rw [pj_lt (by omega) (by omega)]; omega), pw_some]
    exact ⟨hM, hM2⟩
/-- behind the name -/
def py_h1 (sd len : Nat) (a : Nat) (M12 : zm_S) : Option zm_S := (gm_must M12 4).bind fun M13 =>
  if 0 < (M13.1 13) then (some M13)
  else ((zs_ald 403 (M13.2.2 8) (pj (a : Nat))).bind fun l14 =>
  (zs_ast 6 (M13.1 20) (zm_sL M13 21 (M13.1 20) l14)).bind fun M15 =>
  (some (zm_sF M15 20 ((M15.1 20) + 1))).bind fun M16 =>
  (zs_ald 2 (M16.2.1 22) (M16.1 19)).bind fun x17 =>
  (zs_ast 2 (M16.1 19) (zm_sA M16 22 (M16.1 19) (x17 + 1))).bind fun M18 =>
  some M18)
def py_h2 (x2 : Int32) (sd len : Nat) (a : Nat) (p : Int32 × zm_S) : Option zm_S := (zs_ast 12 x2 (zm_sA p.2 24 x2 p.1)).bind (py_h1 sd len a)
def py_h3 (x2 : Int32) (sd len : Nat) (a : Nat) (p : Int32 × zm_S) : Option zm_S := (zs_ast 12 x2 (zm_sA p.2 23 x2 p.1)).bind fun M10 => (gm_bounded M10 1 99).bind (py_h2 x2 sd len a)
theorem py_h1F {sd len a : Nat} {Z0 Z : zm_S} {n pl : Nat} (h : py_F sd Z0 n pl Z) : pw (py_h1 sd len a Z) (fun M => py_F sd Z0 n pl M) := by
  unfold py_h1
  rw [py_F_must h, Option.bind_some, if_pos (py_F13 h).2, pw_some]
  exact h
theorem py_h2F {sd len a : Nat} {Z0 Z : zm_S} {n pl : Nat} (hsd : sd < 2) (hl : len < 6) (h : py_F sd Z0 n pl Z) (x : Int32) : pw (py_h2 (pj ((6 * sd + len : Nat) : Int)) sd len a (x, Z)) (fun M => py_F sd Z0 n pl M) := by
  unfold py_h2
  rw [pj_ast (by omega) (by omega), Option.bind_some]
  exact py_h1F (py_F_A h hsd x (s := 6) rfl (by omega) (by omega))
theorem py_h3F {sd len a : Nat} {Z0 Z : zm_S} {n pl : Nat} (hsd : sd < 2) (hl : len < 6) (h : py_F sd Z0 n pl Z) (x : Int32) : pw (py_h3 (pj ((6 * sd + len : Nat) : Int)) sd len a (x, Z)) (fun M => py_F sd Z0 n pl M) := by
  unfold py_h3
  have h2 := py_F_A h hsd x (k := 23) (i := 6 * sd + len) (s := 6) rfl (by omega) (by omega)
  rw [pj_ast (by omega) (by omega), Option.bind_some, py_boundedF h2, Option.bind_some]
  exact py_h2F hsd hl h2 1
theorem py_h1S {b : Nat → Int} {K : List pz_T} {sd : Nat} {Z0 Z : zm_S} {X : pz_X} {w : Nat × Nat} {a e v1 v2 : Nat} (h : py_S b K sd Z0 X w e Z) (hl : X.1.length < 6) (ha : a < K.length) (h4 : a ≤ 400) (hk : pz_kd K a = 1) (h23 : Z.2.1 23 (6 * sd + X.1.length) = pj v1) (h24 : Z.2.1 24 (6 * sd + X.1.length) = pj v2) :
    pw (py_h1 sd X.1.length a Z) (fun M => Sum.elim (fun q => py_F sd Z0 q.1 q.2 M) (fun r => py_S b K sd Z0 r.1 r.2.1 r.2.2 M) (pz_sc K ((X.1 ++ [(pz_nm b K a, v1, v2)], X.2), w, e))) := by
  unfold py_h1 pz_sc
  refine pw_seq (pw_pa (py_must h (k := 4) (by omega) (by omega)) (pa_must rfl _)) (fun M hM => ?_)
  dsimp only
  obtain ⟨hM, hM2⟩ := hM
  cases hp : pz_tk K 4 e with
  | inl q =>
    rw [hp] at hM
    have hM : py_F sd Z0 q.1 q.2 M := hM
    rw [if_pos (py_F13 hM).2, pw_some]
    exact hM
  | inr e2 =>
    rw [hp] at hM
    obtain ⟨rfl, hM⟩ := hM
    obtain ⟨g1, g2, g3, g4, g5, g6, g7, g8, g9, cb, bb, g10, d1, d2, d3, d4, d5, d6, d7, d8, d9, d10, d11, d12, d13, d14, d15⟩ := hM
    have hn0 : ¬ 0 < M.1 13 := by rw [g3]; decide
    have f1 : ∀ (A : zm_S) k i x, (zm_sL A k i x).1 = A.1 := fun _ _ _ _ => rfl
    have f2 : ∀ (A : zm_S) k i x, (zm_sL A k i x).2.1 = A.2.1 := fun _ _ _ _ => rfl
    have f3 : ∀ (A : zm_S) k x, (zm_sF A k x).2 = A.2 := fun _ _ _ => rfl
    rw [if_neg hn0, pj_ald (by omega) (by omega), Int.toNat_natCast, Option.bind_some, d2, pj_ast (by omega) (by omega), Option.bind_some, Option.bind_some, f1, d2, f3, zm_sFn (by decide), f1, d1, pj_ald (by omega) (by omega), Int.toNat_natCast, Option.bind_some, pj_ast (by omega) (by omega), Option.bind_some, pw_some, f2, d7, pj_1, pj_add]
    have hlen : ((X.1 ++ [(pz_nm b K a, v1, v2)]).length : Nat) = X.1.length + 1 := by rw [List.length_append]; rfl
    have hn1 : ((X.1.length : Nat) : Int) + 1 = ((X.1.length + 1 : Nat) : Int) := by omega
    rw [hn1]
    generalize hgen : zm_sF (zm_sL M 21 (pj (X.1.length : Nat)) (M.2.2 8 a)) 20 (pj ((X.1.length + 1 : Nat) : Int)) = M16
    have k1 : ∀ j, j ≠ 20 → M16.1 j = M.1 j := fun j hj => by rw [← hgen, zm_sFn hj]; rfl
    have k20 : M16.1 20 = pj ((X.1.length + 1 : Nat) : Int) := by rw [← hgen, zm_sFs]
    have k2 : M16.2.1 = M.2.1 := by rw [← hgen]; rfl
    have k3 : ∀ j, j ≠ 21 → M16.2.2 j = M.2.2 j := fun j hj => by rw [← hgen]; exact if_neg hj
    have k4 : ∀ j, M16.2.2 21 j = if j = X.1.length then M.2.2 8 a else M.2.2 21 j := fun j => by
      rw [← hgen]
      show (if 21 = 21 then vp_updL (M.2.2 21) (pj (X.1.length : Nat)).toNatClampNeg (M.2.2 8 a) else M.2.2 21) j = _
      rw [if_pos rfl, pj_nat (by omega), Int.toNat_natCast]; rfl
    have m1 : (zm_sA M16 22 (pj sd) (pj ((X.1.length + 1 : Nat) : Int))).1 = M16.1 := rfl
    have m2 : (zm_sA M16 22 (pj sd) (pj ((X.1.length + 1 : Nat) : Int))).2.2 = M16.2.2 := rfl
    have m3 : ∀ j, j ≠ 22 → (zm_sA M16 22 (pj sd) (pj ((X.1.length + 1 : Nat) : Int))).2.1 j = M.2.1 j := fun j hj => by rw [pm_sAn hj, k2]
    have m4 : (zm_sA M16 22 (pj sd) (pj ((X.1.length + 1 : Nat) : Int))).2.1 22 sd = pj ((X.1.length + 1 : Nat) : Int) := by rw [pm_sA, if_pos rfl, pj_nat (by omega), Int.toNat_natCast, pj_upd, if_pos rfl]
    have hMM : py_M sd M (zm_sA M16 22 (pj sd) (pj ((X.1.length + 1 : Nat) : Int))) := by
      refine py_M_trans (B := M16) ⟨fun j hj => k1 j (by omega), fun j _ _ => by rw [k2], fun j i _ => by rw [k2], fun j h8 h21 => k3 j h21⟩ (py_M_A g8 _ (s := 1) rfl (by omega) (by omega))
    generalize zm_sA M16 22 (pj sd) (pj ((X.1.length + 1 : Nat) : Int)) = M18 at m1 m2 m3 m4 hMM
    refine ⟨⟨⟨g1.1.1, fun j h1 h2 => ?_⟩, fun j h1 h2 h3 => ?_, g1.2.2⟩, py_M_trans g2 hMM, ?_, ?_, ?_, g6, g7, g8, ⟨g9.1, ?_, fun q => ?_⟩, cb, bb, g10, ?_, ?_, ?_, d4, ?_, ?_, ?_, ?_, fun j q hj => ?_, fun p q hp hq => ?_, ?_, ?_, ?_, ?_, fun j hj => py_lw_fr (fun j hj => m3 j (by omega)) (d15 j hj)⟩
    · rw [m3 5 (by omega), m3 6 (by omega), m3 7 (by omega)]; exact g1.1.2 j h1 h2
    · rw [m2, k3 8 (by omega)]; exact g1.2.1 j h1 h2 h3
    · rw [m1, k1 13 (by omega)]; exact g3
    · rw [m1, k1 11 (by omega)]; exact g4
    · rw [m1, k1 12 (by omega)]; exact g5
    · rw [m1, k1 15 (by omega)]; exact g9.2.1
    · rw [m1, k1 16 (by omega)]; exact g9.2.2 q
    · rw [m1, k1 19 (by omega)]; exact d1
    · rw [m1, k20, hlen]
    · rw [hlen]; omega
    · rw [m1, k1 33 (by omega)]; exact d5
    · rw [m1, k1 39 (by omega)]; exact d6
    · rw [m4, hlen]
    · rw [m3 25 (by omega)]; exact d8
    · rw [m3 23 (by omega), m3 24 (by omega), m2, k4]
      rcases pz_app_get hj with ⟨q1, q2⟩ | ⟨q1, q2⟩
      · rw [if_neg (by omega)]; exact d9 j q q2
      · rw [if_pos q1, q1, q2, hM2, h23, h24]
        rw [← hM2]
        obtain ⟨f1, f2⟩ := g1.2.2.1 a hk
        exact ⟨rfl, rfl, g1.2.1 a ha h4 hk, f1, f2⟩
    · rw [m3 26 (by omega)]; exact d10 p q hp hq
    · rw [m3 27 (by omega)]; exact d11
    · rw [m3 28 (by omega)]; exact d12
    · rw [m3 29 (by omega)]; exact d13
    · rw [m3 30 (by omega)]; exact d14
/-! houses, likings, numbers told, by the model -/
theorem pz_tk_inr {K : List pz_T} {k a e : Nat} (h : pz_tk K k a = Sum.inr e) : pz_kd K a = k ∧ e = a + 1 ∧ a < 400 := by
  unfold pz_tk at h
  split at h
  · exact ⟨by assumption, pz_ps_inr h⟩
  · cases h
theorem pz_bd_assoc {α β γ : Type} (x : pz_R α) (f : α → pz_R β) (g : β → pz_R γ) : pz_bd (pz_bd x f) g = pz_bd x (fun a => pz_bd (f a) g) := by
  cases x <;> rfl
theorem py_tellHouse {b : Nat → Int} {K : List pz_T} {sd : Nat} {Z0 Z : zm_S} {X : pz_X} {w : Nat × Nat} {a : Nat} (h : py_S b K sd Z0 X w a Z) (hl : X.1.length < 6) :
    pw (gm_tellHouse Z) (fun M => Sum.elim (fun q => py_F sd Z0 q.1 q.2 M) (fun r => py_S b K sd Z0 r.1 r.2.1 r.2.2 M) (pz_bd (pz_ho b K X w a) (pz_sc K))) := by
  obtain ⟨h1, h2, h3, h4, h5, h6, h7, h8, h9, cb, bb, h10, d1, d2, d3, d4, d5, d6, d7, -⟩ := id h
  have hx2 : 6 * pj (sd : Nat) + pj (X.1.length : Nat) = pj ((6 * sd + X.1.length : Nat) : Int) := by
    rw [show (6 : Int32) = pj 6 from rfl, pj_mul, pj_add]; congr 1
  have hgm : gm_tellHouse Z = (gm_must Z (pj (1 : Nat))).bind fun M4 => (zs_loop 5000 (gm_tellHouse_L30 (pj (a : Nat))) (0, M4)).bind fun r8 => (gm_bounded r8 (pj (0 : Nat)) (pj (20 : Nat))).bind (py_h3 (pj ((6 * sd + X.1.length : Nat) : Int)) sd X.1.length a) := by
    unfold gm_tellHouse
    rw [d1, pj_ald (by omega) (by omega), Int.toNat_natCast, Option.bind_some, d7, hx2, Option.bind_some, h4, Option.bind_some]
    rfl
  rw [hgm]
  unfold pz_ho
  rw [pz_bd_assoc]
  refine pw_seq (py_must h (k := 1) (by omega) (by omega)) (fun M hM => ?_)
  cases hp : pz_tk K 1 a with
  | inl q =>
    rw [hp] at hM
    have hM : py_F sd Z0 q.1 q.2 M := hM
    rw [py_hLF hM, Option.bind_some, py_boundedF hM, Option.bind_some]
    exact py_h3F h8 hl hM _
  | inr e =>
    rw [hp] at hM
    obtain ⟨rfl, hM⟩ := hM
    obtain ⟨hk, -, -⟩ := pz_tk_inr hp
    refine pw_seq (py_hL hM h6 h7 hk) (fun M1 h1' => ?_)
    obtain ⟨hM1, -⟩ := h1'
    refine pw_seq (pw_pa (py_bounded hM1 (lo := 0) (hi := 20) (by omega)) (pa_bounded rfl _ _)) (fun p hp1 => ?_)
    obtain ⟨hp1, -⟩ := hp1
    change pw (py_h3 _ sd X.1.length a p) (fun M => Sum.elim _ _ (pz_bd (pz_bd (pz_nu K 0 20 _ (a + 1)) _) (pz_sc K)))
    rw [pz_bd_assoc]
    generalize (if (pz_ix X.1 (pz_nm b K a)).isSome = true then pz_wr w 3 a else w) = w1 at hp1
    cases hn1 : pz_nu K 0 20 w1 (a + 1) with
    | inl q =>
      rw [hn1] at hp1
      exact py_h3F h8 hl hp1 p.1
    | inr r1 =>
      rw [hn1] at hp1
      obtain ⟨e1, e2, e3⟩ := hp1
      have hS2 := py_S_A (k := 23) e2 (Or.inl rfl) hl p.1
      show pw (py_h3 _ sd X.1.length a p) (fun M => Sum.elim _ _ (pz_bd (pz_bd (pz_nu K 1 99 r1.2.1 r1.2.2) _) (pz_sc K)))
      rw [pz_bd_assoc]
      unfold py_h3
      rw [pj_ast (by omega) (by omega), Option.bind_some, show (1 : Int32) = pj ((1 : Nat) : Int) from rfl, show (99 : Int32) = pj ((99 : Nat) : Int) from rfl]
      have c23 : (zm_sA p.2 23 (pj ((6 * sd + X.1.length : Nat) : Int)) p.1).2.1 23 (6 * sd + X.1.length) = p.1 := by rw [pm_sA, if_pos rfl, pj_nat (by omega), Int.toNat_natCast, pj_upd, if_pos rfl]
      generalize zm_sA p.2 23 (pj ((6 * sd + X.1.length : Nat) : Int)) p.1 = M10 at hS2 c23
      refine pw_seq (pw_pa (py_bounded hS2 (lo := 1) (hi := 99) (by omega)) (pa_bounded (Z0 := M10) rfl _ _)) (fun p2 hp2 => ?_)
      obtain ⟨hp2, hp3⟩ := hp2
      cases hn2 : pz_nu K 1 99 r1.2.1 r1.2.2 with
      | inl q =>
        rw [hn2] at hp2
        exact py_h2F h8 hl hp2 p2.1
      | inr r2 =>
        rw [hn2] at hp2
        obtain ⟨f1, f2, f3⟩ := hp2
        have hS3 := py_S_A (k := 24) f2 (Or.inr rfl) hl p2.1
        unfold py_h2
        rw [pj_ast (by omega) (by omega), Option.bind_some]
        refine py_h1S (v1 := r1.1) (v2 := r2.1) hS3 hl h6 h7 hk ?_ ?_
        · rw [pm_sAn (by omega), hp3, c23, e1]
        · rw [pm_sA, if_pos rfl, pj_nat (by omega), Int.toNat_natCast, pj_upd, if_pos rfl, f1]
/-- cells of the side -/
theorem py_S_W {b : Nat → Int} {K : List pz_T} {sd : Nat} {Z0 Z : zm_S} {X X' : pz_X} {w : Nat × Nat} {a : Nat} (h : py_S b K sd Z0 X w a Z) {k i s : Nat} (x : Int32) (hk : 25 ≤ k ∧ k ≤ 30) (hs : py_sz k = s) (hi : s * sd ≤ i ∧ i < s * sd + s) (hi2 : i < 5000)
    (h1 : X'.1 = X.1) (h2 : X'.2.1 ≤ 20) (h25 : (if k = 25 ∧ sd = i then x else pj X.2.1) = pj X'.2.1) (h26 : ∀ p q, p < 6 → q < 6 → (if k = 26 ∧ 36 * sd + 6 * p + q = i then x else pj (X.2.2.1 p q)) = pj (X'.2.2.1 p q))
    (h27 : ∀ j, 27 ≤ j → j ≤ 30 → (if k = j ∧ sd = i then x else pj (X.2.2.2.1 (j - 23))) = pj (X'.2.2.2.1 (j - 23))) (hL : X'.2.2.2.2 = X.2.2.2.2) : py_S b K sd Z0 X' w a (zm_sA Z k (pj (i : Nat)) x) := by
  obtain ⟨g1, g2, g3, g4, g5, g6, g7, g8, g9, cb, bb, g10, d1, d2, d3, d4, d5, d6, d7, d8, d9, d10, d11, d12, d13, d14, d15⟩ := h
  have e : ∀ j m, (zm_sA Z k (pj (i : Nat)) x).2.1 j m = if k = j ∧ m = i then x else Z.2.1 j m := fun j m => by
    rw [pm_sA, pj_nat (by omega), Int.toNat_natCast]
    by_cases c : j = k
    · subst c; rw [if_pos rfl, pj_upd]; simp
    · rw [if_neg c, if_neg (fun q => c q.1.symm)]
  refine ⟨py_ok_A g1 k (by omega) _ _, py_M_trans g2 (py_M_A g8 x hs hi hi2), g3, g4, g5, g6, g7, g8, g9, cb, bb, g10, d1, ?_, ?_, h2, d5, d6, ?_, ?_, fun j q hj => ?_, fun p q hp hq => ?_, ?_, ?_, ?_, ?_, fun j hj => ?_⟩
  · rw [h1]; exact d2
  · rw [h1]; exact d3
  · rw [h1, pm_sAn (by omega)]; exact d7
  · rw [e, d8]; exact h25
  · rw [h1] at hj
    rw [pm_sAn (by omega), pm_sAn (by omega)]
    exact d9 j q hj
  · rw [e, d10 p q hp hq]; exact h26 p q hp hq
  · rw [e, d11]; exact h27 27 (by omega) (by omega)
  · rw [e, d12]; exact h27 28 (by omega) (by omega)
  · rw [e, d13]; exact h27 29 (by omega) (by omega)
  · rw [e, d14]; exact h27 30 (by omega) (by omega)
  · rw [hL]; exact py_lw_fr (fun j hj => pm_sAn (by omega)) (d15 j hj)
/-- behind the names of a liking -/
def py_l1 (x y : Int32) (p5 : Int32 × zm_S) : Option zm_S := (gm_must p5.2 4).bind fun M6 =>
  if 0 < (M6.1 13) then (some M6)
  else ((zs_ald 2 (M6.2.1 25) (M6.1 19)).bind fun x7 =>
  (zs_ast 2 (M6.1 19) (zm_sA M6 25 (M6.1 19) (x7 + 1))).bind fun M8 =>
  if x < 0 then (some M8)
  else (if y < 0 then (some M8)
  else ((some (((36 * (M8.1 19)) + (6 * x)) + y)).bind fun x9 =>
  (zs_ast 72 x9 (zm_sA M8 26 x9 p5.1)).bind fun M10 =>
  (some (((36 * (M10.1 19)) + (6 * y)) + x)).bind fun x11 =>
  (zs_ast 72 x11 (zm_sA M10 26 x11 p5.1)).bind fun M12 =>
  some M12)))
theorem py_l1F {sd : Nat} {Z0 : zm_S} {n pl : Nat} {p : Int32 × zm_S} (h : py_F sd Z0 n pl p.2) (x y : Int32) : pw (py_l1 x y p) (fun M => py_F sd Z0 n pl M) := by
  unfold py_l1
  rw [py_F_must h, Option.bind_some, if_pos (py_F13 h).2, pw_some]
  exact h
theorem py_l1S {b : Nat → Int} {K : List pz_T} {sd : Nat} {Z0 : zm_S} {X : pz_X} {w : Nat × Nat} {e v : Nat} {p : Int32 × zm_S} (h : py_S b K sd Z0 X w e p.2) (hl : X.2.1 < 20) {x y : Option Nat} (hx : ∀ k, x = some k → k < 6) (hy : ∀ k, y = some k → k < 6) (hv : p.1 = pj v) :
    pw (py_l1 (pj (pz_oi x)) (pj (pz_oi y)) p) (fun M => Sum.elim (fun q => py_F sd Z0 q.1 q.2 M) (fun r => py_S b K sd Z0 r.1 r.2.1 r.2.2 M) (pz_sc K ((X.1, X.2.1 + 1, pz_lk2 X.2.2.1 x y v, X.2.2.2), w, e))) := by
  have bx : -1 ≤ pz_oi x ∧ pz_oi x < 6 := by
    cases x with
    | none => exact ⟨Int.le_refl _, by decide⟩
    | some k => have := hx k rfl; exact ⟨by show (-1 : Int) ≤ (k : Nat); omega, by show ((k : Nat) : Int) < 6; omega⟩
  have by' : -1 ≤ pz_oi y ∧ pz_oi y < 6 := by
    cases y with
    | none => exact ⟨Int.le_refl _, by decide⟩
    | some k => have := hy k rfl; exact ⟨by show (-1 : Int) ≤ (k : Nat); omega, by show ((k : Nat) : Int) < 6; omega⟩
  unfold py_l1 pz_sc
  refine pw_seq (py_must h (k := 4) (by omega) (by omega)) (fun M hM => ?_)
  dsimp only
  cases hp : pz_tk K 4 e with
  | inl q =>
    rw [hp] at hM
    have hM : py_F sd Z0 q.1 q.2 M := hM
    rw [if_pos (py_F13 hM).2, pw_some]
    exact hM
  | inr e2 =>
    rw [hp] at hM
    obtain ⟨rfl, hM⟩ := hM
    obtain ⟨g1, g2, g3, g4, g5, g6, g7, g8, g9, cb, bb, g10, d1, d2, d3, d4, d5, d6, d7, d8, -⟩ := id hM
    have hn0 : ¬ 0 < M.1 13 := by rw [g3]; decide
    have hn1 : ((X.2.1 : Nat) : Int) + 1 = ((X.2.1 + 1 : Nat) : Int) := by omega
    rw [if_neg hn0, d1, pj_ald (by omega) (by omega), Int.toNat_natCast, Option.bind_some, pj_ast (by omega) (by omega), Option.bind_some, d8, pj_1, pj_add, hn1]
    have hS1 : py_S b K sd Z0 (X.1, X.2.1 + 1, X.2.2) w (e + 1) (zm_sA M 25 (pj (sd : Nat)) (pj ((X.2.1 + 1 : Nat) : Int))) := by
      refine py_S_W hM (k := 25) (i := sd) (s := 1) _ (by omega) rfl (by omega) (by omega) rfl (by show X.2.1 + 1 ≤ 20; omega) ?_ (fun p q hp hq => ?_) (fun j h1 h2 => ?_) rfl
      · rw [if_pos ⟨rfl, rfl⟩]
      · rw [if_neg (by omega)]
      · rw [if_neg (by omega)]
    have e19 : (zm_sA M 25 (pj (sd : Nat)) (pj ((X.2.1 + 1 : Nat) : Int))).1 19 = pj sd := d1
    generalize zm_sA M 25 (pj (sd : Nat)) (pj ((X.2.1 + 1 : Nat) : Int)) = M8 at hS1 e19
    have lt0 : ∀ z : Int, -1 ≤ z ∧ z < 6 → (pj z < 0 ↔ z < 0) := fun z hz => by rw [pj_0, pj_lt (by omega) (by omega)]
    cases x with
    | none =>
      rw [if_pos ((lt0 _ bx).2 (by decide)), pw_some]
      exact hS1
    | some x =>
      have hx := hx x rfl
      rw [if_neg (fun q => absurd ((lt0 _ bx).1 q) (by show ¬ ((x : Nat) : Int) < 0; omega))]
      cases y with
      | none =>
        rw [if_pos ((lt0 _ by').2 (by decide)), pw_some]
        exact hS1
      | some y =>
        have hy := hy y rfl
        rw [if_neg (fun q => absurd ((lt0 _ by').1 q) (by show ¬ ((y : Nat) : Int) < 0; omega))]
        have ix : ∀ p q : Nat, 36 * pj (sd : Nat) + 6 * pj (p : Nat) + pj (q : Nat) = pj ((36 * sd + 6 * p + q : Nat) : Int) := fun p q => by
          rw [show (36 : Int32) = pj 36 from rfl, show (6 : Int32) = pj 6 from rfl, pj_mul, pj_mul, pj_add, pj_add]; congr 1
        show pw ((some (36 * M8.1 19 + 6 * pj (x : Nat) + pj (y : Nat))).bind _) _
        rw [e19, ix, Option.bind_some, pj_ast (by omega) (by omega), Option.bind_some, hv]
        have hS2 : py_S b K sd Z0 (X.1, X.2.1 + 1, pz_up2 X.2.2.1 x y v, X.2.2.2) w (e + 1) (zm_sA M8 26 (pj ((36 * sd + 6 * x + y : Nat) : Int)) (pj (v : Nat))) := by
          refine py_S_W hS1 (k := 26) (i := 36 * sd + 6 * x + y) (s := 36) _ (by omega) rfl (by omega) (by omega) rfl (by show X.2.1 + 1 ≤ 20; omega) ?_ (fun p q hp hq => ?_) (fun j h1 h2 => ?_) rfl
          · rw [if_neg (by omega)]
          · show _ = pj ((pz_up2 X.2.2.1 x y v p q : Nat) : Int)
            unfold pz_up2
            by_cases c : p = x ∧ q = y
            · rw [if_pos ⟨rfl, by omega⟩, if_pos c]
            · rw [if_neg (by omega), if_neg c]
          · rw [if_neg (by omega)]
        have f19 : (zm_sA M8 26 (pj ((36 * sd + 6 * x + y : Nat) : Int)) (pj (v : Nat))).1 19 = pj sd := e19
        generalize zm_sA M8 26 (pj ((36 * sd + 6 * x + y : Nat) : Int)) (pj (v : Nat)) = M10 at hS2 f19
        show pw ((some (36 * M10.1 19 + 6 * pj (y : Nat) + pj (x : Nat))).bind _) _
        rw [f19, ix, Option.bind_some, pj_ast (by omega) (by omega), Option.bind_some, pw_some]
        refine py_S_W hS2 (k := 26) (i := 36 * sd + 6 * y + x) (s := 36) _ (by omega) rfl (by omega) (by omega) rfl (by show X.2.1 + 1 ≤ 20; omega) ?_ (fun p q hp hq => ?_) (fun j h1 h2 => ?_) rfl
        · rw [if_neg (by omega)]
        · show _ = pj ((pz_up2 (pz_up2 X.2.2.1 x y v) y x v p q : Nat) : Int)
          show (if _ then _ else pj ((pz_up2 X.2.2.1 x y v p q : Nat) : Int)) = _
          unfold pz_up2
          by_cases c : p = y ∧ q = x
          · rw [if_pos ⟨rfl, by omega⟩, if_pos c]
          · rw [if_neg (by omega), if_neg c]
        · rw [if_neg (by omega)]
/-! likings, numbers, laws told, by the model -/
theorem py_lt0 {z : Int} (hz : -1 ≤ z ∧ z < 1000) : (pj z < 0 ↔ z < 0) := by rw [pj_0, pj_lt (by omega) (by omega)]
theorem pz_oi_bd {o : Option Nat} (h : ∀ k, o = some k → k < 6) : -1 ≤ pz_oi o ∧ pz_oi o < 6 := by
  cases o with
  | none => exact ⟨Int.le_refl _, by decide⟩
  | some k => have := h k rfl; exact ⟨by show (-1 : Int) ≤ (k : Nat); omega, by show ((k : Nat) : Int) < 6; omega⟩
theorem pz_oi_inj {x y : Option Nat} (h : pz_oi x = pz_oi y) : x = y := by
  cases x with
  | none =>
    cases y with
    | none => rfl
    | some k => have h : (-1 : Int) = (k : Nat) := h; omega
  | some j =>
    cases y with
    | none => have h : ((j : Nat) : Int) = -1 := h; omega
    | some k => have h : ((j : Nat) : Int) = (k : Nat) := h; rw [show j = k by omega]
theorem py_tellLikes {b : Nat → Int} {K : List pz_T} {sd : Nat} {Z0 Z : zm_S} {X : pz_X} {w : Nat × Nat} {a : Nat} (h : py_S b K sd Z0 X w a Z) (hl : X.2.1 < 20) :
    pw (gm_tellLikes Z) (fun M => Sum.elim (fun q => py_F sd Z0 q.1 q.2 M) (fun r => py_S b K sd Z0 r.1 r.2.1 r.2.2 M) (pz_bd (pz_li b K X w a) (pz_sc K))) := by
  have h6 : X.1.length ≤ 6 := by obtain ⟨-, -, -, -, -, -, -, -, -, cb, bb, -, -, -, d3, -⟩ := h; exact d3
  have hix : ∀ (a : Nat) (k : Nat), pz_ix X.1 (pz_nm b K a) = some k → k < 6 := fun a k e => by have := pz_ix_lt e; omega
  have hgm : gm_tellLikes Z = (gm_known Z).bind fun p1 => (some (p1.2.1 11)).bind fun x2 => (gm_known p1.2).bind fun p3 =>
    (if (p3.2.1 13) = 0 then (if p1.1 < 0 then (some p3.2) else (if p1.1 = p3.1 then ((gm_wrong p3.2 3 x2).bind fun M13 => some M13) else (some p3.2))) else (some p3.2)).bind fun (p4 : zm_S) => (gm_bounded p4 (pj (0 : Nat)) (pj (9 : Nat))).bind (py_l1 p1.1 p3.1) := rfl
  rw [hgm]
  unfold pz_li
  rw [pz_bd_assoc]
  refine pw_seq (py_known h) (fun p1 hp1 => ?_)
  rw [Option.bind_some]
  have hF : ∀ {n pl : Nat} {M : zm_S} (x y : Int32) (z : Int32), py_F sd Z0 n pl M → pw ((if M.1 13 = 0 then (if x < 0 then (some M) else (if x = y then ((gm_wrong M 3 z).bind fun M13 => some M13) else (some M))) else (some M)).bind fun (p4 : zm_S) => (gm_bounded p4 (pj (0 : Nat)) (pj (9 : Nat))).bind (py_l1 x y)) (fun M => py_F sd Z0 n pl M) := by
    intro n pl M x y z hM
    rw [if_neg (py_F13 hM).1, Option.bind_some, py_boundedF hM, Option.bind_some]
    exact py_l1F hM x y
  cases hk1 : pz_kn b K X.1 w a with
  | inl q =>
    rw [hk1] at hp1
    obtain ⟨e1, e2⟩ := hp1
    rw [py_knownF e2, Option.bind_some]
    exact hF _ _ _ e2
  | inr r1 =>
    rw [hk1] at hp1
    obtain ⟨e1, e2⟩ := hp1
    have hr1 : r1.1 = pz_ix X.1 (pz_nm b K a) := by
      unfold pz_kn at hk1
      obtain ⟨z, z1, z2⟩ := pz_bd_inr hk1
      injection z2 with z2
      rw [← z2]
    have t11 := e2.2.2.2.1
    have tK := e2.2.2.2.2.2.1
    have t4 := e2.2.2.2.2.2.2.1
    rw [t11]
    show pw _ (fun M => Sum.elim _ _ (pz_bd (pz_bd (pz_kn b K X.1 r1.2.1 r1.2.2) _) (pz_sc K)))
    rw [pz_bd_assoc]
    refine pw_seq (py_known e2) (fun p3 hp3 => ?_)
    cases hk2 : pz_kn b K X.1 r1.2.1 r1.2.2 with
    | inl q =>
      rw [hk2] at hp3
      exact hF _ _ _ hp3.2
    | inr r2 =>
      rw [hk2] at hp3
      obtain ⟨f1, f2⟩ := hp3
      have hr2 : r2.1 = pz_ix X.1 (pz_nm b K r1.2.2) := by
        unfold pz_kn at hk2
        obtain ⟨z, z1, z2⟩ := pz_bd_inr hk2
        injection z2 with z2
        rw [← z2]
      have hx : ∀ k, r1.1 = some k → k < 6 := fun k e => hix _ k (hr1 ▸ e)
      have hy : ∀ k, r2.1 = some k → k < 6 := fun k e => hix _ k (hr2 ▸ e)
      have bx := pz_oi_bd hx
      have by' := pz_oi_bd hy
      show pw _ (fun M => Sum.elim _ _ (pz_bd (pz_bd (pz_nu K 0 9 (if r1.1.isSome = true ∧ r1.1 = r2.1 then pz_wr r2.2.1 3 r1.2.2 else r2.2.1) r2.2.2) _) (pz_sc K)))
      rw [pz_bd_assoc]
      have hmid : pw (if p3.2.1 13 = 0 then (if p1.1 < 0 then (some p3.2) else (if p1.1 = p3.1 then ((gm_wrong p3.2 3 (pj (r1.2.2 : Nat))).bind fun M13 => some M13) else (some p3.2))) else (some p3.2)) (fun M => py_S b K sd Z0 X (if r1.1.isSome = true ∧ r1.1 = r2.1 then pz_wr r2.2.1 3 r1.2.2 else r2.2.1) r2.2.2 M) := by
        have e1' : ∀ x : Option zm_S, (x.bind fun M5 => some M5) = x := fun x => by cases x <;> rfl
        rw [if_pos f2.2.2.1, e1, f1, e1']
        cases ho : r1.1 with
        | none =>
          rw [if_pos ((py_lt0 (by rw [ho] at bx; omega)).2 (by decide)), if_neg (fun q => by cases q.1), pw_some]
          exact f2
        | some k =>
          rw [if_neg (fun q => absurd ((py_lt0 (by rw [ho] at bx; omega)).1 q) (by show ¬ ((k : Nat) : Int) < 0; omega))]
          by_cases c : some k = r2.1
          · rw [if_pos (by rw [c]), if_pos ⟨rfl, c⟩]
            exact py_wr f2 (n := 3) (t := r1.2.2) (by omega) ⟨tK, t4⟩
          · have : ¬ pj (pz_oi (some k)) = pj (pz_oi r2.1) := fun q => c (pz_oi_inj ((pj_eq (by rw [ho] at bx; omega) (by omega)).1 q))
            rw [if_neg this, if_neg (fun q => c q.2), pw_some]
            exact f2
      refine pw_seq hmid (fun M hM => ?_)
      refine pw_seq (py_bounded hM (lo := 0) (hi := 9) (by omega)) (fun p hp => ?_)
      cases hn : pz_nu K 0 9 (if r1.1.isSome = true ∧ r1.1 = r2.1 then pz_wr r2.2.1 3 r1.2.2 else r2.2.1) r2.2.2 with
      | inl q =>
        rw [hn] at hp
        exact py_l1F hp _ _
      | inr r3 =>
        rw [hn] at hp
        obtain ⟨u1, u2, u3⟩ := hp
        rw [e1, f1]
        exact py_l1S u2 hl hx hy u1
theorem py_toldInt {b : Nat → Int} {K : List pz_T} {sd : Nat} {Z0 Z : zm_S} {X : pz_X} {w : Nat × Nat} {a : Nat} (h : py_S b K sd Z0 X w a Z) (hk : pz_kd K a ≠ 0 ∧ pz_kd K a ≠ 3) {lo hi k : Nat} (hb : lo ≤ 10000 ∧ hi ≤ 10000) (hk2 : 4 ≤ k ∧ k ≤ 7) :
    pw ((gm_toldInt Z (pj lo) (pj hi)).bind fun p8 => (zs_ast 2 (Z.1 19) (zm_sA p8.2 (k + 23) (Z.1 19) p8.1)).bind fun M9 => some M9) (fun M => Sum.elim (fun q => py_F sd Z0 q.1 q.2 M) (fun r => py_S b K sd Z0 r.1 r.2.1 r.2.2 M) (pz_bd (pz_bd (pz_ps K a) fun a1 => pz_fi K X w k lo hi a1) (pz_sc K))) := by
  have hsd := h.2.2.2.2.2.2.2.1
  have d1 : Z.1 19 = pj sd := by obtain ⟨-, -, -, -, -, -, -, -, -, cb, bb, -, d1, -⟩ := h; exact d1
  have hs : py_sz (k + 23) = 1 := by
    have : k = 4 ∨ k = 5 ∨ k = 6 ∨ k = 7 := by omega
    rcases this with rfl | rfl | rfl | rfl <;> rfl
  have hF : ∀ {n pl : Nat} {M : zm_S} (x : Int32), py_F sd Z0 n pl M → pw ((zs_ast 2 (pj (sd : Nat)) (zm_sA M (k + 23) (pj (sd : Nat)) x)).bind fun M9 => some M9) (fun M => py_F sd Z0 n pl M) := by
    intro n pl M x hM
    rw [pj_ast (by omega) (by omega), Option.bind_some, pw_some]
    exact py_F_A hM hsd x (s := 1) hs (by omega) (by omega)
  rw [d1]
  unfold gm_toldInt
  simp only [Option.bind_assoc, Option.bind_some]
  rw [pz_bd_assoc]
  refine pw_seq (py_goes h hk) (fun M hM => ?_)
  cases hp : pz_ps K a with
  | inl q =>
    rw [hp] at hM
    have hM : py_F sd Z0 q.1 q.2 M := hM
    rw [py_boundedF hM, Option.bind_some, py_F_must hM, Option.bind_some]
    exact hF _ hM
  | inr e =>
    rw [hp] at hM
    obtain ⟨rfl, hM⟩ := hM
    show pw _ (fun M => Sum.elim _ _ (pz_bd (pz_bd (pz_nu K lo hi w (a + 1)) _) (pz_sc K)))
    rw [pz_bd_assoc]
    refine pw_seq (py_bounded hM hb) (fun p hp => ?_)
    cases hn : pz_nu K lo hi w (a + 1) with
    | inl q =>
      rw [hn] at hp
      have hp : py_F sd Z0 q.1 q.2 p.2 := hp
      rw [py_F_must hp, Option.bind_some]
      exact hF _ hp
    | inr r =>
      rw [hn] at hp
      obtain ⟨u1, u2, u3⟩ := hp
      show pw _ (fun M => Sum.elim _ _ (pz_sc K (pz_se X k r.1, r.2.1, r.2.2)))
      unfold pz_sc
      refine pw_seq (py_must u2 (k := 4) (by omega) (by omega)) (fun M2 hM2 => ?_)
      dsimp only
      cases ht : pz_tk K 4 r.2.2 with
      | inl q =>
        rw [ht] at hM2
        exact hF _ hM2
      | inr e2 =>
        rw [ht] at hM2
        obtain ⟨rfl, hM2⟩ := hM2
        have h20 : X.2.1 ≤ 20 := by obtain ⟨-, -, -, -, -, -, -, -, -, cb, bb, -, -, -, -, d4, -⟩ := hM2; exact d4
        rw [pj_ast (by omega) (by omega), Option.bind_some, pw_some, u1]
        refine py_S_W hM2 (k := k + 23) (i := sd) (s := 1) _ (by omega) hs (by omega) (by omega) rfl h20 ?_ (fun p q hp hq => ?_) (fun j h1 h2 => ?_) rfl
        · rw [if_neg (by omega)]; rfl
        · rw [if_neg (by omega)]; rfl
        · show _ = pj (((if j - 23 = k then r.1 else X.2.2.2.1 (j - 23)) : Nat) : Int)
          by_cases c : k + 23 = j
          · rw [if_pos ⟨c, rfl⟩, if_pos (by omega)]
          · rw [if_neg (fun q => c q.1), if_neg (by omega)]
/-! a law told into a side; one row of a text, by the model -/
theorem py_goesL {b : Nat → Int} {K : List pz_T} {sd : Nat} {Z0 Z : zm_S} {X : pz_X} {w : Nat × Nat} {a : Nat} (h : py_S b K sd Z0 X w a Z) (hk : pz_kd K a ≠ 0 ∧ pz_kd K a ≠ 3) :
    pw (gm_goesOn Z) (fun M => Sum.elim (fun q => py_F sd Z0 q.1 q.2 M ∧ sd < 2 ∧ ∃ bb, (130 * sd ≤ bb ∧ bb ≤ 130 * sd + 100) ∧ M.1 33 = pj bb) (fun e => e = a + 1 ∧ py_S b K sd Z0 X w e M ∧ ∃ cb bb, (420 * sd ≤ cb ∧ cb ≤ 420 * sd + a ∧ 130 * sd ≤ bb ∧ 4 * bb ≤ 520 * sd + a) ∧ py_D sd X cb bb M) (pz_ps K a)) := by
  obtain ⟨h1, h2, h3, h4, h5, h6, h7, h8, h9, cb, bb, h10, h11⟩ := h
  rw [pm_goes0 h1.1 h3 h4 h6 h7, pw_some]
  unfold pz_ps
  by_cases c : 400 ≤ a
  · rw [if_pos c, if_pos c]
    refine ⟨⟨py_M_trans h2 (py_M_trans (py_M_F _ (by omega)) (py_M_F _ (by omega))), Or.inr rfl, ?_, zm_sFs _ _ _⟩, h8, bb, by omega, ?_⟩
    · rw [zm_sFn (by omega), zm_sFs]; rfl
    · rw [zm_sFn (by omega), zm_sFn (by omega)]; exact h11.2.2.2.2.1
  · rw [if_neg c, if_neg c]
    have hD := py_D_F (k := 11) (pj ((a + 1 : Nat) : Int)) (by omega) h11
    exact ⟨rfl, ⟨h1, py_M_trans h2 (py_M_F _ (by omega)), (zm_sFn (by omega)).trans h3, zm_sFs _ _ _, (zm_sFn (by omega)).trans h5, h1.1.1.2.2 a h6 hk.1 hk.2, by omega, h8, py_W_F _ (by omega) h9, cb, bb, by omega, hD⟩, cb, bb, h10, hD⟩
theorem py_tellLaw {b : Nat → Int} {K : List pz_T} {sd : Nat} {Z0 Z : zm_S} {X : pz_X} {w : Nat × Nat} {a k cb bb : Nat} (h : py_S b K sd Z0 X w (a + 1) Z) (hcb : 420 * sd ≤ cb ∧ cb ≤ 420 * sd + a ∧ 130 * sd ≤ bb ∧ 4 * bb ≤ 520 * sd + a) (hD : py_D sd X cb bb Z) (hk : k < 4) :
    pw (gm_tellLaw Z (pj k)) (fun M => Sum.elim (fun q => py_F sd Z0 q.1 q.2 M) (fun r => py_S b K sd Z0 r.1 r.2.1 r.2.2 M) (pz_bd (pz_bd (pz_law K (a + 1)) fun r => Sum.inr (pz_sw X k r.1, w, r.2)) (pz_sc K))) := by
  obtain ⟨h1, h2, h3, h4, h5, h6, h7, h8, h9, -⟩ := h
  obtain ⟨d1, d2, d3, d4, d5, d6, d7, d8, d9, d10, d11, d12, d13, d14, d15⟩ := hD
  have hP : px_S K sd Z cb bb (a + 1) cb bb Z := ⟨h1.1, px_fr_rfl _ _ _, h3, h4, h5, d6, d5, h6, h7, by omega, by omega, by omega, h8, by omega⟩
  have hspec : (pz_bd (pz_bd (pz_law K (a + 1)) fun r => Sum.inr (pz_sw X k r.1, w, r.2)) (pz_sc K)) = pz_bd (pz_bd (pz_law K (a + 1)) fun r => pz_bd (pz_tk K 4 r.2) fun b => (Sum.inr (r.1, b) : pz_R (zl_L × Nat))) fun r => Sum.inr (pz_sw X k r.1, w, r.2) := by
    cases pz_law K (a + 1) with
    | inl q => rfl
    | inr r =>
      show pz_bd (pz_tk K 4 r.2) _ = pz_bd (pz_bd (pz_tk K 4 r.2) _) _
      cases pz_tk K 4 r.2 <;> rfl
  rw [hspec]
  refine pw_mono (px_tellLaw hP (by omega) hcb.1 d1 hk) (fun Z' hZ' => ?_)
  cases hr : (pz_bd (pz_law K (a + 1)) fun r => pz_bd (pz_tk K 4 r.2) fun b => (Sum.inr (r.1, b) : pz_R (zl_L × Nat))) with
  | inl q =>
    rw [hr] at hZ'
    obtain ⟨bb', f1, f2, f3, f4, -⟩ := hZ'
    exact ⟨py_M_trans h2 (py_M_px h8 (by omega) (by omega) f1), f2, f3, f4⟩
  | inr r =>
    rw [hr] at hZ'
    obtain ⟨Z1, cb', rfl, s1, s2, s3, s4, s5⟩ := hZ'
    obtain ⟨t1, t2, t3, t4, t5, t6, t7, t8, t9, t10, t11, t12, t13, t14⟩ := s1
    have e : ∀ j i, ((j ≠ 31 ∧ j ≠ 32) ∨ i ≠ 4 * sd + k) → (zm_sA (zm_sA Z1 31 (pj ((4 * sd + k : Nat) : Int)) (pj bb)) 32 (pj ((4 * sd + k : Nat) : Int)) (pj ((bb + r.1.1.length + 1 : Nat) : Int))).2.1 j i = Z1.2.1 j i := fun j i hj => by
      rw [pm_sA, pm_sA, pj_nat (by omega), Int.toNat_natCast]
      by_cases c2 : j = 32
      · subst c2
        rw [if_pos rfl, pj_upd, if_neg (by omega), if_neg (by decide)]
      · rw [if_neg c2]
        by_cases c1 : j = 31
        · subst c1; rw [pm_sA, if_pos rfl, pj_nat (by omega), Int.toNat_natCast, pj_upd, if_neg (by omega)]
        · rw [pm_sAn c1]
    have e1 : (zm_sA (zm_sA Z1 31 (pj ((4 * sd + k : Nat) : Int)) (pj bb)) 32 (pj ((4 * sd + k : Nat) : Int)) (pj ((bb + r.1.1.length + 1 : Nat) : Int))).1 = Z1.1 := rfl
    have e2 : (zm_sA (zm_sA Z1 31 (pj ((4 * sd + k : Nat) : Int)) (pj bb)) 32 (pj ((4 * sd + k : Nat) : Int)) (pj ((bb + r.1.1.length + 1 : Nat) : Int))).2.2 = Z1.2.2 := rfl
    have hM : py_M sd Z1 (zm_sA (zm_sA Z1 31 (pj ((4 * sd + k : Nat) : Int)) (pj bb)) 32 (pj ((4 * sd + k : Nat) : Int)) (pj ((bb + r.1.1.length + 1 : Nat) : Int))) :=
      py_M_trans (py_M_A h8 _ (s := 4) rfl (by omega) (by omega)) (py_M_A h8 _ (s := 4) rfl (by omega) (by omega))
    generalize zm_sA (zm_sA Z1 31 (pj ((4 * sd + k : Nat) : Int)) (pj bb)) 32 (pj ((4 * sd + k : Nat) : Int)) (pj ((bb + r.1.1.length + 1 : Nat) : Int)) = Z2 at e e1 e2 hM s4
    have c : ∀ j, (j ≤ 30 ∨ j = 39) → Z2.2.1 j = Z.2.1 j := fun j hj => by
      rw [funext (fun i => e j i (Or.inl (by omega))), s2.2.1 j (by omega)]
    show py_S b K sd Z0 (pz_sw X k r.1) w r.2 Z2
    refine ⟨⟨⟨t1.1, fun j h1' h2' => ?_⟩, fun j h1' h2' h3' => ?_, h1.2.2⟩, py_M_trans h2 (py_M_trans (py_M_px h8 (by omega) (by omega) s2) hM), ?_, ?_, ?_, t8, t9, h8, ⟨h9.1, ?_, fun q => ?_⟩, cb', bb + r.1.1.length + 1, by omega, ?_, ?_, d3, d4, ?_, ?_, ?_, ?_, fun j q hj => ?_, fun p q hp hq => ?_, ?_, ?_, ?_, ?_, fun j hj => ?_⟩
    · rw [c 5 (by omega), c 6 (by omega), c 7 (by omega)]; exact h1.1.2 j h1' h2'
    · rw [e2, s2.2.2.1]; exact h1.2.1 j h1' h2' h3'
    · rw [e1]; exact t3
    · rw [e1]; exact t4
    · rw [e1]; exact t5
    · rw [e1, s2.1 15 (by omega)]; exact h9.2.1
    · rw [e1, s2.1 16 (by omega)]; exact h9.2.2 q
    · rw [e1, s2.1 19 (by omega)]; exact d1
    · rw [e1, s2.1 20 (by omega)]; exact d2
    · rw [e1]; exact t7
    · rw [e1]; exact t6
    · rw [c 22 (by omega)]; exact d7
    · rw [c 25 (by omega)]; exact d8
    · rw [c 23 (by omega), c 24 (by omega), e2, s2.2.2.1]; exact d9 j q hj
    · rw [c 26 (by omega)]; exact d10 p q hp hq
    · rw [c 27 (by omega)]; exact d11
    · rw [c 28 (by omega)]; exact d12
    · rw [c 29 (by omega)]; exact d13
    · rw [c 30 (by omega)]; exact d14
    · show py_lw cb' (bb + r.1.1.length + 1) Z2 sd j (if j = k then some r.1 else X.2.2.2.2 j)
      by_cases ck : j = k
      · rw [if_pos ck, ck]; exact s4
      · rw [if_neg ck]
        intro Z3 hZ3
        obtain ⟨y1, y2, y3, y4⟩ := hZ3
        refine d15 j hj Z3 ⟨?_, ?_, fun q i q1 q2 hi => ?_, fun i hi => ?_⟩
        · rw [y1, e 31 _ (Or.inr (by omega)), s2.2.1 31 (by omega)]
        · rw [y2, e 32 _ (Or.inr (by omega)), s2.2.1 32 (by omega)]
        · rw [y3 q i q1 q2 (by omega), e q i (Or.inl (by omega)), s2.2.2.2.2 q i q1 q2 (by omega)]
        · obtain ⟨z1, z2⟩ := y4 i (by omega)
          obtain ⟨z3, z4⟩ := s2.2.2.2.1 i (by omega)
          rw [z1, z2, e 40 i (Or.inl (by omega)), e 41 i (Or.inl (by omega)), z3, z4]
          exact ⟨rfl, rfl⟩
theorem px_tellLawF {sd : Nat} {Z0 Z : zm_S} {cb0 bb0 n pl bb : Nat} (h : px_F Z0 cb0 bb0 n pl bb Z) (hb : bb < 130 * (bb0 / 130) + 130) (k : Int32) : pw (gm_tellLaw Z k) (fun Z' => ∃ bb, px_F Z0 cb0 bb0 n pl bb Z') := by
  have hl : zs_loop 5000 gm_tellLaw_L12 (0, Z) = some (Sum.inl Z) := by
    show ((gm_tellLaw_L12 (0, Z)).bind fun s => Sum.elim (fun t' => zs_loop 4999 gm_tellLaw_L12 t') some s) = _
    rw [px_stop _ (Or.inl (px_F13 h).1)]; rfl
  have hbb := h.2.2.2.2.2
  have h1 := px_FA h (by omega) 34 (vp_nar .boolean 0) (by omega)
  unfold gm_tellLaw
  rw [px_mustF h.2.1 h.2.2.1, Option.bind_some, Option.bind_some, hl, Option.bind_some, Sum.elim_inl, h.2.2.2.2.1, pj_ast (by omega) (by omega), Option.bind_some]
  refine pw_seq (px_termF h1 (by omega)) (fun Z2 h2 => ?_)
  rw [px_mustF h2.2.1 h2.2.2.1, Option.bind_some, if_pos (px_F13 h2).2, pw_some]
  exact ⟨_, h2⟩
theorem py_roomFor {b : Nat → Int} {K : List pz_T} {sd : Nat} {Z0 Z : zm_S} {X : pz_X} {w : Nat × Nat} {a : Nat} (h : py_S b K sd Z0 X w a Z) (hk : pz_kd K a ≠ 0 ∧ pz_kd K a ≠ 3) {n m : Nat} (hb : n ≤ 100 ∧ m ≤ 100) :
    pw (gm_roomFor Z (pj n) (pj m)) (fun M => Sum.elim (fun q => py_F sd Z0 q.1 q.2 M) (fun e => e = a + 1 ∧ py_S b K sd Z0 X w e M) (if n = m then (Sum.inl (2, pz_fr K a) : pz_R Nat) else pz_ps K a)) := by
  have e1 : ∀ x : Option zm_S, (x.bind fun M5 => some M5) = x := fun x => by cases x <;> rfl
  unfold gm_roomFor
  by_cases c : n = m
  · rw [if_pos (by rw [c]), if_pos c, e1]
    refine pw_seq (py_failS h 2 (Or.inr rfl)) (fun M hM => ?_)
    rw [if_neg (py_F13 hM).1, pw_some]
    exact hM
  · rw [if_neg (by rw [pj_eq (by omega) (by omega)]; omega), if_neg c, Option.bind_some, if_pos h.2.2.1, e1]
    exact py_goes h hk
theorem py_tellOne {b : Nat → Int} {K : List pz_T} {sd : Nat} {Z0 Z : zm_S} {X : pz_X} {w : Nat × Nat} {a : Nat} (h : py_S b K sd Z0 X w a Z) :
    pw (gm_tellOne Z) (fun M => Sum.elim (fun q => py_F sd Z0 q.1 q.2 M) (fun r => py_S b K sd Z0 r.1 r.2.1 r.2.2 M) (pz_tell b K X w a)) := by
  obtain ⟨h1, h2, h3, h4, h5, h6, h7, h8, h9, cb, bb, h10, d1, d2, d3, d4, d5, d6, d7, d8, -⟩ := id h
  have ekd := (h1.1.2 a h6 h7).1
  have hkb := (h1.1.1.2.1 a).1
  have e1 : ∀ x : Option zm_S, (x.bind fun M5 => some M5) = x := fun x => by cases x <;> rfl
  have hne : ∀ v : Nat, v ≤ 100 → (pj ((pz_kd K a : Nat) : Int) = pj (v : Nat) ↔ pz_kd K a = v) := fun v hv => by
    rw [pj_eq (by omega) (by omega)]; omega
  unfold gm_tellOne pz_tell pz_told
  rw [h4, pj_ald (by omega) (by omega), Int.toNat_natCast, ekd, Option.bind_some]
  rw [show (20 : Int32) = pj ((20 : Nat) : Int) from rfl, show (21 : Int32) = pj ((21 : Nat) : Int) from rfl, show (22 : Int32) = pj ((22 : Nat) : Int) from rfl, show (23 : Int32) = pj ((23 : Nat) : Int) from rfl, show (28 : Int32) = pj ((28 : Nat) : Int) from rfl, show (29 : Int32) = pj ((29 : Nat) : Int) from rfl]
  by_cases c20 : pz_kd K a = 20
  · rw [if_pos ((hne 20 (by omega)).2 c20), if_pos c20, d1, pj_ald (by omega) (by omega), Int.toNat_natCast, Option.bind_some, d7]
    refine pw_seq (py_roomFor h (by omega) (n := X.1.length) (m := 6) (by omega)) (fun M hM => ?_)
    by_cases c6 : X.1.length = 6
    · rw [if_pos c6] at hM
      rw [if_pos c6, if_neg (py_F13 hM).1, pw_some]
      exact hM
    · rw [if_neg c6] at hM
      rw [if_neg c6, pz_bd_assoc]
      cases hp : pz_ps K a with
      | inl q =>
        rw [hp] at hM
        have hM : py_F sd Z0 q.1 q.2 M := hM
        rw [if_neg (py_F13 hM).1, pw_some]
        exact hM
      | inr e =>
        rw [hp] at hM
        obtain ⟨rfl, hM⟩ := hM
        rw [if_pos hM.2.2.1, e1]
        exact py_tellHouse hM (by omega)
  rw [if_neg (fun q => c20 ((hne 20 (by omega)).1 q)), if_neg c20]
  by_cases c21 : pz_kd K a = 21
  · rw [if_pos ((hne 21 (by omega)).2 c21), if_pos c21, d1, pj_ald (by omega) (by omega), Int.toNat_natCast, Option.bind_some, d8]
    refine pw_seq (py_roomFor h (by omega) (n := X.2.1) (m := 20) (by omega)) (fun M hM => ?_)
    by_cases c6 : X.2.1 = 20
    · rw [if_pos c6] at hM
      rw [if_pos c6, if_neg (py_F13 hM).1, pw_some]
      exact hM
    · rw [if_neg c6] at hM
      rw [if_neg c6, pz_bd_assoc]
      cases hp : pz_ps K a with
      | inl q =>
        rw [hp] at hM
        have hM : py_F sd Z0 q.1 q.2 M := hM
        rw [if_neg (py_F13 hM).1, pw_some]
        exact hM
      | inr e =>
        rw [hp] at hM
        obtain ⟨rfl, hM⟩ := hM
        rw [if_pos hM.2.2.1, e1]
        exact py_tellLikes hM (by omega)
  rw [if_neg (fun q => c21 ((hne 21 (by omega)).1 q)), if_neg c21]
  by_cases c22 : pz_kd K a = 22
  · rw [if_pos ((hne 22 (by omega)).2 c22), if_pos c22]
    exact py_toldInt h (by omega) (lo := 1) (hi := 99) (k := 4) (by omega) (by omega)
  rw [if_neg (fun q => c22 ((hne 22 (by omega)).1 q)), if_neg c22]
  by_cases c23 : pz_kd K a = 23
  · rw [if_pos ((hne 23 (by omega)).2 c23), if_pos c23]
    exact py_toldInt h (by omega) (lo := 0) (hi := 99) (k := 5) (by omega) (by omega)
  rw [if_neg (fun q => c23 ((hne 23 (by omega)).1 q)), if_neg c23]
  by_cases c28 : pz_kd K a = 28
  · rw [if_pos ((hne 28 (by omega)).2 c28), if_pos c28]
    exact py_toldInt h (by omega) (lo := 0) (hi := 100) (k := 6) (by omega) (by omega)
  rw [if_neg (fun q => c28 ((hne 28 (by omega)).1 q)), if_neg c28]
  by_cases c29 : pz_kd K a = 29
  · rw [if_pos ((hne 29 (by omega)).2 c29), if_pos c29]
    exact py_toldInt h (by omega) (lo := 0) (hi := 9999) (k := 7) (by omega) (by omega)
  rw [if_neg (fun q => c29 ((hne 29 (by omega)).1 q)), if_neg c29, Option.bind_some, Option.bind_some, pw_let, show (24 : Int32) = pj 24 from rfl, show (27 : Int32) = pj 27 from rfl, pj_sub]
  rw [Option.bind_some, e1]
  have hbad : pw ((gm_fail Z 1).bind fun p18 => if 0 < p18.1 13 then some p18 else (gm_goesOn p18).bind fun M19 => (gm_tellLaw M19 (pj (((pz_kd K a : Nat) : Int) - 24))).bind fun M20 => some M20) (fun M => Sum.elim (fun q => py_F sd Z0 q.1 q.2 M) (fun r => py_S b K sd Z0 r.1 r.2.1 r.2.2 M) (pz_bd (Sum.inl (1, pz_fr K a) : pz_R (pz_X × (Nat × Nat) × Nat)) (pz_sc K))) := by
    refine pw_seq (py_failS h 1 (Or.inl rfl)) (fun M hM => ?_)
    rw [if_pos (py_F13 hM).2, pw_some]
    exact hM
  by_cases cl : 24 ≤ pz_kd K a ∧ pz_kd K a ≤ 27
  · rw [if_pos cl, if_neg (by rw [py_lt0 (by omega)]; omega), if_neg (by rw [pj_lt (by omega) (by omega)]; omega), Option.bind_some, if_neg (by rw [h3]; decide), pz_bd_assoc]
    refine pw_seq (py_goesL h (by omega)) (fun M hM => ?_)
    rw [e1]
    cases hp : pz_ps K a with
    | inl q =>
      rw [hp] at hM
      obtain ⟨⟨f1, f2, f3, f4⟩, f5, bb', f6, f7⟩ := hM
      have hF : px_F M (420 * sd) bb' q.1 q.2 bb' M := ⟨px_fr_rfl _ _ _, f2, f3, f4, f7, by omega⟩
      refine pw_mono (px_tellLawF (sd := sd) hF (by omega) _) (fun Z' h' => ?_)
      obtain ⟨bb2, g1, g2, g3, g4, -⟩ := h'
      exact ⟨py_M_trans f1 (py_M_px h8 (by omega) (by omega) g1), g2, g3, g4⟩
    | inr e =>
      rw [hp] at hM
      obtain ⟨rfl, hM, cb', bb', u1, u2⟩ := hM
      have := py_tellLaw (k := pz_kd K a - 24) hM u1 u2 (by omega)
      rw [show ((pz_kd K a - 24 : Nat) : Int) = ((pz_kd K a : Nat) : Int) - 24 by omega] at this
      exact this
  · rw [if_neg cl]
    by_cases c1 : pj (((pz_kd K a : Nat) : Int) - 24) < 0
    · rw [if_pos c1]; exact hbad
    · rw [if_neg c1]
      rw [pj_0, pj_lt (by omega) (by omega)] at c1
      rw [if_pos (by rw [pj_lt (by omega) (by omega)]; omega)]
      exact hbad
