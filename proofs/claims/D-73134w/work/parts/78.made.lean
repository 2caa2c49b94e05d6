set_option maxRecDepth 100000
/-! what is made: cells from c on, told by a function -/
def hc_eq (x y : zs_HC) : Prop := x.1 = y.1 ∧ x.2.1 = y.2.1 ∧ ∀ k, k < x.2.1 → x.2.2 k = y.2.2 k
theorem hc_rfl (x : zs_HC) : hc_eq x x := ⟨rfl, rfl, fun _ _ => rfl⟩
theorem hc_tr {x y z : zs_HC} (h : hc_eq x y) (g : hc_eq y z) : hc_eq x z := ⟨h.1.trans g.1, h.2.1.trans g.2.1, fun k hk => (h.2.2 k hk).trans (g.2.2 k (by rw [← h.2.1]; exact hk))⟩
def hq_x (M0 : ps_S) (c n : Nat) (F : Nat → zs_HC) (k s : Nat) (M : ps_S) : Prop :=
  (M.1 = M0.1 ∧ M.2.1.1 = M0.2.1.1 ∧ M0.2.1.1 ≤ c ∧ M.2.1.2.1 = c + n ∧ M.2.2.1 = M0.2.2.1 ∧ k ≤ M.2.2.2.1 ∧ s ≤ M.2.2.2.2) ∧ (∀ a, a < c → M.2.1.2.2 a = M0.2.1.2.2 a) ∧ ∀ j, j < n → ∃ x, M.2.1.2.2 (c + j) = some x ∧ hc_eq x (F j)
/-- an open object -/
def hf_x (o : Nat) (x : zs_HC) (F : Nat → zs_HC) : Nat → zs_HC := fun j => if j = o then x else F j
theorem hf_s (o : Nat) (x : zs_HC) (F : Nat → zs_HC) : hf_x o x F o = x := if_pos rfl
theorem hf_n {o j : Nat} (x : zs_HC) (F : Nat → zs_HC) (h : j ≠ o) : hf_x o x F j = F j := if_neg h
theorem hq_to {M0 : ps_S} {c n : Nat} {F F' : Nat → zs_HC} {k s k' s' : Nat} {M : ps_S} (h : hq_x M0 c n F k s M) (hF : ∀ j, j < n → hc_eq (F j) (F' j)) (hk : k' ≤ k) (hs : s' ≤ s) : hq_x M0 c n F' k' s' M := by
  obtain ⟨⟨a1, a2, a3, a4, a5, a6, a7⟩, a8, a9⟩ := h
  refine ⟨⟨a1, a2, a3, a4, a5, by omega, by omega⟩, a8, fun j hj => ?_⟩
  obtain ⟨x, e, q⟩ := a9 j hj
  exact ⟨x, e, hc_tr q (hF j hj)⟩
theorem hq_close {M0 : ps_S} {c n o : Nat} {F : Nat → zs_HC} {x : zs_HC} {k s : Nat} {M : ps_S} (h : hq_x M0 c n (hf_x o x F) k s M) (hx : hc_eq x (F o)) : hq_x M0 c n F k s M := by
  refine hq_to h (fun j _ => ?_) (Nat.le_refl _) (Nat.le_refl _)
  by_cases e : j = o
  · subst e; rw [hf_s]; exact hx
  · rw [hf_n x F e]; exact hc_rfl _
theorem hq_nw {M0 : ps_S} {c n : Nat} {F : Nat → zs_HC} {k s : Nat} {M : ps_S} {x : zs_HC} {sl : Nat} (h : hq_x M0 c n F (k + 1) (s + sl) M) (hx : hc_eq x (F n)) : pw (ps_nw M x sl) (fun z => z.1 = c + n ∧ hq_x M0 c (n + 1) F k s z.2) := by
  obtain ⟨⟨a1, a2, a3, a4, a5, a6, a7⟩, a8, a9⟩ := h
  unfold ps_nw
  rw [if_pos ⟨by omega, by omega⟩, pw_some]
  refine ⟨a4, ⟨a1, a2, a3, ?_, a5, ?_, ?_⟩, fun a ha => ?_, fun j hj => ?_⟩
  · show M.2.1.2.1 + 1 = _
    omega
  · show k ≤ M.2.2.2.1 - 1
    omega
  · show s ≤ M.2.2.2.2 - sl
    omega
  · show (if a = M.2.1.2.1 then some x else M.2.1.2.2 a) = _
    rw [if_neg (by omega)]; exact a8 a ha
  · show ∃ y, (if c + j = M.2.1.2.1 then some x else M.2.1.2.2 (c + j)) = some y ∧ _
    by_cases e : j = n
    · subst e
      rw [if_pos (by omega)]; exact ⟨x, rfl, hx⟩
    · rw [if_neg (by omega)]; exact a9 j (by omega)
/-- a made object stays open -/
theorem hq_nwo {M0 : ps_S} {c n : Nat} {F : Nat → zs_HC} {k s : Nat} {M : ps_S} {x : zs_HC} {sl : Nat} (h : hq_x M0 c n F (k + 1) (s + sl) M) : pw (ps_nw M x sl) (fun z => z.1 = c + n ∧ hq_x M0 c (n + 1) (hf_x n x F) k s z.2) := by
  refine hq_nw (hq_to h (fun j hj => ?_) (Nat.le_refl _) (Nat.le_refl _)) ?_
  · rw [hf_n x F (by omega)]; exact hc_rfl _
  · rw [hf_s]; exact hc_rfl _
theorem hq_na {M0 : ps_S} {c n : Nat} {F : Nat → zs_HC} {k s : Nat} {M : ps_S} {t N : Nat} {v : Value} (h : hq_x M0 c n F (k + 1) (s + N) M) (hN : N ≤ 100000) (hx : hc_eq (64 + t, N, fun _ => v) (F n)) : pw (ps_na M t v (pj (N : Nat))) (fun z => z.1 = c + n ∧ hq_x M0 c (n + 1) F k s z.2) := by
  unfold ps_na
  rw [pj_nat (by omega), Int.toNat_natCast, if_pos ⟨by rw [pj_0, pj_lt (by omega) (by omega)]; omega, hN⟩]
  exact hq_nw h hx
theorem hq_nao {M0 : ps_S} {c n : Nat} {F : Nat → zs_HC} {k s : Nat} {M : ps_S} {t N : Nat} {v : Value} (h : hq_x M0 c n F (k + 1) (s + N) M) (hN : N ≤ 100000) : pw (ps_na M t v (pj (N : Nat))) (fun z => z.1 = c + n ∧ hq_x M0 c (n + 1) (hf_x n (64 + t, N, fun _ => v) F) k s z.2) := by
  unfold ps_na
  rw [pj_nat (by omega), Int.toNat_natCast, if_pos ⟨by rw [pj_0, pj_lt (by omega) (by omega)]; omega, hN⟩]
  exact hq_nwo h
theorem hq_mn {M0 : ps_S} {c n : Nat} {F : Nat → zs_HC} {k s : Nat} {M : ps_S} {a b : Nat} (h : hq_x M0 c n F (k + (1 + a)) (s + (a + a * b)) M) (h0 : hc_eq (74, a, fun j => .ref (c + (n + 1 + j))) (F n)) (h1 : ∀ j, j < a → hc_eq (64, b, fun _ => .int 0) (F (n + 1 + j))) : pw (ps_mn M a b) (fun z => z.1 = c + n ∧ hq_x M0 c (n + 1 + a) F k s z.2) := by
  obtain ⟨⟨a1, a2, a3, a4, a5, a6, a7⟩, a8, a9⟩ := h
  unfold ps_mn
  rw [if_pos ⟨by omega, by omega⟩, pw_some]
  refine ⟨a4, ⟨a1, a2, a3, ?_, a5, ?_, ?_⟩, fun q ha => ?_, fun j hj => ?_⟩
  · show M.2.1.2.1 + 1 + a = _
    omega
  · show k ≤ M.2.2.2.1 - (1 + a)
    omega
  · show s ≤ M.2.2.2.2 - (a + a * b)
    omega
  · show (if q = M.2.1.2.1 then _ else if M.2.1.2.1 < q ∧ q < M.2.1.2.1 + 1 + a then _ else M.2.1.2.2 q) = _
    rw [if_neg (by omega), if_neg (by omega)]; exact a8 q ha
  · show ∃ y, (if c + j = M.2.1.2.1 then some (74, a, fun j => .ref (M.2.1.2.1 + 1 + j)) else if M.2.1.2.1 < c + j ∧ c + j < M.2.1.2.1 + 1 + a then some (64, b, fun _ => .int 0) else M.2.1.2.2 (c + j)) = some y ∧ _
    by_cases e : j = n
    · subst e
      rw [if_pos (by omega)]
      refine ⟨_, rfl, hc_tr (y := (74, a, fun i => .ref (c + (j + 1 + i)))) ⟨rfl, rfl, fun i _ => ?_⟩ h0⟩
      show Value.ref (M.2.1.2.1 + 1 + i) = .ref (c + (j + 1 + i))
      exact congrArg Value.ref (show (M.2.1.2.1 + 1 + i : Nat) = c + (j + 1 + i) by omega)
    · rw [if_neg (by omega)]
      by_cases e2 : n < j
      · rw [if_pos ⟨by omega, by omega⟩]
        refine ⟨_, rfl, ?_⟩
        have := h1 (j - (n + 1)) (by omega)
        rw [show n + 1 + (j - (n + 1)) = j by omega] at this
        exact this
      · rw [if_neg (by omega)]; exact a9 j (by omega)
theorem hq_up {M0 : ps_S} {c n : Nat} {F F' : Nat → zs_HC} {k s : Nat} {M : ps_S} {o : Nat} {y : zs_HC} (h : hq_x M0 c n F k s M) (ho : o < n) (hy : hc_eq y (F' o)) (hF : ∀ j, j ≠ o → F' j = F j) : hq_x M0 c n F' k s (ps_up M (c + o) y) := by
  obtain ⟨⟨a1, a2, a3, a4, a5, a6, a7⟩, a8, a9⟩ := h
  refine ⟨⟨a1, a2, a3, a4, a5, a6, a7⟩, fun a ha => ?_, fun j hj => ?_⟩
  · show (zs_up M.2.1 (c + o) y).2.2 a = _
    unfold zs_up
    dsimp only
    rw [if_neg (by omega)]; exact a8 a ha
  · show ∃ x, (zs_up M.2.1 (c + o) y).2.2 (c + j) = some x ∧ _
    unfold zs_up
    dsimp only
    by_cases e : j = o
    · subst e
      rw [if_pos rfl]; exact ⟨y, rfl, hy⟩
    · rw [if_neg (by omega), hF j e]; exact a9 j hj
theorem hq_pV {M0 : ps_S} {c n : Nat} {F : Nat → zs_HC} {k s : Nat} {M : ps_S} {o t N i : Nat} {G : Nat → Value} {v : Value} (h : hq_x M0 c n (hf_x o (t, N, G) F) k s M) (ho : o < n) : pw (hp_pV M (c + o) t N i v) (hq_x M0 c n (hf_x o (t, N, updV G i v) F) k s) := by
  have h2 := h
  obtain ⟨⟨a1, a2, a3, a4, a5, a6, a7⟩, a8, a9⟩ := h
  obtain ⟨⟨t', N', G'⟩, e, q1, q2, q3⟩ := a9 o ho
  rw [hf_s] at q1 q2 q3
  cases q1; cases q2
  unfold hp_pV hp_at
  rw [e]
  dsimp only
  rw [if_pos ⟨rfl, rfl, by omega⟩, pw_some]
  refine hq_up h2 ho ?_ (fun j hj => by rw [hf_n _ F hj, hf_n _ F hj])
  rw [hf_s]
  refine ⟨rfl, rfl, fun j hj => ?_⟩
  show (if j = i then v else G' j) = (if j = i then v else G j)
  by_cases c : j = i
  · rw [if_pos c, if_pos c]
  · rw [if_neg c, if_neg c]; exact q3 j hj
theorem hq_pA {M0 : ps_S} {c n : Nat} {F F' : Nat → zs_HC} {k s : Nat} {M : ps_S} {o t N i : Nat} {G : Nat → Value} {v : Value} (h : hq_x M0 c n F k s M) (ho : o < n) (hFo : F o = (64 + t, N, G)) (hFo' : F' o = (64 + t, N, updV G i v)) (hF : ∀ j, j ≠ o → F' j = F j) (hi : i < N) (hN : N < 100000) : pw (hp_pA M (c + o) t (pj (i : Nat)) v) (hq_x M0 c n F' k s) := by
  have h2 := h
  obtain ⟨⟨a1, a2, a3, a4, a5, a6, a7⟩, a8, a9⟩ := h
  obtain ⟨⟨t', N', G'⟩, e, q1, q2, q3⟩ := a9 o ho
  rw [hFo] at q1 q2 q3
  cases q1; cases q2
  unfold hp_pA hp_at
  rw [e]
  dsimp only
  rw [if_pos ⟨rfl, pj_in (by omega) (by omega), by omega, hN⟩, pw_some]
  refine hq_up h2 ho ?_ hF
  rw [hFo']
  refine ⟨rfl, rfl, fun j hj => ?_⟩
  show (if j = (pj (i : Nat)).toNatClampNeg then v else G' j) = (if j = i then v else G j)
  rw [pj_nat (by omega), Int.toNat_natCast]
  by_cases c : j = i
  · rw [if_pos c, if_pos c]
  · rw [if_neg c, if_neg c]; exact q3 j hj
theorem hq_pAo {M0 : ps_S} {c n : Nat} {F : Nat → zs_HC} {k s : Nat} {M : ps_S} {o t N i : Nat} {G : Nat → Value} {v : Value} (h : hq_x M0 c n (hf_x o (64 + t, N, G) F) k s M) (ho : o < n) (hi : i < N) (hN : N < 100000) : pw (hp_pA M (c + o) t (pj (i : Nat)) v) (hq_x M0 c n (hf_x o (64 + t, N, updV G i v) F) k s) :=
  hq_pA h ho (hf_s _ _ _) (hf_s _ _ _) (fun j hj => by rw [hf_n _ F hj, hf_n _ F hj]) hi hN
theorem hq_gR {M0 : ps_S} {c n : Nat} {F : Nat → zs_HC} {k s : Nat} {M : ps_S} {o t N i x : Nat} (h : hq_x M0 c n F k s M) (ho : o < n) (h1 : (F o).1 = t) (h2 : (F o).2.1 = N) (h3 : (F o).2.2 i = .ref x) (hi : i < N) : hp_gR M (c + o) t N i = some x := by
  obtain ⟨⟨t', N', G'⟩, e, q1, q2, q3⟩ := h.2.2 o ho
  unfold hp_gR hp_at
  rw [e]
  dsimp only at q1 q2 q3 ⊢
  rw [if_pos ⟨q1.trans h1, q2.trans h2⟩, q3 i (by rw [q2, h2]; exact hi), h3]
theorem hq_aR {M0 : ps_S} {c n : Nat} {F : Nat → zs_HC} {k s : Nat} {M : ps_S} {o t N i x : Nat} (h : hq_x M0 c n F k s M) (ho : o < n) (h1 : (F o).1 = 64 + t) (h2 : (F o).2.1 = N) (h3 : (F o).2.2 i = .ref x) (hi : i < N) (hN : N < 100000) : hp_aR M (c + o) t (pj (i : Nat)) = some x := by
  obtain ⟨⟨t', N', G'⟩, e, q1, q2, q3⟩ := h.2.2 o ho
  unfold hp_aR hp_at
  rw [e]
  dsimp only at q1 q2 q3 ⊢
  rw [if_pos ⟨q1.trans h1, pj_in (by omega) (by omega)⟩, pj_nat (by omega), Int.toNat_natCast, q3 i (by rw [q2, h2]; exact hi), h3]
theorem hq_ck {M0 : ps_S} {c n : Nat} {F : Nat → zs_HC} {k s : Nat} {M : ps_S} {o t : Nat} (h : hq_x M0 c n F k s M) (ho : o < n) (h1 : (F o).1 = t) : hp_ck M (c + o) t = some () := by
  obtain ⟨⟨t', N', G'⟩, e, q1, q2, q3⟩ := h.2.2 o ho
  unfold hp_ck hp_at
  rw [e]
  dsimp only at q1 q2 q3 ⊢
  rw [if_pos (q1.trans h1)]
theorem hq_ck0 {M0 : ps_S} {c n : Nat} {F : Nat → zs_HC} {k s : Nat} {M : ps_S} {a t : Nat} (h : hq_x M0 c n F k s M) (ha : a < c) (h1 : ∃ x, M0.2.1.2.2 a = some (t, x)) : hp_ck M a t = some () := by
  obtain ⟨x, e⟩ := h1
  unfold hp_ck hp_at
  rw [h.2.1 a ha, e]
  obtain ⟨x1, x2⟩ := x
  dsimp only
  rw [if_pos rfl]
/-! an array made and put into an open object -/
theorem hq_nv {α : Type} {M0 : ps_S} {c n o : Nat} {F : Nat → zs_HC} {k s : Nat} {M : ps_S} {t N t0 N0 i : Nat} {v : Value} {G : Nat → Value} {f : ps_S → Option α} {Q : α → Prop} (h : hq_x M0 c n (hf_x o (t0, N0, G) F) (k + 1) (s + N) M) (ho : o < n) (hN : N ≤ 100000) (hx : hc_eq (64 + t, N, fun _ => v) (F n)) (g : ∀ M', hq_x M0 c (n + 1) (hf_x o (t0, N0, updV G i (.ref (c + n))) F) k s M' → pw (f M') Q) :
    pw ((ps_na M t v (pj (N : Nat))).bind fun z => (hp_pV z.2 (c + o) t0 N0 i (.ref z.1)).bind fun M' => f M') Q := by
  refine pw_seq (hq_na h hN ?_) ?_
  · rw [hf_n _ F (by omega)]; exact hx
  · rintro ⟨z, M1⟩ ⟨rfl, h1⟩
    exact pw_seq (hq_pV h1 (by omega)) g
theorem hq_mv {α : Type} {M0 : ps_S} {c n o : Nat} {F : Nat → zs_HC} {k s : Nat} {M : ps_S} {a b t0 N0 i : Nat} {G : Nat → Value} {f : ps_S → Option α} {Q : α → Prop} (h : hq_x M0 c n (hf_x o (t0, N0, G) F) (k + (1 + a)) (s + (a + a * b)) M) (ho : o < n) (h0 : hc_eq (74, a, fun j => .ref (c + (n + 1 + j))) (F n)) (h1 : ∀ j, j < a → hc_eq (64, b, fun _ => .int 0) (F (n + 1 + j))) (g : ∀ M', hq_x M0 c (n + 1 + a) (hf_x o (t0, N0, updV G i (.ref (c + n))) F) k s M' → pw (f M') Q) :
    pw ((ps_mn M a b).bind fun z => (hp_pV z.2 (c + o) t0 N0 i (.ref z.1)).bind fun M' => f M') Q := by
  refine pw_seq (hq_mn h ?_ ?_) ?_
  · rw [hf_n _ F (by omega)]; exact h0
  · intro j hj
    rw [hf_n _ F (by omega)]; exact h1 j hj
  · rintro ⟨z, M1⟩ ⟨rfl, h2⟩
    exact pw_seq (hq_pV h2 (by omega)) g
/-! a village -/
def vb_x (c v i : Nat) : zs_HC := if i = 0 then (5, 12, fun k => if 5 ≤ k ∧ k ≤ 8 then .int 0 else .ref (c + (v + (if k < 5 then k + 1 else k - 3)))) else if i = 8 then (6, 2, fun k => if k = 1 then .int 0 else .ref (c + (v + 9))) else if i = 9 then (64, 9, fun _ => .int 0) else (64, 6, fun _ => .int 0)
theorem hq_X5 {w : Nat → Nat} {M0 : ps_S} {c n : Nat} {F : Nat → zs_HC} {k s : Nat} {M : ps_S} (h : hq_x M0 c (n + 1) (hf_x n (5, 12, fun k => defaultValue (tyX5 k)) F) (k + 9) (s + 53) M) (hF : ∀ i, i < 10 → hc_eq (vb_x c n i) (F (n + i))) : pw (gq_X5_init w M (c + n)) (hq_x M0 c (n + 10) F k s) := by
  have hv : ∀ i, 1 ≤ i → i < 8 → hc_eq (64 + 0, 6, fun _ => defaultValue .int) (F (n + i)) := fun i h1 h2 => by
    have := hF i (by omega)
    unfold vb_x at this
    rw [if_neg (by omega), if_neg (by omega), if_neg (by omega)] at this
    exact this
  unfold gq_X5_init
  refine hq_nv (N := 6) h (by omega) (by omega) (hv 1 (by omega) (by omega)) (fun M1 h1 => ?_)
  refine hq_nv (N := 6) h1 (by omega) (by omega) (hv 2 (by omega) (by omega)) (fun M2 h2 => ?_)
  refine hq_nv (N := 6) h2 (by omega) (by omega) (hv 3 (by omega) (by omega)) (fun M3 h3 => ?_)
  refine hq_nv (N := 6) h3 (by omega) (by omega) (hv 4 (by omega) (by omega)) (fun M4 h4 => ?_)
  refine hq_nv (N := 6) h4 (by omega) (by omega) (hv 5 (by omega) (by omega)) (fun M5 h5 => ?_)
  refine hq_nv (N := 6) h5 (by omega) (by omega) (hv 6 (by omega) (by omega)) (fun M6 h6 => ?_)
  refine hq_nv (N := 6) h6 (by omega) (by omega) (hv 7 (by omega) (by omega)) (fun M7 h7 => ?_)
  have h9 : ∀ X M8, hq_x M0 c (n + 9) (hf_x (n + 8) (6, 2, fun k => defaultValue (tyX6 k)) (hf_x n X F)) (k + 1) (s + 9) M8 → pw (gq_X6_init w M8 (c + (n + 8))) (hq_x M0 c (n + 10) (hf_x (n + 8) (6, 2, updV (fun k => defaultValue (tyX6 k)) 0 (.ref (c + (n + 9)))) (hf_x n X F)) k s) := fun X M8 h8 => by
    unfold gq_X6_init
    refine hq_nv (N := 9) h8 (by omega) (by omega) ?_ (fun M9 h9 => ?_)
    · rw [hf_n _ F (by omega)]
      exact hF 9 (by omega)
    · exact (pw_some _ _).2 h9
  refine pw_seq (hq_nwo h7) ?_
  rintro ⟨z, M8⟩ ⟨rfl, h8⟩
  refine pw_seq (h9 _ M8 h8) (fun M9 h9 => ?_)
  have h10 := hq_close h9 (by
    rw [hf_n _ F (by omega)]
    refine hc_tr (y := vb_x c n 8) ⟨rfl, rfl, fun k hk => ?_⟩ (hF 8 (by omega))
    have : k = 0 ∨ k = 1 := by have : k < 2 := hk; omega
    rcases this with rfl | rfl <;> rfl)
  refine pw_seq (hq_pV h10 (by omega)) (fun M11 h11 => ?_)
  rw [pw_some]
  refine hq_close h11 (hc_tr (y := vb_x c n 0) ⟨rfl, rfl, fun k hk => ?_⟩ (hF 0 (by omega)))
  have : k = 0 ∨ k = 1 ∨ k = 2 ∨ k = 3 ∨ k = 4 ∨ k = 5 ∨ k = 6 ∨ k = 7 ∨ k = 8 ∨ k = 9 ∨ k = 10 ∨ k = 11 := by have : k < 12 := hk; omega
  rcases this with rfl | rfl | rfl | rfl | rfl | rfl | rfl | rfl | rfl | rfl | rfl | rfl <;> rfl
/-! the fault, the tokens, the parser, the text -/
theorem hq_X1 {w : Nat → Nat} {M0 : ps_S} {c n : Nat} {F : Nat → zs_HC} {k s : Nat} {M : ps_S} (h : hq_x M0 c (n + 1) (hf_x n (1, 8, fun k => defaultValue (tyX1 k)) F) k s M) (hF : hc_eq (1, 8, fun k => if k = 3 then .ref (w 22) else if 5 ≤ k then .int 0 else .null) (F n)) : pw (gq_X1_init w M (c + n)) (hq_x M0 c (n + 1) F k s) := by
  unfold gq_X1_init gq_J2_init gq_J1_init gq_J0_init_2
  simp only [↓reduceIte, pw_bind]
  refine pw_mono (hq_pV h (by omega)) (fun M1 h1 => ?_)
  refine pw_mono (hq_pV h1 (by omega)) (fun M2 h2 => ?_)
  refine pw_mono (hq_pV h2 (by omega)) (fun M3 h3 => ?_)
  refine pw_mono (hq_pV h3 (by omega)) (fun M4 h4 => ?_)
  refine pw_mono (hq_pV h4 (by omega)) (fun M5 h5 => ?_)
  refine pw_mono (hq_pV h5 (by omega)) (fun M6 h6 => ?_)
  refine pw_mono (hq_pV h6 (by omega)) (fun M7 h7 => ?_)
  rw [pw_some, pw_some, pw_some, pw_some]
  refine hq_close h7 (hc_tr (y := (1, 8, fun k => if k = 3 then .ref (w 22) else if 5 ≤ k then .int 0 else .null)) ⟨rfl, rfl, fun k hk => ?_⟩ hF)
  have : k = 0 ∨ k = 1 ∨ k = 2 ∨ k = 3 ∨ k = 4 ∨ k = 5 ∨ k = 6 ∨ k = 7 := by have : k < 8 := hk; omega
  rcases this with rfl | rfl | rfl | rfl | rfl | rfl | rfl | rfl <;> rfl
theorem hq_X3 {w : Nat → Nat} {M0 : ps_S} {c n a b : Nat} {F : Nat → zs_HC} {k s : Nat} {M : ps_S} (h : hq_x M0 c (n + 1) (hf_x n (3, 7, fun k => defaultValue (tyX3 k)) F) k s M) (hF : hc_eq (3, 7, fun k => if k = 0 then .ref a else if k = 1 then .ref b else if k = 2 then .null else .int 0) (F n)) : pw (gq_X3_init w M (c + n) a b) (hq_x M0 c (n + 1) F k s) := by
  unfold gq_X3_init
  refine pw_seq (hq_pV h (by omega)) (fun M1 h1 => ?_)
  refine pw_seq (hq_pV h1 (by omega)) (fun M2 h2 => ?_)
  rw [pw_some]
  refine hq_close h2 (hc_tr (y := (3, 7, fun k => if k = 0 then .ref a else if k = 1 then .ref b else if k = 2 then .null else .int 0)) ⟨rfl, rfl, fun k hk => ?_⟩ hF)
  have : k = 0 ∨ k = 1 ∨ k = 2 ∨ k = 3 ∨ k = 4 ∨ k = 5 ∨ k = 6 := by have : k < 7 := hk; omega
  rcases this with rfl | rfl | rfl | rfl | rfl | rfl | rfl <;> rfl
theorem hq_wd {α : Type} {M0 : ps_S} {c n o : Nat} {F : Nat → zs_HC} {k s : Nat} {M : ps_S} {i a : Nat} {G : Nat → Value} {f : ps_S → Option α} {Q : α → Prop} (h : hq_x M0 c n (hf_x o (72, 22, G) F) k s M) (ho : o < n) (hi : i < 22) (ha : a < c) (hx : ∃ x, M0.2.1.2.2 a = some (18, x)) (g : ∀ M', hq_x M0 c n (hf_x o (72, 22, updV G i (.ref a)) F) k s M' → pw (f M') Q) :
    pw ((hp_ck M a 18).bind fun _ => (hp_pA M (c + o) 8 (pj (i : Nat)) (.ref a)).bind fun M' => f M') Q := by
  rw [hq_ck0 h ha hx, Option.bind_some]
  exact pw_seq (hq_pAo (t := 8) h ho hi (by omega)) g
def tk_b (w : Nat → Nat) (c n i : Nat) : zs_HC := if i = 0 then (2, 8, fun k => if k = 2 ∨ k = 7 then .int 0 else .ref (c + (n + (if k < 2 then k + 1 else k)))) else if i = 1 then (72, 22, fun i => .ref (w i)) else if i = 2 then (65, 2000, fun _ => .int 0) else if i = 3 then (65, 2001, fun _ => .int 0) else (66, 2001, fun _ => .int 0)
theorem hq_X2 {w : Nat → Nat} {M0 : ps_S} {c n : Nat} {F : Nat → zs_HC} {k s : Nat} {M : ps_S} (h : hq_x M0 c (n + 1) (hf_x n (2, 8, fun k => defaultValue (tyX2 k)) F) (k + 6) (s + 10026) M) (hw : ∀ j, j < 22 → w j < c ∧ ∃ x, M0.2.1.2.2 (w j) = some (18, x)) (hF : ∀ i, i < 7 → hc_eq (tk_b w c n i) (F (n + i))) : pw (gq_X2_init w M (c + n)) (hq_x M0 c (n + 7) F k s) := by
  unfold gq_X2_init
  refine pw_seq (hq_nao (N := 22) h (by omega)) ?_
  rintro ⟨z, M1⟩ ⟨rfl, h1⟩
  refine hq_wd (i := 0) h1 (by omega) (by omega) (hw 0 (by omega)).1 (hw 0 (by omega)).2 (fun M2 h2 => ?_)
  refine hq_wd (i := 1) h2 (by omega) (by omega) (hw 1 (by omega)).1 (hw 1 (by omega)).2 (fun M3 h3 => ?_)
  refine hq_wd (i := 2) h3 (by omega) (by omega) (hw 2 (by omega)).1 (hw 2 (by omega)).2 (fun M4 h4 => ?_)
  refine hq_wd (i := 3) h4 (by omega) (by omega) (hw 3 (by omega)).1 (hw 3 (by omega)).2 (fun M5 h5 => ?_)
  refine hq_wd (i := 4) h5 (by omega) (by omega) (hw 4 (by omega)).1 (hw 4 (by omega)).2 (fun M6 h6 => ?_)
  refine hq_wd (i := 5) h6 (by omega) (by omega) (hw 5 (by omega)).1 (hw 5 (by omega)).2 (fun M7 h7 => ?_)
  refine hq_wd (i := 6) h7 (by omega) (by omega) (hw 6 (by omega)).1 (hw 6 (by omega)).2 (fun M8 h8 => ?_)
  refine hq_wd (i := 7) h8 (by omega) (by omega) (hw 7 (by omega)).1 (hw 7 (by omega)).2 (fun M9 h9 => ?_)
  refine hq_wd (i := 8) h9 (by omega) (by omega) (hw 8 (by omega)).1 (hw 8 (by omega)).2 (fun M10 h10 => ?_)
  refine hq_wd (i := 9) h10 (by omega) (by omega) (hw 9 (by omega)).1 (hw 9 (by omega)).2 (fun M11 h11 => ?_)
  refine hq_wd (i := 10) h11 (by omega) (by omega) (hw 10 (by omega)).1 (hw 10 (by omega)).2 (fun M12 h12 => ?_)
  refine hq_wd (i := 11) h12 (by omega) (by omega) (hw 11 (by omega)).1 (hw 11 (by omega)).2 (fun M13 h13 => ?_)
  refine hq_wd (i := 12) h13 (by omega) (by omega) (hw 12 (by omega)).1 (hw 12 (by omega)).2 (fun M14 h14 => ?_)
  refine hq_wd (i := 13) h14 (by omega) (by omega) (hw 13 (by omega)).1 (hw 13 (by omega)).2 (fun M15 h15 => ?_)
  refine hq_wd (i := 14) h15 (by omega) (by omega) (hw 14 (by omega)).1 (hw 14 (by omega)).2 (fun M16 h16 => ?_)
  refine hq_wd (i := 15) h16 (by omega) (by omega) (hw 15 (by omega)).1 (hw 15 (by omega)).2 (fun M17 h17 => ?_)
  refine hq_wd (i := 16) h17 (by omega) (by omega) (hw 16 (by omega)).1 (hw 16 (by omega)).2 (fun M18 h18 => ?_)
  refine hq_wd (i := 17) h18 (by omega) (by omega) (hw 17 (by omega)).1 (hw 17 (by omega)).2 (fun M19 h19 => ?_)
  refine hq_wd (i := 18) h19 (by omega) (by omega) (hw 18 (by omega)).1 (hw 18 (by omega)).2 (fun M20 h20 => ?_)
  refine hq_wd (i := 19) h20 (by omega) (by omega) (hw 19 (by omega)).1 (hw 19 (by omega)).2 (fun M21 h21 => ?_)
  refine hq_wd (i := 20) h21 (by omega) (by omega) (hw 20 (by omega)).1 (hw 20 (by omega)).2 (fun M22 h22 => ?_)
  refine hq_wd (i := 21) h22 (by omega) (by omega) (hw 21 (by omega)).1 (hw 21 (by omega)).2 (fun M23 h23 => ?_)
  have hc := hq_close h23 (by
    rw [hf_n _ F (by omega)]
    refine hc_tr (y := tk_b w c n 1) ⟨rfl, rfl, fun k hk => ?_⟩ (hF 1 (by omega))
    have : k = 0 ∨ k = 1 ∨ k = 2 ∨ k = 3 ∨ k = 4 ∨ k = 5 ∨ k = 6 ∨ k = 7 ∨ k = 8 ∨ k = 9 ∨ k = 10 ∨ k = 11 ∨ k = 12 ∨ k = 13 ∨ k = 14 ∨ k = 15 ∨ k = 16 ∨ k = 17 ∨ k = 18 ∨ k = 19 ∨ k = 20 ∨ k = 21 := by have : k < 22 := hk; omega
    rcases this with rfl | rfl | rfl | rfl | rfl | rfl | rfl | rfl | rfl | rfl | rfl | rfl | rfl | rfl | rfl | rfl | rfl | rfl | rfl | rfl | rfl | rfl <;> rfl)
  clear h1 h2 h3 h4 h5 h6 h7 h8 h9 h10 h11 h12 h13 h14 h15 h16 h17 h18 h19 h20 h21 h22 h23
  refine pw_seq (hq_pV hc (by omega)) (fun M24 h24 => ?_)
  refine hq_nv (N := 2000) h24 (by omega) (by omega) (hF 2 (by omega)) (fun M25 h25 => ?_)
  refine hq_nv (N := 2001) h25 (by omega) (by omega) (hF 3 (by omega)) (fun M26 h26 => ?_)
  refine hq_nv (N := 2001) h26 (by omega) (by omega) (hF 4 (by omega)) (fun M27 h27 => ?_)
  refine hq_nv (N := 2001) h27 (by omega) (by omega) (hF 5 (by omega)) (fun M28 h28 => ?_)
  refine hq_nv (N := 2001) h28 (by omega) (by omega) (hF 6 (by omega)) (fun M29 h29 => ?_)
  rw [pw_some]
  refine hq_close h29 (hc_tr (y := tk_b w c n 0) ⟨rfl, rfl, fun k hk => ?_⟩ (hF 0 (by omega)))
  have : k = 0 ∨ k = 1 ∨ k = 2 ∨ k = 3 ∨ k = 4 ∨ k = 5 ∨ k = 6 ∨ k = 7 := by have : k < 8 := hk; omega
  rcases this with rfl | rfl | rfl | rfl | rfl | rfl | rfl | rfl <;> rfl
/-! the text -/
def tk_t (w : Nat → Nat) (c n i : Nat) : zs_HC := if i = 0 then (4, 8, fun k => if k < 3 then .ref (c + (n + (k + 1))) else if k = 4 then .int 20 else if k = 5 then .int 10 else .int 0) else if i = 1 then (17, 3, fun k => if k = 1 then .ref (w 100) else .int 0) else if i = 2 then (69, 4, fun _ => .null) else if i = 3 then (74, 6, fun j => .ref (c + (n + (4 + j)))) else (64, 6, fun _ => .int 5)
def tk_r (n i j : Nat) (F : Nat → zs_HC) : Nat → zs_HC := fun q => if n + 4 ≤ q ∧ q < n + 10 then (64, 6, fun p => if q - (n + 4) < i ∨ (q - (n + 4) = i ∧ p < j) then .int 5 else .int 0) else F q
theorem hq_X4w {w : Nat → Nat} {M0 : ps_S} {c n : Nat} {F : Nat → zs_HC} {k s : Nat} {M : ps_S} {G : Nat → Value} (hG : G 2 = .ref (c + (n + 3))) (hF3 : hc_eq (74, 6, fun j => .ref (c + (n + (4 + j)))) (F (n + 3))) (hF3e : F (n + 3) = (74, 6, fun j => .ref (c + (n + (4 + j))))) (h : hq_x M0 c (n + 10) (hf_x n (4, 8, G) (tk_r n 0 0 F)) k s M) : pw (zs_loop 5000 (gq_X4_init_L49 (c + n)) (0, M)) (hq_x M0 c (n + 10) (hf_x n (4, 8, G) (tk_r n 6 0 F)) k s) := by
  refine pw_for 6 (fun i t => t.1 = pj (i : Nat) ∧ hq_x M0 c (n + 10) (hf_x n (4, 8, G) (tk_r n i 0 F)) k s t.2) 5000 (by omega) ?_ ?_ (0, M) ⟨rfl, h⟩
  · rintro i ⟨_, M1⟩ hi ⟨rfl, h1⟩
    unfold gq_X4_init_L49
    dsimp only
    rw [if_pos (by rw [show (6 : Int32) = pj 6 from rfl, pj_lt (by omega) (by omega)]; omega)]
    refine pw_seq (Q := hq_x M0 c (n + 10) (hf_x n (4, 8, G) (tk_r n i 6 F)) k s) ?_ (fun M2 h2 => ?_)
    · refine pw_for 6 (fun j t => t.1 = pj (j : Nat) ∧ hq_x M0 c (n + 10) (hf_x n (4, 8, G) (tk_r n i j F)) k s t.2) 5000 (by omega) ?_ ?_ (0, M1) ⟨rfl, h1⟩
      · rintro j ⟨_, M2⟩ hj ⟨rfl, h2⟩
        unfold gq_X4_init_L57
        dsimp only
        rw [if_pos (by rw [show (6 : Int32) = pj 6 from rfl, pj_lt (by omega) (by omega)]; omega)]
        rw [hq_gR (x := c + (n + 3)) h2 (by omega) (by rw [hf_s]) (by rw [hf_s]) (by rw [hf_s]; exact hG) (by omega), Option.bind_some]
        have e3 : hf_x n (4, 8, G) (tk_r n i j F) (n + 3) = (74, 6, fun j => .ref (c + (n + (4 + j)))) := by
          rw [hf_n _ _ (by omega)]
          unfold tk_r
          rw [if_neg (by omega)]; exact hF3e
        rw [hq_aR (N := 6) (x := c + (n + (4 + i))) h2 (by omega) (by rw [e3]) (by rw [e3]) (by rw [e3]) hi (by omega), Option.bind_some]
        refine pw_seq (hq_pA (F' := hf_x n (4, 8, G) (tk_r n i (j + 1) F)) (G := fun p => if i < i ∨ (i = i ∧ p < j) then .int 5 else .int 0) h2 (by omega) ?_ ?_ ?_ hj (by omega)) (fun M3 h3 => ?_)
        · rw [hf_n _ _ (by omega)]
          unfold tk_r
          rw [if_pos (by omega), show n + (4 + i) - (n + 4) = i by omega]
        · rw [hf_n _ _ (by omega)]
          unfold tk_r
          rw [if_pos (by omega), show n + (4 + i) - (n + 4) = i by omega]
          refine Prod.ext rfl (Prod.ext rfl (funext fun p => ?_))
          show (if i < i ∨ (i = i ∧ p < j + 1) then Value.int 5 else .int 0) = if p = j then .int 5 else if i < i ∨ (i = i ∧ p < j) then .int 5 else .int 0
          by_cases c1 : p = j
          · rw [if_pos (by omega), if_pos c1]
          · rw [if_neg c1]
            by_cases c2 : p < j
            · rw [if_pos (by omega), if_pos (by omega)]
            · rw [if_neg (by omega), if_neg (by omega)]
        · intro q hq_x
          by_cases c0 : q = n
          · subst c0; rw [hf_s, hf_s]
          · rw [hf_n _ _ c0, hf_n _ _ c0]
            unfold tk_r
            by_cases c1 : n + 4 ≤ q ∧ q < n + 10
            · rw [if_pos c1, if_pos c1]
              refine Prod.ext rfl (Prod.ext rfl (funext fun p => ?_))
              show (if q - (n + 4) < i ∨ (q - (n + 4) = i ∧ p < j + 1) then Value.int 5 else .int 0) = if q - (n + 4) < i ∨ (q - (n + 4) = i ∧ p < j) then .int 5 else .int 0
              by_cases c2 : q - (n + 4) < i
              · rw [if_pos (Or.inl c2), if_pos (Or.inl c2)]
              · rw [if_neg (by omega), if_neg (by omega)]
            · rw [if_neg c1, if_neg c1]
        · rw [pw_some]
          exact ⟨by show pj (j : Nat) + 1 = _; rw [pj_1, pj_add]; rfl, h3⟩
      · rintro ⟨_, M2⟩ ⟨rfl, h2⟩
        unfold gq_X4_init_L57
        dsimp only
        rw [if_neg (by rw [show (6 : Int32) = pj 6 from rfl, pj_lt (by omega) (by omega)]; omega), pw_some]
        exact h2
    · rw [pw_some]
      refine ⟨by show pj (i : Nat) + 1 = _; rw [pj_1, pj_add]; rfl, hq_to h2 (fun q hq_x => ?_) (Nat.le_refl _) (Nat.le_refl _)⟩
      by_cases c0 : q = n
      · subst c0; rw [hf_s, hf_s]; exact hc_rfl _
      · rw [hf_n _ _ c0, hf_n _ _ c0]
        unfold tk_r
        by_cases c1 : n + 4 ≤ q ∧ q < n + 10
        · rw [if_pos c1, if_pos c1]
          refine ⟨rfl, rfl, fun p hp => ?_⟩
          have hp : p < 6 := hp
          show (if q - (n + 4) < i ∨ (q - (n + 4) = i ∧ p < 6) then Value.int 5 else .int 0) = if q - (n + 4) < i + 1 ∨ (q - (n + 4) = i + 1 ∧ p < 0) then .int 5 else .int 0
          by_cases c2 : q - (n + 4) < i + 1
          · rw [if_pos (by omega), if_pos (by omega)]
          · rw [if_neg (by omega), if_neg (by omega)]
        · rw [if_neg c1, if_neg c1]; exact hc_rfl _
  · rintro ⟨_, M1⟩ ⟨rfl, h1⟩
    unfold gq_X4_init_L49
    dsimp only
    rw [if_neg (by rw [show (6 : Int32) = pj 6 from rfl, pj_lt (by omega) (by omega)]; omega), pw_some]
    exact h1
theorem hq_X4 {w : Nat → Nat} {M0 : ps_S} {c n : Nat} {F : Nat → zs_HC} {k s : Nat} {M : ps_S} (h : hq_x M0 c (n + 1) (hf_x n (4, 8, fun k => defaultValue (tyX4 k)) F) (k + 9) (s + 49) M) (hF : ∀ i, i < 10 → F (n + i) = tk_t w c n i) : pw (gq_X4_init w M (c + n)) (hq_x M0 c (n + 10) F k s) := by
  have hj5 : ∀ X M1, hq_x M0 c (n + 2) (hf_x (n + 1) (17, 3, fun k => defaultValue (tyJ5 k)) (hf_x n X F)) (k + 8) (s + 46) M1 → pw (gq_J5_init w M1 (c + (n + 1))) (hq_x M0 c (n + 2) (hf_x n X F) (k + 8) (s + 46)) := fun X M1 h1 => by
    unfold gq_J5_init gq_J4_init gq_J3_init
    rw [Option.bind_some]
    simp only [pw_bind]
    refine pw_mono (hq_pV h1 (by omega)) (fun M2 h2 => ?_)
    rw [pw_some]
    refine pw_mono (hq_pV h2 (by omega)) (fun M3 h3 => ?_)
    rw [pw_some]
    refine hq_close h3 ?_
    rw [hf_n _ F (by omega), hF 1 (by omega)]
    refine ⟨rfl, rfl, fun k hk => ?_⟩
    have : k = 0 ∨ k = 1 ∨ k = 2 := by have : k < 3 := hk; omega
    rcases this with rfl | rfl | rfl <;> rfl
  unfold gq_X4_init
  refine pw_seq (hq_nwo h) ?_
  rintro ⟨z, M1⟩ ⟨rfl, h1⟩
  refine pw_seq (hj5 _ M1 h1) (fun M2 h2 => ?_)
  refine pw_seq (hq_pV h2 (by omega)) (fun M3 h3 => ?_)
  refine hq_nv (N := 4) h3 (by omega) (by omega) (by rw [show n + 2 = n + 2 from rfl, hF 2 (by omega)]; exact hc_rfl _) (fun M4 h4 => ?_)
  have h4' := hq_to (F' := hf_x n (4, 8, updV (updV (fun k => defaultValue (tyX4 k)) 0 (.ref (c + (n + 1)))) 1 (.ref (c + (n + 2)))) (tk_r n 0 0 F)) h4 (fun j hj => by
    by_cases c0 : j = n
    · subst c0; rw [hf_s, hf_s]; exact hc_rfl _
    · rw [hf_n _ _ c0, hf_n _ _ c0]
      unfold tk_r
      rw [if_neg (by omega)]; exact hc_rfl _) (Nat.le_refl _) (Nat.le_refl _)
  clear h h1 h2 h3 h4
  refine hq_mv (k := k) (s := s) h4' (by omega) ?_ ?_ (fun M5 h5 => ?_)
  · unfold tk_r
    rw [if_neg (by omega), hF 3 (by omega)]
    exact ⟨rfl, rfl, fun j _ => congrArg Value.ref (show (c + (n + 2 + 1 + 1 + j) : Nat) = c + (n + (4 + j)) by omega)⟩
  · intro j hj
    unfold tk_r
    rw [if_pos (by omega)]
    refine ⟨rfl, rfl, fun p hp => ?_⟩
    have hp : p < 6 := hp
    show Value.int 0 = if n + 3 + 1 + j - (n + 4) < 0 ∨ (n + 3 + 1 + j - (n + 4) = 0 ∧ p < 0) then Value.int 5 else .int 0
    rw [if_neg (by omega)]
  refine pw_seq (hq_pV h5 (by omega)) (fun M6 h6 => ?_)
  refine pw_seq (hq_pV h6 (by omega)) (fun M7 h7 => ?_)
  refine pw_seq (hq_X4w (w := w) (F := F) rfl (by rw [hF 3 (by omega)]; exact hc_rfl _) (hF 3 (by omega)) h7) (fun M8 h8 => ?_)
  rw [pw_some]
  refine hq_to h8 (fun j hj => ?_) (Nat.le_refl _) (Nat.le_refl _)
  by_cases c0 : j = n
  · rw [c0, hf_s, show F n = _ from hF 0 (by omega)]
    refine ⟨rfl, rfl, fun k hk => ?_⟩
    have : k = 0 ∨ k = 1 ∨ k = 2 ∨ k = 3 ∨ k = 4 ∨ k = 5 ∨ k = 6 ∨ k = 7 := by have : k < 8 := hk; omega
    rcases this with rfl | rfl | rfl | rfl | rfl | rfl | rfl | rfl <;> rfl
  · rw [hf_n _ _ c0]
    unfold tk_r
    by_cases c1 : n + 4 ≤ j ∧ j < n + 10
    · rw [if_pos c1]
      obtain ⟨i, rfl⟩ : ∃ i, j = n + i := ⟨j - n, by omega⟩
      rw [hF i (by omega)]
      unfold tk_t
      rw [if_neg (by omega), if_neg (by omega), if_neg (by omega), if_neg (by omega)]
      refine ⟨rfl, rfl, fun p hp => ?_⟩
      show (if n + i - (n + 4) < 6 ∨ (n + i - (n + 4) = 6 ∧ p < 0) then Value.int 5 else .int 0) = .int 5
      rw [if_pos (by omega)]
    · rw [if_neg c1]; exact hc_rfl _
/-! HairRope's constructor makes the component's cells -/
def cC_x (w : Nat → Nat) (c j : Nat) : zs_HC := if 10 ≤ j ∧ j < 20 then tk_t w c 10 (j - 10) else cs_cell (w, zt_T0 c, .null) c cs_S0 j
theorem cC_in {w : Nat → Nat} {c j : Nat} (h : ¬ (10 ≤ j ∧ j < 20)) : cC_x w c j = cs_cell (w, zt_T0 c, .null) c cs_S0 j := if_neg h
theorem cs_vi_va {t i : Nat} (ht : t < 45) (hi : i < 10) : cs_vi (cs_va t + i) = some (t, i) := by
  unfold cs_va
  by_cases h0 : t = 0
  · subst h0
    rw [if_pos rfl]
    unfold cs_vi
    rw [if_pos (by omega)]; congr 2; omega
  · rw [if_neg h0]
    by_cases h1 : t = 1
    · subst h1
      rw [if_pos rfl]
      unfold cs_vi
      rw [if_neg (by omega), if_pos (by omega)]; congr 2; omega
    · rw [if_neg h1]
      by_cases h2 : t < 42
      · rw [if_pos h2]
        unfold cs_vi
        rw [if_neg (by omega), if_neg (by omega), if_neg (by omega), if_pos (by omega)]
        congr 2 <;> omega
      · rw [if_neg h2]
        unfold cs_vi
        rw [if_neg (by omega), if_neg (by omega), if_pos (by omega)]
        congr 2 <;> omega
theorem cs_va_out {t i : Nat} (hi : i < 10) : ¬ (10 ≤ cs_va t + i ∧ cs_va t + i < 20) := by
  unfold cs_va
  split
  · omega
  · split
    · omega
    · split <;> omega
theorem cC_v {w : Nat → Nat} {c t i : Nat} (ht : t < 45) (hi : i < 10) : hc_eq (vb_x c (cs_va t) i) (cC_x w c (cs_va t + i)) := by
  rw [cC_in (cs_va_out hi)]
  have e := cs_vi_va ht hi
  unfold cs_cell cs_key cs_ob
  rw [e]
  dsimp only
  have t1 : ∀ k, cs_tg (10 + t) k = 64 := fun k => by unfold cs_tg; rw [if_neg (by omega), if_neg (by omega)]
  have t2 : ∀ k, k ≠ 11 → cs_ln (10 + t) k = 6 := fun k hk => by unfold cs_ln; rw [if_neg (by omega), if_neg (by omega), if_neg (by omega)]
  have t3 : cs_ln (10 + t) 11 = 9 := by unfold cs_ln; rw [if_neg (by omega), if_neg (by omega), if_pos (by omega)]
  by_cases h0 : i = 0
  · subst h0
    rw [if_pos (Or.inl rfl), if_pos rfl]
    dsimp only
    refine ⟨?_, ?_, fun k hk => ?_⟩
    · show 5 = cs_cl (10 + t)
      unfold cs_cl; rw [if_neg (by omega), if_pos (by omega)]
    · show 12 = cs_nf (10 + t)
      unfold cs_nf; rw [if_neg (by omega), if_neg (by omega), if_neg (by omega), if_pos (by omega)]
    · show (if 5 ≤ k ∧ k ≤ 8 then Value.int 0 else .ref (c + (cs_va t + (if k < 5 then k + 1 else k - 3)))) = if cs_sc (10 + t) k = true then .int (cs_S0.1 (10 + t) k) else cs_cv (w, zt_T0 c, .null) c (10 + t) k
      have e1 : cs_sc (10 + t) k = decide (5 ≤ k ∧ k ≤ 8) := by
        unfold cs_sc; rw [if_neg (by omega), if_neg (by omega), if_neg (by omega), if_neg (by omega), if_pos (by omega)]
      have e2 : cs_S0.1 (10 + t) k = 0 := by
        show (if 10 + t = 0 ∧ k = 4 then (-1 : Int32) else 0) = 0
        rw [if_neg (by omega)]
      have e3 : cs_cv (w, zt_T0 c, .null) c (10 + t) k = .ref (c + (cs_va t + (if k < 5 then k + 1 else k - 3))) := by
        unfold cs_cv
        rw [if_neg (by omega), if_neg (by omega), if_neg (by omega), if_neg (by omega), if_pos (by omega), show 10 + t - 10 = t by omega]
      rw [e1, e2, e3]
      by_cases q : 5 ≤ k ∧ k ≤ 8
      · rw [if_pos q, if_pos (by simpa using q)]
      · rw [if_neg (c := 5 ≤ k ∧ k ≤ 8) q, if_neg (fun hh => q (of_decide_eq_true hh))]
  · by_cases h8 : i = 8
    · subst h8
      rw [if_pos (Or.inr rfl), if_neg (by omega), if_pos rfl]
      dsimp only
      refine ⟨?_, ?_, fun k hk => ?_⟩
      · show 6 = cs_cl (110 + t)
        unfold cs_cl; rw [if_neg (by omega), if_neg (by omega), if_pos (by omega)]
      · show 2 = cs_nf (110 + t)
        unfold cs_nf; rw [if_neg (by omega), if_neg (by omega), if_neg (by omega), if_neg (by omega), if_pos (by omega)]
      · show (if k = 1 then Value.int 0 else .ref (c + (cs_va t + 9))) = if cs_sc (110 + t) k = true then .int (cs_S0.1 (110 + t) k) else cs_cv (w, zt_T0 c, .null) c (110 + t) k
        have e1 : cs_sc (110 + t) k = decide (k = 1) := by
          unfold cs_sc; rw [if_neg (by omega), if_neg (by omega), if_neg (by omega), if_neg (by omega), if_neg (by omega)]
        have e2 : cs_S0.1 (110 + t) k = 0 := by
          show (if 110 + t = 0 ∧ k = 4 then (-1 : Int32) else 0) = 0
          rw [if_neg (by omega)]
        have e3 : cs_cv (w, zt_T0 c, .null) c (110 + t) k = .ref (c + (cs_va t + 9)) := by
          unfold cs_cv
          rw [if_neg (by omega), if_neg (by omega), if_neg (by omega), if_neg (by omega), if_neg (by omega), show 110 + t - 110 = t by omega]
        rw [e1, e2, e3]
        by_cases q : k = 1
        · rw [if_pos q, if_pos (by simpa using q)]
        · rw [if_neg q, if_neg (by simpa using q)]
    · rw [if_neg (by omega)]
      dsimp only
      rw [t1]
      unfold vb_x
      rw [if_neg h0, if_neg h8]
      by_cases h9 : i = 9
      · subst h9
        rw [if_pos rfl, show cs_vf 9 = 11 from rfl, t3]
        exact hc_rfl _
      · rw [if_neg h9, t2 _ (by unfold cs_vf; split <;> (try split) <;> omega)]
        exact hc_rfl _
theorem cC_row {w : Nat → Nat} {c a o n j : Nat} (hk : ∀ j, j < n → cs_key (a + j) = some (o, j)) (ht : ∀ j, cs_tg o j = 64 ∧ cs_ln o j = 6) (ha : 20 ≤ a) (hj : j < n) : hc_eq (64, 6, fun _ => .int 0) (cC_x w c (a + j)) := by
  rw [cC_in (by omega)]
  unfold cs_cell
  rw [hk j hj]
  dsimp only
  rw [(ht j).1, (ht j).2]
  exact hc_rfl _
theorem cC_k1 : ∀ j, j < 64 → cs_key (76 + j) = some (60, j) := by decide
theorem cC_k2 : ∀ j, j < 6 → cs_key (141 + j) = some (61, j) := by decide
theorem cC_k3 : ∀ j, j < 6 → cs_key (155 + j) = some (62, j) := by decide
theorem cC_t {o : Nat} (h : o = 60 ∨ o = 61 ∨ o = 62) : ∀ j, cs_tg o j = 64 ∧ cs_ln o j = 6 := fun j => by
  unfold cs_tg cs_ln
  rw [if_neg (by omega), if_neg (by omega), if_neg (by omega), if_neg (by omega), if_neg (by omega)]
  exact ⟨rfl, rfl⟩
theorem hf_comm {o p : Nat} (x y : zs_HC) (F : Nat → zs_HC) (h : o ≠ p) : hf_x o x (hf_x p y F) = hf_x p y (hf_x o x F) := funext fun j => by
  unfold hf_x
  by_cases a : j = o
  · by_cases b : j = p
    · omega
    · rw [if_pos a, if_neg b, if_pos a]
  · rw [if_neg a, if_neg a]
/-- the past's villages -/
def cC_A (c i : Nat) : Nat → Value := fun p => if p < i then .ref (c + cs_va (2 + p)) else .null
theorem hq_L253 {w : Nat → Nat} {M0 : ps_S} {c : Nat} {k s : Nat} {M : ps_S} {G : Nat → Value} (hG : G 9 = .ref (c + 40)) (h : hq_x M0 c 161 (hf_x 0 (0, 27, G) (hf_x 40 (71, 40, fun _ => .null) (cC_x w c))) (k + 400) (s + 2600) M) : pw (zs_loop 5000 (gq_X0_init_L253 (c + 0) w) (0, M)) (hq_x M0 c 561 (hf_x 0 (0, 27, G) (cC_x w c)) k s) := by
  have h0 : hq_x M0 c 161 (hf_x 0 (0, 27, G) (hf_x 40 (71, 40, cC_A c 0) (cC_x w c))) (k + 400) (s + 2600) M := by
    have e : cC_A c 0 = fun _ => .null := funext fun p => if_neg (by omega)
    rw [e]; exact h
  refine pw_for 40 (fun i t => t.1 = pj (i : Nat) ∧ hq_x M0 c (161 + 10 * i) (hf_x 0 (0, 27, G) (hf_x 40 (71, 40, cC_A c i) (cC_x w c))) (k + 10 * (40 - i)) (s + 65 * (40 - i)) t.2) 5000 (by omega) ?_ ?_ (0, M) ⟨rfl, h0⟩
  · rintro i ⟨_, M1⟩ hi ⟨rfl, h1⟩
    unfold gq_X0_init_L253
    dsimp only
    rw [if_pos (by rw [show (40 : Int32) = pj 40 from rfl, pj_lt (by omega) (by omega)]; omega)]
    have hva : cs_va (2 + i) = 161 + 10 * i := by
      unfold cs_va
      rw [if_neg (by omega), if_neg (by omega), if_pos (by omega)]; omega
    rw [hq_gR (x := c + 40) h1 (by omega) (by rw [hf_s]) (by rw [hf_s]) (by rw [hf_s]; exact hG) (by omega), Option.bind_some]
    have h1' := hq_to (k' := k + 10 * (40 - (i + 1)) + 9 + 1) (s' := s + 65 * (40 - (i + 1)) + 53 + 12) h1 (fun j _ => hc_rfl _) (by omega) (by omega)
    refine pw_seq (hq_nwo h1') ?_
    rintro ⟨z, M2⟩ ⟨rfl, h2⟩
    refine pw_seq (hq_X5 h2 (fun q hq_x => ?_)) (fun M3 h3 => ?_)
    · rw [hf_n _ _ (by omega), hf_n _ _ (by omega), ← hva]
      exact cC_v (by omega) hq_x
    have e5 : (hf_x 0 (0, 27, G) (hf_x 40 (71, 40, cC_A c i) (cC_x w c)) (161 + 10 * i)).1 = 5 := by
      rw [hf_n _ _ (by omega), hf_n _ _ (by omega), ← hva]
      exact (cC_v (w := w) (c := c) (t := 2 + i) (i := 0) (by omega) (by omega)).1.symm
    rw [hq_ck h3 (by omega) e5, Option.bind_some]
    refine pw_seq (hq_pA (F' := hf_x 0 (0, 27, G) (hf_x 40 (71, 40, cC_A c (i + 1)) (cC_x w c))) (o := 40) (N := 40) (i := i) (G := cC_A c i) (t := 7) h3 (by omega) ?_ ?_ ?_ hi (by omega)) (fun M4 h4 => ?_)
    · rw [hf_n _ _ (by omega), hf_s]
    · rw [hf_n _ _ (by omega), hf_s]
      refine Prod.ext rfl (Prod.ext rfl (funext fun p => ?_))
      show (if p < i + 1 then Value.ref (c + cs_va (2 + p)) else .null) = if p = i then .ref (c + (161 + 10 * i)) else if p < i then .ref (c + cs_va (2 + p)) else .null
      by_cases c1 : p = i
      · subst c1
        rw [if_pos (by omega), if_pos rfl, hva]
      · rw [if_neg c1]
        by_cases c2 : p < i
        · rw [if_pos (by omega), if_pos c2]
        · rw [if_neg (by omega), if_neg c2]
    · intro j hj
      by_cases c0 : j = 0
      · subst c0; rw [hf_s, hf_s]
      · rw [hf_n _ _ c0, hf_n _ _ c0, hf_n _ _ hj, hf_n _ _ hj]
    · rw [pw_some]
      exact ⟨by show pj (i : Nat) + 1 = _; rw [pj_1, pj_add]; rfl, h4⟩
  · rintro ⟨_, M1⟩ ⟨rfl, h1⟩
    unfold gq_X0_init_L253
    dsimp only
    rw [if_neg (by rw [show (40 : Int32) = pj 40 from rfl, pj_lt (by omega) (by omega)]; omega), pw_some]
    refine hq_to h1 (fun j hj => ?_) (by omega) (by omega)
    by_cases c0 : j = 0
    · subst c0; rw [hf_s, hf_s]; exact hc_rfl _
    · rw [hf_n _ _ c0, hf_n _ _ c0]
      by_cases c1 : j = 40
      · subst c1
        rw [hf_s, cC_in (by omega)]
        refine ⟨rfl, rfl, fun p hp => ?_⟩
        have hp : p < 40 := hp
        show (if p < 40 then Value.ref (c + cs_va (2 + p)) else .null) = .ref (c + cs_va (2 + p))
        rw [if_pos hp]
      · rw [hf_n _ _ c1]; exact hc_rfl _
theorem hq_X0 {w : Nat → Nat} {M0 : ps_S} {c : Nat} {k s : Nat} {M : ps_S} {Q : ps_S → Prop} (h : hq_x M0 c 1 (hf_x 0 (0, 27, fun k => defaultValue (tyX0 k)) (cC_x w c)) (k + 560) (s + 13751) M) (hw : ∀ j, j < 22 → w j < c ∧ ∃ x, M0.2.1.2.2 (w j) = some (18, x)) (g : ∀ M', hq_x M0 c 561 (cC_x w c) k s M' → pw (hp_end w M' (c + 0)) Q) : pw (gq_X0_init w M (c + 0)) Q := by
  have hv : ∀ (X : zs_HC) (t i : Nat), t < 45 → i < 10 → hc_eq (vb_x c (cs_va t) i) (hf_x 0 X (cC_x w c) (cs_va t + i)) := fun X t i ht hi => by
    rw [hf_n _ _ (by unfold cs_va; split <;> (try split) <;> (try split) <;> omega)]
    exact cC_v ht hi
  have hv4 : ∀ (X Y : zs_HC) (t i : Nat), t < 45 → i < 10 → hc_eq (vb_x c (cs_va t) i) (hf_x 0 X (hf_x 40 Y (cC_x w c)) (cs_va t + i)) := fun X Y t i ht hi => by
    rw [hf_comm _ _ _ (by omega), hf_n _ _ (by unfold cs_va; split <;> (try split) <;> (try split) <;> omega)]
    exact hv X t i ht hi
  have hv41 : ∀ (X Y Z : zs_HC) (t i : Nat), t < 45 → i < 10 → hc_eq (vb_x c (cs_va t) i) (hf_x 41 Z (hf_x 0 X (hf_x 40 Y (cC_x w c))) (cs_va t + i)) := fun X Y Z t i ht hi => by
    rw [hf_n _ _ (by unfold cs_va; split <;> (try split) <;> (try split) <;> omega)]
    exact hv4 X Y t i ht hi
  unfold gq_X0_init
  refine pw_seq (hq_nwo h) ?_
  rintro ⟨z1, M1⟩ ⟨rfl, h1⟩
  refine pw_seq (hq_X1 (w := w) h1 (hc_tr (y := (1, 8, fun k => if k = 3 then .ref (w 22) else if 5 ≤ k then .int 0 else .null)) (hc_rfl _) ⟨rfl, rfl, fun k hk => (by have : k = 0 ∨ k = 1 ∨ k = 2 ∨ k = 3 ∨ k = 4 ∨ k = 5 ∨ k = 6 ∨ k = 7 := (by have : k < 8 := hk; omega); rcases this with rfl | rfl | rfl | rfl | rfl | rfl | rfl | rfl <;> rfl)⟩)) (fun M2 h2 => ?_)
  refine pw_seq (hq_pV h2 (by omega)) (fun M3 h3 => ?_)
  refine pw_seq (hq_nwo h3) ?_
  rintro ⟨z4, M4⟩ ⟨rfl, h4⟩
  refine pw_seq (hq_X2 (w := w) h4 hw (fun i hi => (by have : i = 0 ∨ i = 1 ∨ i = 2 ∨ i = 3 ∨ i = 4 ∨ i = 5 ∨ i = 6 := (by omega); rcases this with rfl | rfl | rfl | rfl | rfl | rfl | rfl <;> first | exact ⟨rfl, rfl, fun _ _ => rfl⟩ | exact ⟨rfl, rfl, fun k hk => (by have : k = 0 ∨ k = 1 ∨ k = 2 ∨ k = 3 ∨ k = 4 ∨ k = 5 ∨ k = 6 ∨ k = 7 := (by have : k < 8 := hk; omega); rcases this with rfl | rfl | rfl | rfl | rfl | rfl | rfl | rfl <;> rfl)⟩))) (fun M5 h5 => ?_)
  refine pw_seq (hq_pV h5 (by omega)) (fun M6 h6 => ?_)
  refine pw_seq (hq_nwo h6) ?_
  rintro ⟨z7, M7⟩ ⟨rfl, h7⟩
  rw [hq_gR (o := 0) (t := 0) (N := 27) (i := 1) (x := c + 2) h7 (by omega) rfl rfl rfl (by omega), Option.bind_some, hq_gR (o := 0) (t := 0) (N := 27) (i := 0) (x := c + 1) h7 (by omega) rfl rfl rfl (by omega), Option.bind_some]
  refine pw_seq (hq_X3 (w := w) h7 (⟨rfl, rfl, fun k hk => (by have : k = 0 ∨ k = 1 ∨ k = 2 ∨ k = 3 ∨ k = 4 ∨ k = 5 ∨ k = 6 := (by have : k < 7 := hk; omega); rcases this with rfl | rfl | rfl | rfl | rfl | rfl | rfl <;> rfl)⟩)) (fun M8 h8 => ?_)
  refine pw_seq (hq_pV h8 (by omega)) (fun M9 h9 => ?_)
  refine pw_seq (hq_nwo h9) ?_
  rintro ⟨z10, M10⟩ ⟨rfl, h10⟩
  refine pw_seq (hq_X4 (w := w) h10 (fun i hi => (by rw [hf_n _ _ (by omega)]; exact (if_pos (by omega)).trans (by rw [show 10 + i - 10 = i by omega])))) (fun M11 h11 => ?_)
  refine pw_seq (hq_pV h11 (by omega)) (fun M12 h12 => ?_)
  refine pw_seq (hq_pV h12 (by omega)) (fun M13 h13 => ?_)
  refine pw_seq (hq_nwo h13) ?_
  rintro ⟨z14, M14⟩ ⟨rfl, h14⟩
  refine pw_seq (hq_X5 (w := w) h14 (fun i hi => hv _ 0 i (by omega) hi)) (fun M15 h15 => ?_)
  refine pw_seq (hq_pV h15 (by omega)) (fun M16 h16 => ?_)
  refine pw_seq (hq_nwo h16) ?_
  rintro ⟨z17, M17⟩ ⟨rfl, h17⟩
  refine pw_seq (hq_X5 (w := w) h17 (fun i hi => hv _ 1 i (by omega) hi)) (fun M18 h18 => ?_)
  refine pw_seq (hq_pV h18 (by omega)) (fun M19 h19 => ?_)
  refine pw_seq (hq_nao (N := 40) h19 (by omega)) ?_
  rintro ⟨z20, M20⟩ ⟨rfl, h20⟩
  rw [hf_comm _ _ _ (by omega)] at h20
  refine pw_seq (hq_pV h20 (by omega)) (fun M21 h21 => ?_)
  refine pw_seq (hq_nao (N := 3) h21 (by omega)) ?_
  rintro ⟨z22, M22⟩ ⟨rfl, h22⟩
  refine pw_seq (hq_nwo h22) ?_
  rintro ⟨z23, M23⟩ ⟨rfl, h23⟩
  refine pw_seq (hq_X5 (w := w) h23 (fun i hi => hv41 _ _ _ 42 i (by omega) hi)) (fun M24 h24 => ?_)
  refine pw_seq (Q := fun _ => True) (pw_eq (hq_ck (o := 42) (t := 5) h24 (by omega) rfl) trivial) (fun _ _ => ?_)
  refine pw_seq (hq_pAo (t := 7) (i := 0) h24 (by omega) (by omega) (by omega)) (fun M25 h25 => ?_)
  refine pw_seq (hq_nwo h25) ?_
  rintro ⟨z26, M26⟩ ⟨rfl, h26⟩
  refine pw_seq (hq_X5 (w := w) h26 (fun i hi => hv41 _ _ _ 43 i (by omega) hi)) (fun M27 h27 => ?_)
  refine pw_seq (Q := fun _ => True) (pw_eq (hq_ck (o := 52) (t := 5) h27 (by omega) rfl) trivial) (fun _ _ => ?_)
  refine pw_seq (hq_pAo (t := 7) (i := 1) h27 (by omega) (by omega) (by omega)) (fun M28 h28 => ?_)
  refine pw_seq (hq_nwo h28) ?_
  rintro ⟨z29, M29⟩ ⟨rfl, h29⟩
  refine pw_seq (hq_X5 (w := w) h29 (fun i hi => hv41 _ _ _ 44 i (by omega) hi)) (fun M30 h30 => ?_)
  refine pw_seq (Q := fun _ => True) (pw_eq (hq_ck (o := 62) (t := 5) h30 (by omega) rfl) trivial) (fun _ _ => ?_)
  refine pw_seq (hq_pAo (t := 7) (i := 2) h30 (by omega) (by omega) (by omega)) (fun M31 h31 => ?_)
  have h32 := hq_close h31 (⟨rfl, rfl, fun k hk => (by have : k = 0 ∨ k = 1 ∨ k = 2 := (by have : k < 3 := hk; omega); rcases this with rfl | rfl | rfl <;> rfl)⟩)
  clear h1 h2 h3 h4 h5 h6 h7 h8 h9 h10 h11 h12 h13 h14 h15 h16 h17 h18 h19 h20 h21 h22 h23 h24 h25 h26 h27 h28 h29 h30 h31
  refine pw_seq (hq_pV h32 (by omega)) (fun M33 h33 => ?_)
  refine pw_seq (hq_nw h33 (⟨rfl, rfl, fun _ hk => absurd hk (Nat.not_lt_zero _)⟩)) ?_
  rintro ⟨z34, M34⟩ ⟨rfl, h34⟩
  rw [show gq_X8_init w M34 (c + 72) = some M34 from rfl, Option.bind_some]
  refine pw_seq (hq_pV h34 (by omega)) (fun M35 h35 => ?_)
  refine pw_seq (hq_nw h35 (⟨rfl, rfl, fun _ hk => absurd hk (Nat.not_lt_zero _)⟩)) ?_
  rintro ⟨z36, M36⟩ ⟨rfl, h36⟩
  rw [show gq_X9_init w M36 (c + 73) = some M36 from rfl, Option.bind_some]
  refine pw_seq (hq_pV h36 (by omega)) (fun M37 h37 => ?_)
  refine hq_nv (N := 3) h37 (by omega) (by omega) ⟨rfl, rfl, fun _ _ => rfl⟩ (fun M38 h38 => ?_)
  refine hq_mv h38 (by omega) ⟨rfl, rfl, fun _ _ => rfl⟩ (fun j hj => (by rw [hf_n _ _ (by omega)]; exact cC_row cC_k1 (cC_t (by omega)) (by omega) hj)) (fun M39 h39 => ?_)
  refine hq_mv h39 (by omega) ⟨rfl, rfl, fun _ _ => rfl⟩ (fun j hj => (by rw [hf_n _ _ (by omega)]; exact cC_row cC_k2 (cC_t (by omega)) (by omega) hj)) (fun M40 h40 => ?_)
  refine hq_nv (N := 64) h40 (by omega) (by omega) ⟨rfl, rfl, fun _ _ => rfl⟩ (fun M41 h41 => ?_)
  refine hq_nv (N := 6) h41 (by omega) (by omega) ⟨rfl, rfl, fun _ _ => rfl⟩ (fun M42 h42 => ?_)
  refine hq_nv (N := 6) h42 (by omega) (by omega) ⟨rfl, rfl, fun _ _ => rfl⟩ (fun M43 h43 => ?_)
  refine hq_nv (N := 20) h43 (by omega) (by omega) ⟨rfl, rfl, fun _ _ => rfl⟩ (fun M44 h44 => ?_)
  refine hq_nv (N := 20) h44 (by omega) (by omega) ⟨rfl, rfl, fun _ _ => rfl⟩ (fun M45 h45 => ?_)
  refine hq_nv (N := 20) h45 (by omega) (by omega) ⟨rfl, rfl, fun _ _ => rfl⟩ (fun M46 h46 => ?_)
  refine hq_nv (N := 6) h46 (by omega) (by omega) ⟨rfl, rfl, fun _ _ => rfl⟩ (fun M47 h47 => ?_)
  refine hq_mv h47 (by omega) ⟨rfl, rfl, fun _ _ => rfl⟩ (fun j hj => (by rw [hf_n _ _ (by omega)]; exact cC_row cC_k3 (cC_t (by omega)) (by omega) hj)) (fun M48 h48 => ?_)
  refine pw_seq (hq_L253 (w := w) (k := k) (s := s) rfl h48) (fun M49 h49 => ?_)
  refine g _ (hq_close h49 ?_)
  refine ⟨rfl, rfl, fun k hk => ?_⟩
  have : k = 0 ∨ k = 1 ∨ k = 2 ∨ k = 3 ∨ k = 4 ∨ k = 5 ∨ k = 6 ∨ k = 7 ∨ k = 8 ∨ k = 9 ∨ k = 10 ∨ k = 11 ∨ k = 12 ∨ k = 13 ∨ k = 14 ∨ k = 15 ∨ k = 16 ∨ k = 17 ∨ k = 18 ∨ k = 19 ∨ k = 20 ∨ k = 21 ∨ k = 22 ∨ k = 23 ∨ k = 24 ∨ k = 25 ∨ k = 26 := by have : k < 27 := hk; omega
  rcases this with rfl | rfl | rfl | rfl | rfl | rfl | rfl | rfl | rfl | rfl | rfl | rfl | rfl | rfl | rfl | rfl | rfl | rfl | rfl | rfl | rfl | rfl | rfl | rfl | rfl | rfl | rfl <;> rfl
/-! HairRopeModel's constructor makes the model's cells -/
theorem hq_X10 {w : Nat → Nat} {M0 : ps_S} {m : Nat} {k s : Nat} {M : ps_S} {Q : ps_S → Prop} (h : hq_x M0 m 1 (hf_x 0 (10, 71, fun k => defaultValue (tyX10 k)) (zm_cell m zm_S0)) (k + 48) (s + 10921) M) (g : ∀ M', hq_x M0 m 49 (zm_cell m zm_S0) k s M' → pw (hm_end M' (m + 0)) Q) : pw (gq_X10_init w M (m + 0)) Q := by
  unfold gq_X10_init
  refine hq_nv (N := 2000) h (by omega) (by omega) ⟨rfl, rfl, fun _ _ => rfl⟩ (fun M1 h1 => ?_)
  refine hq_nv (N := 2000) h1 (by omega) (by omega) ⟨rfl, rfl, fun _ _ => rfl⟩ (fun M2 h2 => ?_)
  clear h1
  refine hq_nv (N := 403) h2 (by omega) (by omega) ⟨rfl, rfl, fun _ _ => rfl⟩ (fun M3 h3 => ?_)
  clear h2
  refine hq_nv (N := 403) h3 (by omega) (by omega) ⟨rfl, rfl, fun _ _ => rfl⟩ (fun M4 h4 => ?_)
  clear h3
  refine hq_nv (N := 403) h4 (by omega) (by omega) ⟨rfl, rfl, fun _ _ => rfl⟩ (fun M5 h5 => ?_)
  clear h4
  refine hq_nv (N := 403) h5 (by omega) (by omega) ⟨rfl, rfl, fun _ _ => rfl⟩ (fun M6 h6 => ?_)
  clear h5
  refine hq_nv (N := 22) h6 (by omega) (by omega) ⟨rfl, rfl, fun _ _ => rfl⟩ (fun M7 h7 => ?_)
  clear h6
  refine pw_seq (hq_pV h7 (by omega)) (fun M8 h8 => ?_)
  refine hq_nv (N := 6) h8 (by omega) (by omega) ⟨rfl, rfl, fun _ _ => rfl⟩ (fun M9 h9 => ?_)
  clear h8
  refine hq_nv (N := 2) h9 (by omega) (by omega) ⟨rfl, rfl, fun _ _ => rfl⟩ (fun M10 h10 => ?_)
  clear h9
  refine hq_nv (N := 12) h10 (by omega) (by omega) ⟨rfl, rfl, fun _ _ => rfl⟩ (fun M11 h11 => ?_)
  clear h10
  refine hq_nv (N := 12) h11 (by omega) (by omega) ⟨rfl, rfl, fun _ _ => rfl⟩ (fun M12 h12 => ?_)
  clear h11
  refine hq_nv (N := 2) h12 (by omega) (by omega) ⟨rfl, rfl, fun _ _ => rfl⟩ (fun M13 h13 => ?_)
  clear h12
  refine hq_nv (N := 72) h13 (by omega) (by omega) ⟨rfl, rfl, fun _ _ => rfl⟩ (fun M14 h14 => ?_)
  clear h13
  refine hq_nv (N := 2) h14 (by omega) (by omega) ⟨rfl, rfl, fun _ _ => rfl⟩ (fun M15 h15 => ?_)
  clear h14
  refine hq_nv (N := 2) h15 (by omega) (by omega) ⟨rfl, rfl, fun _ _ => rfl⟩ (fun M16 h16 => ?_)
  clear h15
  refine hq_nv (N := 2) h16 (by omega) (by omega) ⟨rfl, rfl, fun _ _ => rfl⟩ (fun M17 h17 => ?_)
  clear h16
  refine hq_nv (N := 2) h17 (by omega) (by omega) ⟨rfl, rfl, fun _ _ => rfl⟩ (fun M18 h18 => ?_)
  clear h17
  refine hq_nv (N := 8) h18 (by omega) (by omega) ⟨rfl, rfl, fun _ _ => rfl⟩ (fun M19 h19 => ?_)
  clear h18
  refine hq_nv (N := 8) h19 (by omega) (by omega) ⟨rfl, rfl, fun _ _ => rfl⟩ (fun M20 h20 => ?_)
  clear h19
  refine hq_nv (N := 260) h20 (by omega) (by omega) ⟨rfl, rfl, fun _ _ => rfl⟩ (fun M21 h21 => ?_)
  clear h20
  refine hq_nv (N := 260) h21 (by omega) (by omega) ⟨rfl, rfl, fun _ _ => rfl⟩ (fun M22 h22 => ?_)
  clear h21
  refine hq_nv (N := 260) h22 (by omega) (by omega) ⟨rfl, rfl, fun _ _ => rfl⟩ (fun M23 h23 => ?_)
  clear h22
  refine hq_nv (N := 260) h23 (by omega) (by omega) ⟨rfl, rfl, fun _ _ => rfl⟩ (fun M24 h24 => ?_)
  clear h23
  refine hq_nv (N := 260) h24 (by omega) (by omega) ⟨rfl, rfl, fun _ _ => rfl⟩ (fun M25 h25 => ?_)
  clear h24
  refine hq_nv (N := 840) h25 (by omega) (by omega) ⟨rfl, rfl, fun _ _ => rfl⟩ (fun M26 h26 => ?_)
  clear h25
  refine hq_nv (N := 840) h26 (by omega) (by omega) ⟨rfl, rfl, fun _ _ => rfl⟩ (fun M27 h27 => ?_)
  clear h26
  refine hq_nv (N := 64) h27 (by omega) (by omega) ⟨rfl, rfl, fun _ _ => rfl⟩ (fun M28 h28 => ?_)
  clear h27
  refine hq_nv (N := 9) h28 (by omega) (by omega) ⟨rfl, rfl, fun _ _ => rfl⟩ (fun M29 h29 => ?_)
  clear h28
  refine hq_nv (N := 400) h29 (by omega) (by omega) ⟨rfl, rfl, fun _ _ => rfl⟩ (fun M30 h30 => ?_)
  clear h29
  refine hq_nv (N := 33) h30 (by omega) (by omega) ⟨rfl, rfl, fun _ _ => rfl⟩ (fun M31 h31 => ?_)
  clear h30
  refine hq_nv (N := 33) h31 (by omega) (by omega) ⟨rfl, rfl, fun _ _ => rfl⟩ (fun M32 h32 => ?_)
  clear h31
  refine hq_nv (N := 6) h32 (by omega) (by omega) ⟨rfl, rfl, fun _ _ => rfl⟩ (fun M33 h33 => ?_)
  clear h32
  refine hq_nv (N := 6) h33 (by omega) (by omega) ⟨rfl, rfl, fun _ _ => rfl⟩ (fun M34 h34 => ?_)
  clear h33
  refine hq_nv (N := 1320) h34 (by omega) (by omega) ⟨rfl, rfl, fun _ _ => rfl⟩ (fun M35 h35 => ?_)
  clear h34
  refine hq_nv (N := 6) h35 (by omega) (by omega) ⟨rfl, rfl, fun _ _ => rfl⟩ (fun M36 h36 => ?_)
  clear h35
  refine hq_nv (N := 6) h36 (by omega) (by omega) ⟨rfl, rfl, fun _ _ => rfl⟩ (fun M37 h37 => ?_)
  clear h36
  refine hq_nv (N := 36) h37 (by omega) (by omega) ⟨rfl, rfl, fun _ _ => rfl⟩ (fun M38 h38 => ?_)
  clear h37
  refine hq_nv (N := 36) h38 (by omega) (by omega) ⟨rfl, rfl, fun _ _ => rfl⟩ (fun M39 h39 => ?_)
  clear h38
  refine hq_nv (N := 36) h39 (by omega) (by omega) ⟨rfl, rfl, fun _ _ => rfl⟩ (fun M40 h40 => ?_)
  clear h39
  refine hq_nv (N := 6) h40 (by omega) (by omega) ⟨rfl, rfl, fun _ _ => rfl⟩ (fun M41 h41 => ?_)
  clear h40
  refine hq_nv (N := 6) h41 (by omega) (by omega) ⟨rfl, rfl, fun _ _ => rfl⟩ (fun M42 h42 => ?_)
  clear h41
  refine hq_nv (N := 20) h42 (by omega) (by omega) ⟨rfl, rfl, fun _ _ => rfl⟩ (fun M43 h43 => ?_)
  clear h42
  refine hq_nv (N := 20) h43 (by omega) (by omega) ⟨rfl, rfl, fun _ _ => rfl⟩ (fun M44 h44 => ?_)
  clear h43
  refine hq_nv (N := 20) h44 (by omega) (by omega) ⟨rfl, rfl, fun _ _ => rfl⟩ (fun M45 h45 => ?_)
  clear h44
  refine hq_nv (N := 6) h45 (by omega) (by omega) ⟨rfl, rfl, fun _ _ => rfl⟩ (fun M46 h46 => ?_)
  clear h45
  refine hq_nv (N := 6) h46 (by omega) (by omega) ⟨rfl, rfl, fun _ _ => rfl⟩ (fun M47 h47 => ?_)
  clear h46
  refine hq_nv (N := 3) h47 (by omega) (by omega) ⟨rfl, rfl, fun _ _ => rfl⟩ (fun M48 h48 => ?_)
  clear h47
  refine hq_nv (N := 99) h48 (by omega) (by omega) ⟨rfl, rfl, fun _ _ => rfl⟩ (fun M49 h49 => ?_)
  clear h48
  refine g _ (hq_close h49 ?_)
  refine ⟨rfl, rfl, fun k hk => ?_⟩
  have : k = 0 ∨ k = 1 ∨ k = 2 ∨ k = 3 ∨ k = 4 ∨ k = 5 ∨ k = 6 ∨ k = 7 ∨ k = 8 ∨ k = 9 ∨ k = 10 ∨ k = 11 ∨ k = 12 ∨ k = 13 ∨ k = 14 ∨ k = 15 ∨ k = 16 ∨ k = 17 ∨ k = 18 ∨ k = 19 ∨ k = 20 ∨ k = 21 ∨ k = 22 ∨ k = 23 ∨ k = 24 ∨ k = 25 ∨ k = 26 ∨ k = 27 ∨ k = 28 ∨ k = 29 ∨ k = 30 ∨ k = 31 ∨ k = 32 ∨ k = 33 ∨ k = 34 ∨ k = 35 ∨ k = 36 ∨ k = 37 ∨ k = 38 ∨ k = 39 ∨ k = 40 ∨ k = 41 ∨ k = 42 ∨ k = 43 ∨ k = 44 ∨ k = 45 ∨ k = 46 ∨ k = 47 ∨ k = 48 ∨ k = 49 ∨ k = 50 ∨ k = 51 ∨ k = 52 ∨ k = 53 ∨ k = 54 ∨ k = 55 ∨ k = 56 ∨ k = 57 ∨ k = 58 ∨ k = 59 ∨ k = 60 ∨ k = 61 ∨ k = 62 ∨ k = 63 ∨ k = 64 ∨ k = 65 ∨ k = 66 ∨ k = 67 ∨ k = 68 ∨ k = 69 ∨ k = 70 := by have : k < 71 := hk; omega
  rcases this with rfl | rfl | rfl | rfl | rfl | rfl | rfl | rfl | rfl | rfl | rfl | rfl | rfl | rfl | rfl | rfl | rfl | rfl | rfl | rfl | rfl | rfl | rfl | rfl | rfl | rfl | rfl | rfl | rfl | rfl | rfl | rfl | rfl | rfl | rfl | rfl | rfl | rfl | rfl | rfl | rfl | rfl | rfl | rfl | rfl | rfl | rfl | rfl | rfl | rfl | rfl | rfl | rfl | rfl | rfl | rfl | rfl | rfl | rfl | rfl | rfl | rfl | rfl | rfl | rfl | rfl | rfl | rfl | rfl | rfl | rfl <;> rfl
