set_option maxRecDepth 100000
/-! reading by the component: the state it reads in -/
def pc_st (k : Nat) : Nat := if k = 0 then 4 else if k = 1 then 0 else if k = 2 then 1 else if k = 3 then 5 else if k < 20 then 2 else 3
def pc_wh (k : Nat) : Nat := if k = 4 then 59 else if k = 5 then 61 else if k = 6 then 40 else if k = 7 then 41 else if k = 8 then 43 else if k = 9 then 45 else if k = 10 then 42 else if k = 13 then 60 else if k = 15 then 47 else if 20 ≤ k then k - 20 else 0
theorem pc_st_bd (k : Nat) : pc_st k ≤ 5 := by unfold pc_st; repeat' split
                                               all_goals omega
theorem pc_wh_bd {k : Nat} (h : k ≤ 41) : pc_wh k ≤ 61 := by unfold pc_wh; repeat' split
                                                             all_goals omega
/-- the tokens, as the component has them -/
def pk_tok (b : Nat → Int) (p : Nat) (K : List pz_T) (A : Nat → Nat → Nat → Int32) : Prop :=
  (p ≤ 2000 ∧ K.length ≤ 2001) ∧ pz_ok b K ∧ (∀ j, j < p → A 2 1 j = pj (b j) ∧ -128 ≤ b j ∧ b j < 128) ∧
  (∀ a, a < K.length → A 2 3 a = pj (pc_st (pz_kd K a) : Nat) ∧ A 2 4 a = pj (pz_fr K a : Nat) ∧ A 2 5 a = pj (pz_to K a : Nat) ∧ (4 ≤ pz_kd K a → A 2 6 a = pj (pc_wh (pz_kd K a) : Nat))) ∧
  ∀ a, a < K.length → pz_fr K a ≤ pz_to K a ∧ pz_to K a ≤ p ∧ (pz_kd K a = 2 → pz_vl K a = pz_num b (pz_fr K a) (pz_to K a - pz_fr K a) ∧ pz_to K a - pz_fr K a ≤ 4 ∧ ∀ j, pz_fr K a ≤ j → j < pz_to K a → 48 ≤ b j ∧ b j ≤ 57)
/-- what was made stays, what the component holds stays but for parser and fault -/
def pk (M M' : ps_S) : Prop := M'.2.1.1 = M.2.1.1 ∧ M.2.1.2.1 ≤ M'.2.1.2.1 ∧ (∀ a x, a < M.2.1.2.1 → M.2.1.2.2 a = some x → M'.2.1.2.2 a = some x) ∧ M'.1.2 = M.1.2 ∧ (∀ o f, ¬ (o = 3 ∧ 3 ≤ f ∧ f ≤ 6) → ¬ (o = 1 ∧ (f = 6 ∨ f = 7)) → M'.1.1 o f = M.1.1 o f) ∧ M'.2.2.1 = M.2.2.1
theorem pk_rfl (M : ps_S) : pk M M := ⟨rfl, Nat.le_refl _, fun _ _ _ h => h, rfl, fun _ _ _ _ => rfl, rfl⟩
theorem pk_trans {A B C : ps_S} (h : pk A B) (g : pk B C) : pk A C := ⟨g.1.trans h.1, Nat.le_trans h.2.1 g.2.1, fun a x ha e => g.2.2.1 a x (Nat.lt_of_lt_of_le ha h.2.1) (h.2.2.1 a x ha e), g.2.2.2.1.trans h.2.2.2.1, fun o f q r => (g.2.2.2.2.1 o f q r).trans (h.2.2.2.2.1 o f q r), g.2.2.2.2.2.trans h.2.2.2.2.2⟩
/-- where the component lies; where one writes -/
def pk_b (c : Nat) (M : ps_S) : Prop := c + 561 ≤ M.2.1.2.1 ∧ M.2.1.1 ≤ c
theorem pk_b_le {c : Nat} {M M' : ps_S} (h : pk M M') (g : pk_b c M) : pk_b c M' := ⟨Nat.le_trans g.1 h.2.1, by rw [h.1]; exact g.2⟩
/-- room left, by the tokens that are behind -/
def pk_rm (r : Nat × Nat) (a : Nat) (M : ps_S) : Prop := r.1 ≤ M.2.2.2.1 + 12 * a ∧ r.2 ≤ M.2.2.2.2 + 60 * a ∧ 6000 ≤ r.1 ∧ 40000 ≤ r.2
/-- what room there is, wherever one stops -/
def pk_rf (r : Nat × Nat) (M : ps_S) : Prop := r.1 ≤ M.2.2.2.1 + 5000 ∧ r.2 ≤ M.2.2.2.2 + 25000
/-- a state that is read in: at a token, so many open -/
def pk_C (b : Nat → Int) (p : Nat) (K : List pz_T) (c : Nat) (r : Nat × Nat) (M : ps_S) (a op : Nat) : Prop := pk_tok b p K M.1.2 ∧ pk_b c M ∧ M.1.1 3 3 = pj a ∧ M.1.1 3 4 = pj op ∧ a < K.length ∧ a ≤ 400 ∧ op ≤ 6 ∧ pk_rf r M
theorem pk_rf_rm {r : Nat × Nat} {a : Nat} {M : ps_S} (h : pk_rm r a M) (ha : a ≤ 400) : pk_rf r M := ⟨by have := h.1; omega, by have := h.2.1; omega⟩
/-- a fault is thrown -/
def pk_F (r : Nat × Nat) (M : ps_S) (n pl : Nat) (M' : ps_S) : Prop := pk M M' ∧ M'.1.1 1 6 = pj n ∧ M'.1.1 1 7 = pj pl ∧ pk_rf r M'
theorem pk_F_le {r : Nat × Nat} {M M1 M' : ps_S} {n pl : Nat} (h : pk M M1) (g : pk_F r M1 n pl M') : pk_F r M n pl M' := ⟨pk_trans h g.1, g.2⟩
theorem ps_sF1 (M : ps_S) (o k : Nat) (x : Int32) (p q : Nat) : (ps_sF M o k x).1.1 p q = if p = o ∧ q = k then x else M.1.1 p q := rfl
theorem ps_sF1s (M : ps_S) (o k : Nat) (x : Int32) : (ps_sF M o k x).1.1 o k = x := if_pos ⟨rfl, rfl⟩
theorem ps_sF1n {M : ps_S} {o k p q : Nat} {x : Int32} (h : ¬ (p = o ∧ q = k)) : (ps_sF M o k x).1.1 p q = M.1.1 p q := if_neg h
theorem pk_sF {M : ps_S} {o k : Nat} (x : Int32) (h : (o = 3 ∧ 3 ≤ k ∧ k ≤ 6) ∨ (o = 1 ∧ (k = 6 ∨ k = 7))) : pk M (ps_sF M o k x) := ⟨rfl, Nat.le_refl _, fun _ _ _ h => h, rfl, fun p q h1 h2 => ps_sF1n (by omega), rfl⟩
theorem pk_up {M0 M : ps_S} {a : Nat} (x : zs_HC) (h : pk M0 M) (ha : M0.2.1.2.1 ≤ a) : pk M0 (ps_up M a x) := ⟨h.1, h.2.1, fun q y hq e => by
  show (if q = a then some x else M.2.1.2.2 q) = _
  rw [if_neg (by omega)]; exact h.2.2.1 q y hq e, h.2.2.2.1, h.2.2.2.2.1, h.2.2.2.2.2⟩
theorem ps_upC (M : ps_S) (a : Nat) (x : zs_HC) (q : Nat) : (ps_up M a x).2.1.2.2 q = if q = a then some x else M.2.1.2.2 q := rfl
theorem ps_atN {c a : Nat} {M : ps_S} (h : c + 561 ≤ a) : ps_at c M a = M.2.1.2.2 a := by
  unfold ps_at
  rw [if_neg (by omega)]
/-- something is made -/
theorem pk_nw {M : ps_S} (x : zs_HC) {sl : Nat} (h : 1 ≤ M.2.2.2.1 ∧ sl ≤ M.2.2.2.2) : ∃ M1, ps_nw M x sl = some (M.2.1.2.1, M1) ∧ pk M M1 ∧ M1.2.1.2.1 = M.2.1.2.1 + 1 ∧ M1.2.1.2.2 M.2.1.2.1 = some x ∧ M1.1 = M.1 ∧ M1.2.2.2.1 = M.2.2.2.1 - 1 ∧ M1.2.2.2.2 = M.2.2.2.2 - sl := by
  refine ⟨ps_ext M x sl, if_pos h, ⟨rfl, Nat.le_succ _, fun a y ha e => ?_, rfl, fun _ _ _ _ => rfl, rfl⟩, rfl, if_pos rfl, rfl, rfl, rfl⟩
  show (if a = M.2.1.2.1 then some x else M.2.1.2.2 a) = _
  rw [if_neg (by omega)]; exact e
theorem pk_na {M : ps_S} (t : Nat) (v : Value) {z : Nat} (hz : z ≤ 100000) (h : 1 ≤ M.2.2.2.1 ∧ z ≤ M.2.2.2.2) : ∃ M1, ps_na M t v (pj z) = some (M.2.1.2.1, M1) ∧ pk M M1 ∧ M1.2.1.2.1 = M.2.1.2.1 + 1 ∧ M1.2.1.2.2 M.2.1.2.1 = some (64 + t, z, fun _ => v) ∧ M1.1 = M.1 ∧ M1.2.2.2.1 = M.2.2.2.1 - 1 ∧ M1.2.2.2.2 = M.2.2.2.2 - z := by
  have e : (pj (z : Nat)).toNatClampNeg = z := by rw [pj_nat (by omega), Int.toNat_natCast]
  have hn : ¬ pj (z : Nat) < 0 := by rw [pj_0, pj_lt (by omega) (by omega)]; omega
  unfold ps_na
  rw [e, if_pos ⟨hn, hz⟩]
  exact pk_nw _ h
/-- fields and cells of what was made -/
theorem pk_pV {c a ci N k : Nat} {M : ps_S} {F : Nat → Value} (v : Value) (ha : c + 561 ≤ a) (hb : M.2.1.1 ≤ c) (h : M.2.1.2.2 a = some (ci, N, F)) : ps_pV c M a ci N k v = some (ps_up M a (ci, N, updV F k v)) := by
  unfold ps_pV
  rw [ps_atN ha, h]
  show (if ci = ci ∧ N = N ∧ M.2.1.1 ≤ a then _ else _) = _
  rw [if_pos ⟨rfl, rfl, by omega⟩]
theorem pk_gI {c a ci N k : Nat} {M : ps_S} {F : Nat → Value} {x : Int32} (h : ps_at c M a = some (ci, N, F)) (hF : F k = .int x) : ps_gI c M a ci N k = some x := by
  unfold ps_gI
  rw [h]
  show (if ci = ci ∧ N = N then (match F k with | .int x => some x | _ => none) else none) = _
  rw [if_pos ⟨rfl, rfl⟩, hF]
theorem pk_gR {c a ci N k : Nat} {M : ps_S} {F : Nat → Value} {x : Nat} (h : ps_at c M a = some (ci, N, F)) (hF : F k = .ref x) : ps_gR c M a ci N k = some x := by
  unfold ps_gR
  rw [h]
  show (if ci = ci ∧ N = N then (match F k with | .ref x => some x | _ => none) else none) = _
  rw [if_pos ⟨rfl, rfl⟩, hF]
theorem pk_ck {c a ci n : Nat} {M : ps_S} {F : Nat → Value} (h : ps_at c M a = some (ci, n, F)) : ps_ck c M a ci = some () := by
  unfold ps_ck
  rw [h]
  exact if_pos rfl
theorem pk_ln {c a t n : Nat} {M : ps_S} {F : Nat → Value} (h : ps_at c M a = some (64 + t, n, F)) : ps_ln c M a t = some (pj n) := by
  unfold ps_ln
  rw [h]
  show (if 64 + t = 64 + t then some (nI n) else none) = _
  rw [if_pos rfl, pj_nI]
theorem pk_aI {c a t n i : Nat} {M : ps_S} {F : Nat → Value} {x : Int32} (h : ps_at c M a = some (64 + t, n, F)) (hi : i < n) (hn : n < 2147483648) (hF : F i = .int x) : ps_aI c M a t (pj i) = some x := by
  unfold ps_aI
  rw [h]
  show (if 64 + t = 64 + t ∧ zs_in (pj i) n = true then (match F (pj (i : Nat)).toNatClampNeg with | .int x => some x | _ => none) else none) = _
  rw [if_pos ⟨rfl, pj_in (by omega) hn⟩, pj_nat (by omega), Int.toNat_natCast, hF]
theorem pk_aR {c a t n i x : Nat} {M : ps_S} {F : Nat → Value} (h : ps_at c M a = some (64 + t, n, F)) (hi : i < n) (hn : n < 2147483648) (hF : F i = .ref x) : ps_aR c M a t (pj i) = some x := by
  unfold ps_aR
  rw [h]
  show (if 64 + t = 64 + t ∧ zs_in (pj i) n = true then (match F (pj (i : Nat)).toNatClampNeg with | .ref x => some x | _ => none) else none) = _
  rw [if_pos ⟨rfl, pj_in (by omega) hn⟩, pj_nat (by omega), Int.toNat_natCast, hF]
theorem pk_pA {c a t n i : Nat} {M : ps_S} {F : Nat → Value} (v : Value) (ha : c + 561 ≤ a) (hb : M.2.1.1 ≤ c) (h : M.2.1.2.2 a = some (64 + t, n, F)) (hi : i < n) (hn : n < 100000) : ps_pA c M a t (pj i) v = some (ps_up M a (64 + t, n, updV F i v)) := by
  unfold ps_pA
  rw [ps_atN ha, h]
  show (if 64 + t = 64 + t ∧ zs_in (pj i) n = true ∧ M.2.1.1 ≤ a ∧ n < 100000 then some (ps_up M a (64 + t, n, updV F (pj (i : Nat)).toNatClampNeg v)) else none) = _
  rw [if_pos ⟨rfl, pj_in (by omega) (by omega), by omega, hn⟩, pj_nat (by omega), Int.toNat_natCast]
theorem updV_s (F : Nat → Value) (k : Nat) (v : Value) : updV F k v k = v := if_pos rfl
theorem updV_n {F : Nat → Value} {k j : Nat} {v : Value} (h : j ≠ k) : updV F k v j = F j := if_neg h
/-! throws -/
def pk_O {α γ : Type} (F : Nat × Nat → ps_S → Prop) (G : γ → α → ps_S → Prop) (r : pz_R γ) (z : Option α × ps_S) : Prop := Sum.elim (fun q => z.1 = none ∧ F q z.2) (fun v => ∃ y, z.1 = some y ∧ G v y z.2) r
theorem pk_sel {α β γ δ : Type} {x : Option (Option α × ps_S)} {th : ps_S → β} {f : α × ps_S → Option β} {r : pz_R γ} {s : γ → pz_R δ} {F : Nat × Nat → ps_S → Prop} {G : γ → α → ps_S → Prop} {Q : pz_R δ → β → Prop}
    (hx : pw x (pk_O F G r))
    (h1 : ∀ q M', F q M' → Q (Sum.inl q) (th M')) (h2 : ∀ v y M', r = Sum.inr v → G v y M' → pw (f (y, M')) (Q (s v))) : pw (x.bind (zx_sel th f)) (Q (pz_bd r s)) := by
  refine pw_seq hx (fun z hz => ?_)
  obtain ⟨z1, z2⟩ := z
  cases r with
  | inl q =>
    obtain ⟨e, hF⟩ := hz
    subst e
    exact (pw_some _ _).2 (h1 q z2 hF)
  | inr v =>
    obtain ⟨y, e, hG⟩ := hz
    subst e
    exact h2 v y z2 rfl hG
/-! the parser's small steps -/
section PK
variable {b : Nat → Int} {p : Nat} {K : List pz_T} {w : Nat → Nat} {c : Nat} {r : Nat × Nat} {M : ps_S} {a op : Nat}
theorem pk_C_K (h : pk_C b p K c r M a op) : a < 2001 ∧ pz_kd K a ≤ 41 ∧ pz_fr K a ≤ 2000 := by
  obtain ⟨h1, h2, h3, h4, h5, h6, h7, h8⟩ := h
  have := h1.1.2
  exact ⟨by omega, (h1.2.1.1.2.1 a).1, (h1.2.1.1.2.1 a).2.1⟩
theorem pk_wrongAt (h : pk_tok b p K M.1.2) (hr : pk_rf r M) {t : Nat} (ht : t < K.length) (n : Nat) : ∃ M', gp_X3_wrongAt w c M (pj n) (pj t) = some ((), M') ∧ pk_F r M n (pz_fr K t) M' := by
  have h2001 := h.1.2
  unfold gp_X3_wrongAt gp_X1_of
  rw [pj_ald (by omega) (by omega), Int.toNat_natCast, Option.bind_some, (h.2.2.2.1 t ht).2.1]
  refine ⟨_, rfl, pk_trans (pk_sF _ (Or.inr ⟨rfl, Or.inl rfl⟩)) (pk_sF _ (Or.inr ⟨rfl, Or.inr rfl⟩)), ?_, ps_sF1s _ _ _ _, hr⟩
  rw [ps_sF1n (by omega), ps_sF1s]
theorem pk_wrong (h : pk_C b p K c r M a op) (n : Nat) : ∃ M', gp_X3_wrong w c M (pj n) = some ((), M') ∧ pk_F r M n (pz_fr K a) M' := by
  obtain ⟨M', e, hF⟩ := pk_wrongAt (w := w) (c := c) h.1 h.2.2.2.2.2.2.2 h.2.2.2.2.1 n
  unfold gp_X3_wrong
  rw [h.2.2.1, e]
  exact ⟨M', rfl, hF⟩
theorem pk_ald3 (h : pk_C b p K c r M a op) : zs_ald 2001 (M.1.2 2 3) (M.1.1 3 3) = some (pj (pc_st (pz_kd K a) : Nat)) := by
  have hb := (pk_C_K h).1
  rw [h.2.2.1, pj_ald (by omega) (by omega), Int.toNat_natCast, (h.1.2.2.2.1 a h.2.2.2.2.1).1]
theorem pk_ald6 (h : pk_C b p K c r M a op) (h4 : 4 ≤ pz_kd K a) : zs_ald 2001 (M.1.2 2 6) (M.1.1 3 3) = some (pj (pc_wh (pz_kd K a) : Nat)) := by
  have hb := (pk_C_K h).1
  rw [h.2.2.1, pj_ald (by omega) (by omega), Int.toNat_natCast, (h.1.2.2.2.1 a h.2.2.2.2.1).2.2.2 h4]
theorem pk_ald6' (h : pk_C b p K c r M a op) : ∃ x, zs_ald 2001 (M.1.2 2 6) (M.1.1 3 3) = some x := by
  have hb := (pk_C_K h).1
  exact ⟨_, by rw [h.2.2.1, pj_ald (by omega) (by omega)]⟩
theorem pj_eqN {x y : Nat} (h : x < 1000000 ∧ y < 1000000) : (pj (x : Nat) = pj (y : Nat)) ↔ x = y := by
  rw [pj_eq (by omega) (by omega)]; omega
theorem pc_st5 {k : Nat} : pc_st k = 5 ↔ k = 3 := by
  unfold pc_st; repeat' split
  all_goals omega
theorem pc_st1 {k : Nat} : pc_st k = 1 ↔ k = 2 := by
  unfold pc_st; repeat' split
  all_goals omega
theorem pc_st0 {k : Nat} : pc_st k = 0 ↔ k = 1 := by
  unfold pc_st; repeat' split
  all_goals omega
theorem pc_st4 {k : Nat} : pc_st k = 4 ↔ k = 0 := by
  unfold pc_st; repeat' split
  all_goals omega
theorem pc_st3 {k : Nat} : pc_st k = 3 ↔ 20 ≤ k := by
  unfold pc_st; repeat' split
  all_goals omega
theorem pc_st2 {k : Nat} : pc_st k = 2 ↔ 4 ≤ k ∧ k < 20 := by
  unfold pc_st; repeat' split
  all_goals omega
theorem pk_sortOk (h : pk_C b p K c r M a op) (hk : pz_kd K a ≠ 3) : gp_X3_sort w c M = some (some (pj (pc_st (pz_kd K a) : Nat)), M) := by
  have hs := pc_st_bd (pz_kd K a)
  have hn : ¬ pj (pc_st (pz_kd K a) : Nat) = 5 := by
    rw [show (5 : Int32) = pj ((5 : Nat) : Int) from rfl, pj_eqN (by omega), pc_st5]; exact hk
  unfold gp_X3_sort
  rw [pk_ald3 h, Option.bind_some, if_neg hn, Option.bind_some]
theorem pk_sortBad (h : pk_C b p K c r M a op) (hk : pz_kd K a = 3) : ∃ M', gp_X3_sort w c M = some (none, M') ∧ pk_F r M 1 (pz_fr K a) M' := by
  have hs := pc_st_bd (pz_kd K a)
  have hn : pj (pc_st (pz_kd K a) : Nat) = 5 := by
    rw [show (5 : Int32) = pj ((5 : Nat) : Int) from rfl, pj_eqN (by omega), pc_st5]; exact hk
  obtain ⟨M', e, hF⟩ := pk_wrong (w := w) h 1
  have e : gp_X3_wrong w c M 1 = some ((), M') := e
  unfold gp_X3_sort
  rw [pk_ald3 h, Option.bind_some, if_pos hn, e]
  exact ⟨M', rfl, hF⟩
/-- one goes on -/
def pk_P (b : Nat → Int) (p : Nat) (K : List pz_T) (c : Nat) (r : Nat × Nat) (M : ps_S) (op : Nat) (e : Nat) (M' : ps_S) : Prop := M' = ps_sF M 3 3 (pj e) ∧ pk M M' ∧ pk_C b p K c r M' e op ∧ ∀ f, f ≠ 3 → M'.1.1 3 f = M.1.1 3 f
theorem pk_C_go (h : pk_C b p K c r M a op) {e : Nat} (he : e < K.length ∧ e ≤ 400) : pk_P b p K c r M op e (ps_sF M 3 3 (pj e)) := by
  obtain ⟨h1, h2, h3, h4, h5, h6, h7⟩ := h
  exact ⟨rfl, pk_sF _ (by omega), ⟨h1, h2, ps_sF1s _ _ _ _, (ps_sF1n (by omega)).trans h4, he.1, he.2, h7⟩, fun f hf => ps_sF1n (by omega)⟩
theorem pk_pass (h : pk_C b p K c r M a op) (hk : pz_kd K a ≠ 0 ∧ pz_kd K a ≠ 3) : pw (gp_X3_pass w c M) (pk_O (fun q M' => pk_F r M q.1 q.2 M') (fun e _ M' => e = a + 1 ∧ pk_P b p K c r M op e M') (pz_ps K a)) := by
  have h6 := h.2.2.2.2.2.1
  unfold gp_X3_pass pz_ps
  rw [h.2.2.1, show (400 : Int32) = pj 400 from rfl]
  by_cases d : 400 ≤ a
  · rw [if_neg (by rw [pj_lt (by omega) (by omega)]; omega), if_pos d]
    obtain ⟨M', e, hF⟩ := pk_wrong (w := w) h 2
    have e : gp_X3_wrong w c M 2 = some ((), M') := e
    rw [e]
    exact (pw_some _ _).2 ⟨rfl, hF⟩
  · rw [if_pos ((pj_lt (by omega) (by omega)).2 (by omega)), if_neg d, Option.bind_some, pw_some, pj_1, pj_add]
    exact ⟨(), rfl, rfl, pk_C_go h (e := a + 1) ⟨h.1.2.1.1.2.2 a h.2.2.2.2.1 hk.1 hk.2, by omega⟩⟩
theorem pk_isSign (h : pk_C b p K c r M a op) {k : Nat} (hk : k = 4 ∨ k = 5 ∨ k = 6 ∨ k = 7 ∨ k = 8 ∨ k = 9 ∨ k = 10 ∨ k = 13 ∨ k = 15) : gp_X3_isSign w c M (pj (pc_wh k : Nat)) = some (decide (pz_kd K a = k)) := by
  obtain ⟨hb1, hb2, hb3⟩ := pk_C_K h
  have hs := pc_st_bd (pz_kd K a)
  have hw := pc_wh_bd hb2
  have hw2 := pc_wh_bd (k := k) (by omega)
  unfold gp_X3_isSign
  rw [pk_ald3 h, Option.bind_some, pw_let, show (2 : Int32) = pj ((2 : Nat) : Int) from rfl]
  by_cases c1 : 4 ≤ pz_kd K a ∧ pz_kd K a < 20
  · rw [if_pos ((pj_eqN (by omega)).2 (pc_st2.2 c1)), pk_ald6 h c1.1, Option.bind_some]
    by_cases c2 : pz_kd K a = k
    · rw [c2, if_pos rfl, decide_eq_true rfl]
    · rw [if_neg, decide_eq_false c2]
      rw [pj_eqN (by omega)]
      intro e
      have hkk : pz_kd K a = 4 ∨ pz_kd K a = 5 ∨ pz_kd K a = 6 ∨ pz_kd K a = 7 ∨ pz_kd K a = 8 ∨ pz_kd K a = 9 ∨ pz_kd K a = 10 ∨ pz_kd K a = 13 ∨ pz_kd K a = 15 ∨ pc_wh (pz_kd K a) = 0 := by
        unfold pc_wh; repeat' split
        all_goals omega
      rcases hkk with q | q | q | q | q | q | q | q | q | q <;> rw [q] at e <;> rcases hk with r | r | r | r | r | r | r | r | r <;> subst r <;> first | exact c2 q | exact absurd e (by decide)
  · rw [if_neg (by rw [pj_eqN (by omega), pc_st2]; exact c1), decide_eq_false (by omega)]
theorem pk_isWord (h : pk_C b p K c r M a op) {v : Nat} (hv : v ≤ 21) : gp_X3_isWord w c M (pj v) = some (decide (pz_kd K a = 20 + v)) := by
  obtain ⟨hb1, hb2, hb3⟩ := pk_C_K h
  have hs := pc_st_bd (pz_kd K a)
  unfold gp_X3_isWord
  rw [pk_ald3 h, Option.bind_some, pw_let, show (3 : Int32) = pj ((3 : Nat) : Int) from rfl]
  by_cases c1 : 20 ≤ pz_kd K a
  · have hw : pc_wh (pz_kd K a) = pz_kd K a - 20 := by
      unfold pc_wh; repeat' split
      all_goals omega
    rw [if_pos ((pj_eqN (by omega)).2 (pc_st3.2 c1)), pk_ald6 h (by omega), Option.bind_some, hw]
    by_cases c2 : pz_kd K a = 20 + v
    · rw [if_pos ((pj_eqN (by omega)).2 (by omega)), decide_eq_true c2]
    · rw [if_neg (by rw [pj_eqN (by omega)]; omega), decide_eq_false c2]
  · rw [if_neg (by rw [pj_eqN (by omega), pc_st3]; exact c1), decide_eq_false (by omega)]
theorem pk_need {g : Option Bool} {k n : Nat} (h : pk_C b p K c r M a op) (hg : g = some (decide (pz_kd K a = k))) (hk : k ≠ 0 ∧ k ≠ 3) :
    pw (g.bind fun b1 => if b1 = true then ((gp_X3_pass w c M).bind (zx_sel (fun M3 => (none, M3)) fun (p2 : Unit × ps_S) => some (some (), p2.2))) else ((gp_X3_wrong w c M 1).bind fun p4 => some (none, p4.2)))
      (pk_O (fun q M' => pk_F r M q.1 q.2 M') (fun e _ M' => e = a + 1 ∧ pk_P b p K c r M op e M') (pz_tk K k a)) := by
  rw [hg, Option.bind_some]
  unfold pz_tk
  by_cases d : pz_kd K a = k
  · rw [if_pos d, decide_eq_true d, if_pos rfl]
    have := pk_sel (f := fun (p2 : Unit × ps_S) => some (some (), p2.2)) (th := fun M3 => ((none : Option Unit), M3)) (s := fun e => Sum.inr e) (Q := pk_O (fun q M' => pk_F r M q.1 q.2 M') (fun e _ M' => e = a + 1 ∧ pk_P b p K c r M op e M')) (pk_pass (w := w) h (by omega)) (fun q M' hq => ⟨rfl, hq⟩) (fun v y M' _ hv => (pw_some _ _).2 ⟨(), rfl, hv⟩)
    have e2 : pz_bd (pz_ps K a) (fun e => (Sum.inr e : pz_R Nat)) = pz_ps K a := by cases pz_ps K a <;> rfl
    rw [e2] at this
    exact this
  · rw [if_neg d, decide_eq_false d, if_neg (by decide)]
    obtain ⟨M', e, hF⟩ := pk_wrong (w := w) h 1
    have e : gp_X3_wrong w c M 1 = some ((), M') := e
    rw [e]
    exact (pw_some _ _).2 ⟨rfl, hF⟩
theorem pk_sign (h : pk_C b p K c r M a op) {k : Nat} (hk : k = 4 ∨ k = 5 ∨ k = 6 ∨ k = 7 ∨ k = 8 ∨ k = 9 ∨ k = 10 ∨ k = 13 ∨ k = 15) :
    pw (gp_X3_sign w c M (pj (pc_wh k : Nat))) (pk_O (fun q M' => pk_F r M q.1 q.2 M') (fun e _ M' => e = a + 1 ∧ pk_P b p K c r M op e M') (pz_tk K k a)) := by
  unfold gp_X3_sign
  exact pk_need (n := 0) h (pk_isSign h hk) (by omega)
theorem pk_word (h : pk_C b p K c r M a op) {v : Nat} (hv : v ≤ 21) :
    pw (gp_X3_word w c M (pj v)) (pk_O (fun q M' => pk_F r M q.1 q.2 M') (fun e _ M' => e = a + 1 ∧ pk_P b p K c r M op e M') (pz_tk K (20 + v) a)) := by
  unfold gp_X3_word
  exact pk_need (n := 0) h (pk_isWord h hv) (by omega)
theorem pk_take (h : pk_C b p K c r M a op) {k : Nat} (hk : k = 1 ∨ k = 2) :
    pw (gp_X3_take w c M (pj (pc_st k : Nat))) (pk_O (fun q M' => pk_F r M q.1 q.2 M') (fun e y M' => y = pj a ∧ e = a + 1 ∧ pk_P b p K c r M op e M') (pz_tk K k a)) := by
  have hs := pc_st_bd (pz_kd K a)
  have hs2 := pc_st_bd k
  unfold gp_X3_take
  by_cases d3 : pz_kd K a = 3
  · obtain ⟨M', e, hF⟩ := pk_sortBad (w := w) h d3
    rw [e]
    unfold pz_tk
    rw [if_neg (by omega)]
    exact (pw_some _ _).2 ⟨rfl, hF⟩
  · rw [pk_sortOk h d3, Option.bind_some]
    show pw (if pj (pc_st (pz_kd K a) : Nat) = pj (pc_st k : Nat) then _ else _) _
    unfold pz_tk
    have hst : pc_st (pz_kd K a) = pc_st k ↔ pz_kd K a = k := by
      rcases hk with rfl | rfl
      · exact pc_st0
      · exact pc_st1
    by_cases d : pz_kd K a = k
    · rw [if_pos (by rw [d]), if_pos d]
      have := pk_sel (f := fun (p3 : Unit × ps_S) => some (some ((p3.2.1.1 3 3) - 1), p3.2)) (th := fun M3 => ((none : Option Int32), M3)) (s := fun e => Sum.inr e) (Q := pk_O (fun q M' => pk_F r M q.1 q.2 M') (fun e y M' => y = pj a ∧ e = a + 1 ∧ pk_P b p K c r M op e M')) (pk_pass (w := w) h (by omega)) (fun q M' hq => ⟨rfl, hq⟩) (fun v y M' _ hv => (pw_some _ _).2 ⟨_, rfl, ?_, hv⟩)
      · have e2 : pz_bd (pz_ps K a) (fun e => (Sum.inr e : pz_R Nat)) = pz_ps K a := by cases pz_ps K a <;> rfl
        rw [e2] at this
        exact this
      · obtain ⟨rfl, hP⟩ := hv
        show M'.1.1 3 3 - 1 = _
        rw [hP.2.2.1.2.2.1, pj_1, pj_sub]; congr 1; omega
    · rw [if_neg (by rw [pj_eqN (by omega), hst]; exact d), if_neg d]
      obtain ⟨M', e, hF⟩ := pk_wrong (w := w) h 1
      have e : gp_X3_wrong w c M 1 = some ((), M') := e
      rw [e]
      exact (pw_some _ _).2 ⟨rfl, hF⟩
end PK
/-! numbers and sums, by the component -/
theorem pk_number {b : Nat → Int} {p : Nat} {K : List pz_T} {w : Nat → Nat} {c : Nat} {M : ps_S} (h : pk_tok b p K M.1.2) {t : Nat} (ht : t < K.length) (hk : pz_kd K t = 2) : gp_X2_number w c M (pj t) = some (pj (pz_vl K t : Nat)) := by
  obtain ⟨⟨hp, hl⟩, h2, h3, h4, h5⟩ := h
  obtain ⟨t1, t2, t3, -⟩ := h4 t ht
  obtain ⟨f1, f2, f3⟩ := h5 t ht
  obtain ⟨f4, f5, f6⟩ := f3 hk
  unfold gp_X2_number
  rw [pj_ald (by omega) (by omega), Int.toNat_natCast, t2, Option.bind_some, f4]
  have hloop : zs_loop 5000 (g_X2_number_L9 M (pj (t : Nat))) (0, pj (pz_fr K t : Nat)) = some (pj (pz_num b (pz_fr K t) (pz_to K t - pz_fr K t) : Nat)) := by
    have e0 : ((0 : Int32), pj (pz_fr K t : Nat)) = (pj (pz_num b (pz_fr K t) 0 : Nat), pj ((pz_fr K t + 0 : Nat) : Int)) := rfl
    rw [e0]
    refine pw_forE (pz_to K t - pz_fr K t) (fun j => (pj (pz_num b (pz_fr K t) j : Nat), pj ((pz_fr K t + j : Nat) : Int))) 5000 (by omega) (fun j hj => ?_) ?_
    · have hb := f6 (pz_fr K t + j) (by omega) (by omega)
      have hn := (pz_num_bd (b := b) (k := pz_fr K t) j (fun i hi => f6 (pz_fr K t + i) (by omega) (by omega))).1
      have h10 : 10 ^ j ≤ 10 ^ 4 := Nat.pow_le_pow_right (by omega) (by omega)
      unfold g_X2_number_L9
      dsimp only
      rw [pj_ald (by omega) (by omega), Int.toNat_natCast, t3, Option.bind_some, if_pos ((pj_lt (by omega) (by omega)).2 (by omega)), pj_ald (by omega) (by omega), Int.toNat_natCast, (h3 _ (by omega)).1, Option.bind_some, Option.bind_some]
      have e1 : 10 * pj ((pz_num b (pz_fr K t) j : Nat) : Int) + pj (b (pz_fr K t + j)) - 48 = pj ((pz_num b (pz_fr K t) (j + 1) : Nat) : Int) := by
        have : pz_num b (pz_fr K t) (j + 1) = 10 * pz_num b (pz_fr K t) j + (b (pz_fr K t + j)).toNat - 48 := rfl
        rw [show (10 : Int32) = pj 10 from rfl, show (48 : Int32) = pj 48 from rfl, pj_mul, pj_add, pj_sub]
        congr 1
        omega
      rw [e1, pj_1, pj_add]; rfl
    · unfold g_X2_number_L9
      dsimp only
      rw [pj_ald (by omega) (by omega), Int.toNat_natCast, t3, Option.bind_some, if_neg (by rw [pj_lt (by omega) (by omega)]; omega)]
  rw [hloop]; rfl
/-- cells that were made since, of kinds that stand once made -/
def pk_tf (t : Nat) : Bool := t == 11 || t == 13 || t == 14 || t == 15 || t == 16 || t == 18 || t == 65 || t == 70
def gq (s : Nat) (M : ps_S) : Nat → Option zs_HC := fun a => if s ≤ a ∧ a < M.2.1.2.1 then (match M.2.1.2.2 a with | some x => if pk_tf x.1 = true then some x else none | none => none) else none
def pk_ic (g g' : Nat → Option zs_HC) : Prop := ∀ a x, g a = some x → g' a = some x
theorem gq_some {s a : Nat} {M : ps_S} {x : zs_HC} (h1 : s ≤ a ∧ a < M.2.1.2.1) (h2 : M.2.1.2.2 a = some x) (h3 : pk_tf x.1 = true) : gq s M a = some x := by
  unfold gq
  rw [if_pos h1, h2]
  exact if_pos h3
theorem gq_inv {s a : Nat} {M : ps_S} {x : zs_HC} (h : gq s M a = some x) : (s ≤ a ∧ a < M.2.1.2.1) ∧ M.2.1.2.2 a = some x ∧ pk_tf x.1 = true := by
  unfold gq at h
  split at h
  · rename_i h1
    split at h
    · rename_i y hy
      split at h
      · rename_i h3
        injection h with h
        subst h
        exact ⟨h1, hy, h3⟩
      · cases h
    · cases h
  · cases h
theorem gq_le {s s' : Nat} {M M' : ps_S} (h : pk M M') (hs : s' ≤ s) : pk_ic (gq s M) (gq s' M') := fun a x e => by
  obtain ⟨h1, h2, h3⟩ := gq_inv e
  exact gq_some ⟨by omega, Nat.lt_of_lt_of_le h1.2 h.2.1⟩ (h.2.2.1 a x h1.2 h2) h3
theorem gq_upL {s a : Nat} {M : ps_S} (x : zs_HC) (h : a < s) : gq s (ps_up M a x) = gq s M := by
  funext q
  unfold gq
  by_cases c : s ≤ q ∧ q < M.2.1.2.1
  · rw [if_pos c]
    show (if s ≤ q ∧ q < M.2.1.2.1 then _ else _) = _
    rw [if_pos c, ps_upC, if_neg (by omega)]
  · rw [if_neg c]
    exact if_neg c
theorem pk_ic_trans {g g' g'' : Nat → Option zs_HC} (h : pk_ic g g') (k : pk_ic g' g'') : pk_ic g g'' := fun a x e => k a x (h a x e)
theorem zl_of_ic {g g' : Nat → Option zs_HC} (hic : pk_ic g g') : ∀ (d a : Nat) (c : zl_C), zl_of g d a = some c → ∀ d', d ≤ d' → zl_of g' d' a = some c
  | 0, a, c, h => by cases h
  | d + 1, a, c, h => fun d' hd => by
    obtain ⟨d', rfl⟩ : ∃ e, d' = e + 1 := ⟨d' - 1, by omega⟩
    unfold zl_of at h
    split at h
    · rename_i F hF
      unfold zl_of
      rw [hic _ _ hF]
      exact h
    · rename_i F hF
      unfold zl_of
      rw [hic _ _ hF]
      exact h
    · rename_i F hF
      obtain ⟨op, h1, h⟩ := zs_bsome h
      obtain ⟨a1, h2, h⟩ := zs_bsome h
      obtain ⟨a2, h3, h⟩ := zs_bsome h
      obtain ⟨c1, h4, h⟩ := zs_bsome h
      obtain ⟨c2, h5, h⟩ := zs_bsome h
      unfold zl_of
      rw [hic _ _ hF]
      show (zs_vi (F 0)).bind _ = _
      rw [h1, Option.bind_some, h2, Option.bind_some, h3, Option.bind_some, zl_of_ic hic d a1 c1 h4 d' (by omega), Option.bind_some, zl_of_ic hic d a2 c2 h5 d' (by omega), Option.bind_some]
      exact h
    · cases h
theorem zl_of_num {g : Nat → Option zs_HC} {a d : Nat} {F : Nat → Value} {v : Int32} (h : g a = some (13, 1, F)) (hF : F 0 = .int v) : zl_of g (d + 1) a = some [(0, v)] := by
  unfold zl_of
  rw [h]
  show (zs_vi (F 0)).bind _ = _
  rw [hF]; rfl
theorem zl_of_var {g : Nat → Option zs_HC} {a d : Nat} {F : Nat → Value} {v : Int32} (h : g a = some (14, 1, F)) (hF : F 0 = .int v) (hv : zs_in v 9 = true) : zl_of g (d + 1) a = some [(1, v)] := by
  unfold zl_of
  rw [h]
  show (zs_vi (F 0)).bind _ = _
  rw [hF]
  show (if zs_in v 9 = true then some [(1, v)] else none) = _
  rw [if_pos hv]
theorem zl_of_join {g : Nat → Option zs_HC} {a d a1 a2 : Nat} {F : Nat → Value} {v : Int32} {c1 c2 : zl_C} (h : g a = some (15, 3, F)) (hF : F 0 = .int v) (h1 : F 1 = .ref a1) (h2 : F 2 = .ref a2) (g1 : zl_of g d a1 = some c1) (g2 : zl_of g d a2 = some c2) : zl_of g (d + 1) a = some (c1 ++ c2 ++ [(zl_op v, 0)]) := by
  unfold zl_of
  rw [h]
  show (zs_vi (F 0)).bind _ = _
  rw [hF, h1, h2]
  show (zl_of g d a1).bind _ = _
  rw [g1, Option.bind_some, g2]; rfl
theorem zl_of_tag {g : Nat → Option zs_HC} {d a : Nat} {c : zl_C} (h : zl_of g d a = some c) : ∃ t n F, g a = some (t, n, F) ∧ (t = 13 ∨ t = 14 ∨ t = 15) := by
  cases d with
  | zero => cases h
  | succ d =>
    unfold zl_of at h
    split at h
    · rename_i F hF; exact ⟨_, _, _, hF, Or.inl rfl⟩
    · rename_i F hF; exact ⟨_, _, _, hF, Or.inr (Or.inl rfl)⟩
    · rename_i F hF; exact ⟨_, _, _, hF, Or.inr (Or.inr rfl)⟩
    · cases h
def pk_G (b : Nat → Int) (p : Nat) (K : List pz_T) (c : Nat) (r : Nat × Nat) (M : ps_S) (a op : Nat) (v : zl_C × Nat) (y : Nat) (M' : ps_S) : Prop := pk M M' ∧ pk_C b p K c r M' v.2 op ∧ pk_rm r v.2 M' ∧ (∀ f, f ≠ 3 → M'.1.1 3 f = M.1.1 3 f) ∧ a < v.2 ∧ ∃ d, d + a ≤ v.2 ∧ zl_of (gq M.2.1.2.1 M') d y = some v.1
def pk_Q (b : Nat → Int) (p : Nat) (K : List pz_T) (c : Nat) (r : Nat × Nat) (M : ps_S) (a op : Nat) : pz_R (zl_C × Nat) → Option Nat × ps_S → Prop := pk_O (fun q M' => pk_F r M q.1 q.2 M') (fun v y M' => pk_G b p K c r M a op v y M')
theorem pk_C_m {b : Nat → Int} {p : Nat} {K : List pz_T} {c : Nat} {r : Nat × Nat} {M M' : ps_S} {a op : Nat} (h : pk_C b p K c r M a op) (e : M'.1 = M.1) (hb : pk_b c M') (hr : pk_rf r M') : pk_C b p K c r M' a op := by
  obtain ⟨h1, h2, h3, h4, h5, h6, h7⟩ := h
  exact ⟨by rw [e]; exact h1, hb, by rw [e]; exact h3, by rw [e]; exact h4, h5, h6, h7.1, hr⟩
theorem pk_leaf {b : Nat → Int} {p : Nat} {K : List pz_T} {c : Nat} {r : Nat × Nat} {M M1 : ps_S} {a op ci : Nat} {v : zl_C} {F0 : Nat → Value} {x : Int32} (h : pk_C b p K c r M a op) (hr : pk_rm r a M) (hP : pk_P b p K c r M op (a + 1) M1) (hci : ci = 13 ∨ ci = 14) (hv : ∀ (g : Nat → Option zs_HC) q F, g q = some (ci, 1, F) → F 0 = .int x → zl_of g (0 + 1) q = some v) :
    ∃ M2, ps_nw M1 (ci, 1, F0) 1 = some (M1.2.1.2.1, M2) ∧ M2.1 = M1.1 ∧ ∃ M3, ps_pV c M2 M1.2.1.2.1 ci 1 0 (.int x) = some M3 ∧ pk_G b p K c r M a op (v, a + 1) M1.2.1.2.1 M3 := by
  obtain ⟨hP1, hP2, hP3, hP4⟩ := hP
  have hm : M1.2 = M.2 := by rw [hP1]; rfl
  obtain ⟨r1, r2, r3, r4⟩ := hr
  have h400 := h.2.2.2.2.2.1
  obtain ⟨M2, e1, e2, e3, e4, e5, e6, e7⟩ := pk_nw (M := M1) (ci, 1, F0) (sl := 1) (by rw [hm]; omega)
  have hb2 := pk_b_le e2 hP3.2.1
  have hs := hP3.2.1.1
  have hput := pk_pV (c := c) (k := 0) (.int x) hs hb2.2 e4
  refine ⟨M2, e1, e5, _, hput, pk_trans hP2 (pk_up _ e2 (Nat.le_refl _)), pk_C_m hP3 e5 ⟨hb2.1, hb2.2⟩ ⟨by show r.1 ≤ M2.2.2.2.1 + 5000; rw [e6, hm]; omega, by show r.2 ≤ M2.2.2.2.2 + 25000; rw [e7, hm]; omega⟩, ⟨?_, ?_, r3, r4⟩, fun f hf => ?_, Nat.lt_succ_self a, 1, by show 1 + a ≤ a + 1; omega, ?_⟩
  · show r.1 ≤ M2.2.2.2.1 + 12 * (a + 1)
    rw [e6, hm]; omega
  · show r.2 ≤ M2.2.2.2.2 + 60 * (a + 1)
    rw [e7, hm]; omega
  · show M2.1.1 3 f = _
    rw [e5]; exact hP4 f hf
  · refine hv _ _ _ (gq_some ⟨hP2.2.1, by show _ < M2.2.1.2.1; omega⟩ (by rw [ps_upC, if_pos rfl]) ?_) (updV_s _ _ _)
    rcases hci with rfl | rfl <;> rfl
theorem pk_unit {b : Nat → Int} {p : Nat} {K : List pz_T} {w : Nat → Nat} {c : Nat} {r : Nat × Nat} {rf : ps_S → Option (Option Nat × ps_S)} {rs : Nat → Nat → pz_R (zl_C × Nat)} {op : Nat} (hrf : ∀ M a, op < 6 → pk_C b p K c r M a (op + 1) → pk_rm r a M → pw (rf M) (pk_Q b p K c r M a (op + 1) (rs (op + 1) a))) {M : ps_S} {a : Nat} (h : pk_C b p K c r M a op) (hr : pk_rm r a M) :
    pw (gp_X3_unit_B w c rf M) (pk_Q b p K c r M a op (pz_un K rs op a)) := by
  obtain ⟨hb1, hb2, hb3⟩ := pk_C_K h
  have hs := pc_st_bd (pz_kd K a)
  have h400 := h.2.2.2.2.2.1
  unfold gp_X3_unit_B pz_un
  by_cases d3 : pz_kd K a = 3
  · obtain ⟨M', e, hF⟩ := pk_sortBad (w := w) h d3
    rw [e, if_neg (by omega), if_neg (by omega), if_neg (by omega)]
    exact (pw_some _ _).2 ⟨rfl, hF⟩
  rw [pk_sortOk h d3, Option.bind_some]
  show pw (if pj (pc_st (pz_kd K a) : Nat) = 1 then _ else _) _
  have hcmp : ∀ v : Nat, v < 100 → (pj (pc_st (pz_kd K a) : Nat) = pj (v : Nat) ↔ pc_st (pz_kd K a) = v) := fun v hv => pj_eqN (by omega)
  rw [show (1 : Int32) = pj ((1 : Nat) : Int) from rfl]
  by_cases d2 : pz_kd K a = 2
  · rw [if_pos ((hcmp 1 (by omega)).2 (pc_st1.2 d2)), if_pos d2]
    refine pk_sel (Q := pk_Q b p K c r M a op) (pk_pass (w := w) h (by omega)) (fun q M' hq => ⟨rfl, hq⟩) (fun e y M1 _ hv => ?_)
    obtain ⟨rfl, hP⟩ := hv
    obtain ⟨M2, e1, e2, M3, e3, e4⟩ := pk_leaf (ci := 13) (v := [(0, pj (pz_vl K a : Nat))]) (x := pj (pz_vl K a : Nat)) (F0 := fun k => defaultValue (tyX13 k)) h hr hP (Or.inl rfl) (fun g q F g1 g2 => zl_of_num g1 g2)
    show pw ((ps_nw M1 _ 1).bind _) _
    rw [e1, Option.bind_some]
    show pw ((gp_X2_number w c M2 (M2.1.1 3 3 - pj (1 : Nat))).bind _) _
    have hat : M2.1.1 3 3 - pj (1 : Nat) = pj (a : Nat) := by rw [e2, hP.2.2.1.2.2.1, pj_sub]; congr 1; omega
    rw [hat, pk_number (b := b) (p := p) (K := K) (by rw [e2]; exact hP.2.2.1.1) h.2.2.2.2.1 d2, Option.bind_some]
    unfold gp_X13_init gp_X12_init
    show pw (((ps_pV c M2 M1.2.1.2.1 13 1 0 _).bind _).bind _) _
    rw [e3]
    exact (pw_some _ _).2 ⟨_, rfl, e4⟩
  rw [if_neg (fun q => d2 (pc_st1.1 ((hcmp 1 (by omega)).1 q))), if_neg d2, pk_sortOk h d3, Option.bind_some]
  -- what is opened, or wrong
  have hJ : ¬ (33 ≤ pz_kd K a ∧ pz_kd K a ≤ 41) → pw ((gp_X3_isSign w c M 40).bind fun b6 =>
      if b6 = true then (if (M.1.1 3 4) = 6 then ((gp_X3_wrong w c M 2).bind fun p15 =>
      some (none, p15.2))
      else ((some (ps_sF M 3 4 ((M.1.1 3 4) + 1))).bind fun M7 =>
      (gp_X3_pass w c M7).bind (zx_sel (fun M9 => (none, M9)) fun (p8 : Unit × ps_S) =>
      (rf p8.2).bind (zx_sel (fun M11 => (none, M11)) fun (p10 : Nat × ps_S) =>
      (gp_X3_sign w c p10.2 41).bind (zx_sel (fun M13 => (none, M13)) fun (p12 : Unit × ps_S) =>
      (some (ps_sF p12.2 3 4 ((p12.2.1.1 3 4) - 1))).bind fun M14 =>
      some (some p10.1, M14))))))
      else ((gp_X3_wrong w c M 1).bind fun p16 =>
      some (none, p16.2))) (pk_Q b p K c r M a op (if pz_kd K a = 6 then (if op = 6 then Sum.inl (2, pz_fr K a) else pz_bd (pz_ps K a) fun b => pz_bd (rs (op + 1) b) fun r => pz_bd (pz_tk K 7 r.2) fun e => Sum.inr (r.1, e)) else Sum.inl (1, pz_fr K a))) := by
    intro hnv
    have hsg := pk_isSign (w := w) h (k := 6) (by omega)
    rw [show (40 : Int32) = pj (pc_wh 6 : Nat) from rfl, hsg, Option.bind_some]
    by_cases d6 : pz_kd K a = 6
    · rw [decide_eq_true d6, if_pos rfl, if_pos d6, h.2.2.2.1, show (6 : Int32) = pj ((6 : Nat) : Int) from rfl]
      have hop := h.2.2.2.2.2.2
      by_cases ho : op = 6
      · rw [if_pos (by rw [ho]), if_pos ho]
        obtain ⟨M', e, hF⟩ := pk_wrong (w := w) h 2
        have e : gp_X3_wrong w c M 2 = some ((), M') := e
        rw [e]
        exact (pw_some _ _).2 ⟨rfl, hF⟩
      · rw [if_neg (by rw [pj_eqN (by omega)]; exact ho), if_neg ho, Option.bind_some, pj_1, pj_add]
        have hC7 : pk_C b p K c r (ps_sF M 3 4 (pj ((op : Int) + 1))) a (op + 1) := ⟨h.1, h.2.1, (ps_sF1n (by omega)).trans h.2.2.1, by rw [ps_sF1s]; rfl, h.2.2.2.2.1, h400, by omega, h.2.2.2.2.2.2.2⟩
        have hk7 : pk M (ps_sF M 3 4 (pj ((op : Int) + 1))) := pk_sF _ (by omega)
        have h47 : ∀ f, f ≠ 4 → (ps_sF M 3 4 (pj ((op : Int) + 1))).1.1 3 f = M.1.1 3 f := fun f hf => ps_sF1n (by omega)
        have hr7 : pk_rm r a (ps_sF M 3 4 (pj ((op : Int) + 1))) := hr
        have hz7 : (ps_sF M 3 4 (pj ((op : Int) + 1))).2 = M.2 := rfl
        generalize ps_sF M 3 4 (pj ((op : Int) + 1)) = M7 at hC7 hk7 h47 hr7 hz7
        refine pk_sel (Q := pk_Q b p K c r M a op) (pk_pass (w := w) hC7 (by omega)) (fun q M' hq => ⟨rfl, pk_F_le hk7 hq⟩) (fun e y M8 _ hv => ?_)
        obtain ⟨rfl, hP1, hP2, hP3, hP4⟩ := hv
        have hr8 : pk_rm r (a + 1) M8 := by
          obtain ⟨r1, r2, r3, r4⟩ := hr7
          rw [hP1]
          exact ⟨by show r.1 ≤ M7.2.2.2.1 + 12 * (a + 1); omega, by show r.2 ≤ M7.2.2.2.2 + 60 * (a + 1); omega, r3, r4⟩
        refine pk_sel (Q := pk_Q b p K c r M a op) (hrf M8 (a + 1) (by omega) hP3 hr8) (fun q M' hq => ⟨rfl, pk_F_le (pk_trans hk7 hP2) hq⟩) (fun v y M9 _ hv => ?_)
        obtain ⟨g1, g2, g3, g4, g5, d, g6, g7⟩ := hv
        refine pk_sel (Q := pk_Q b p K c r M a op) (pk_sign (w := w) g2 (k := 7) (by omega)) (fun q M' hq => ⟨rfl, pk_F_le (pk_trans (pk_trans hk7 hP2) g1) hq⟩) (fun e y2 M10 _ hv => ?_)
        obtain ⟨rfl, hQ1, hQ2, hQ3, hQ4⟩ := hv
        rw [Option.bind_some]
        have e104 : M10.1.1 3 4 = pj ((op + 1 : Nat) : Int) := hQ3.2.2.2.1
        have e10 : pj ((op + 1 : Nat) : Int) - pj 1 = pj (op : Nat) := by rw [pj_sub]; congr 1; omega
        show pw (some (some y, ps_sF M10 3 4 (M10.1.1 3 4 - 1))) _
        rw [e104, pj_1, e10]
        have hk10 : pk M M10 := pk_trans (pk_trans (pk_trans hk7 hP2) g1) hQ2
        obtain ⟨r1, r2, r3, r4⟩ := g3
        refine (pw_some _ _).2 ⟨y, rfl, pk_trans hk10 (pk_sF _ (by omega)), ⟨hQ3.1, hQ3.2.1, (ps_sF1n (by omega)).trans hQ3.2.2.1, ps_sF1s _ _ _ _, hQ3.2.2.2.2.1, hQ3.2.2.2.2.2.1, by omega, hQ3.2.2.2.2.2.2.2⟩, ⟨?_, ?_, r3, r4⟩, fun f hf => ?_, by show a < v.2 + 1; omega, d, by show d + a ≤ v.2 + 1; omega, ?_⟩
        · show r.1 ≤ M10.2.2.2.1 + 12 * (v.2 + 1)
          rw [hQ1]; show r.1 ≤ M9.2.2.2.1 + 12 * (v.2 + 1); omega
        · show r.2 ≤ M10.2.2.2.2 + 60 * (v.2 + 1)
          rw [hQ1]; show r.2 ≤ M9.2.2.2.2 + 60 * (v.2 + 1); omega
        · by_cases f4 : f = 4
          · subst f4; rw [ps_sF1s, h.2.2.2.1]
          · rw [ps_sF1n (by omega), hQ4 f hf, g4 f hf, hP4 f hf, h47 f f4]
        · exact zl_of_ic (gq_le (pk_trans hQ2 (pk_sF _ (by omega))) (by rw [hP1]; show M.2.1.2.1 ≤ M7.2.1.2.1; rw [hz7]; exact Nat.le_refl _)) d y v.1 g7 d (Nat.le_refl _)
    · rw [decide_eq_false d6, if_neg (by decide), if_neg d6]
      obtain ⟨M', e, hF⟩ := pk_wrong (w := w) h 1
      have e : gp_X3_wrong w c M 1 = some ((), M') := e
      rw [e]
      exact (pw_some _ _).2 ⟨rfl, hF⟩
  show pw (zs_let _ (fun J87 => if pj (pc_st (pz_kd K a) : Nat) = 3 then _ else _)) _
  rw [pw_let, show (3 : Int32) = pj ((3 : Nat) : Int) from rfl]
  by_cases d20 : 20 ≤ pz_kd K a
  · rw [if_pos ((hcmp 3 (by omega)).2 (pc_st3.2 d20))]
    have hw : pc_wh (pz_kd K a) = pz_kd K a - 20 := by
      unfold pc_wh; repeat' split
      all_goals omega
    show pw ((zs_ald 2001 (M.1.2 2 6) (M.1.1 3 3)).bind _) _
    rw [pk_ald6 h (by omega), Option.bind_some, hw, show (13 : Int32) = pj ((13 : Nat) : Int) from rfl]
    by_cases d33 : 33 ≤ pz_kd K a
    · rw [if_neg (by rw [pj_lt (by omega) (by omega)]; omega), if_pos ⟨d33, hb2⟩]
      refine pk_sel (Q := pk_Q b p K c r M a op) (pk_pass (w := w) h (by omega)) (fun q M' hq => ⟨rfl, hq⟩) (fun e y M1 _ hv => ?_)
      obtain ⟨rfl, hP⟩ := hv
      obtain ⟨M2, e1, e2, M3, e3, e4⟩ := pk_leaf (ci := 14) (v := [(1, pj ((pz_kd K a - 33 : Nat) : Int))]) (x := pj ((pz_kd K a - 33 : Nat) : Int)) (F0 := fun k => defaultValue (tyX14 k)) h hr hP (Or.inr rfl) (fun g q F g1 g2 => zl_of_var g1 g2 (pj_in (by omega) (by omega)))
      show pw ((ps_nw M1 _ 1).bind _) _
      rw [e1, Option.bind_some]
      show pw ((zs_ald 2001 (M2.1.2 2 6) (M2.1.1 3 3 - 1)).bind _) _
      have hat : M2.1.1 3 3 - 1 = pj (a : Nat) := by rw [e2, hP.2.2.1.2.2.1, pj_1, pj_sub]; congr 1; omega
      have ht := (h.1.2.2.2.1 a h.2.2.2.2.1).2.2.2 (by omega)
      have e12 : M2.1.2 = M.1.2 := by rw [e2]; exact hP.2.1.2.2.2.1
      rw [hat, pj_ald (by omega) (by omega), Int.toNat_natCast, e12, ht, Option.bind_some, hw]
      have e13 : pj ((pz_kd K a - 20 : Nat) : Int) - pj ((13 : Nat) : Int) = pj ((pz_kd K a - 33 : Nat) : Int) := by rw [pj_sub]; congr 1; omega
      rw [e13]
      unfold gp_X14_init gp_X12_init
      show pw (((ps_pV c M2 M1.2.1.2.1 14 1 0 _).bind _).bind _) _
      rw [e3]
      exact (pw_some _ _).2 ⟨_, rfl, e4⟩
    · rw [if_pos ((pj_lt (by omega) (by omega)).2 (by omega)), if_neg (show ¬ (33 ≤ pz_kd K a ∧ pz_kd K a ≤ 41) by omega)]
      exact hJ (by omega)
  · rw [if_neg (fun q => d20 (pc_st3.1 ((hcmp 3 (by omega)).1 q))), if_neg (show ¬ (33 ≤ pz_kd K a ∧ pz_kd K a ≤ 41) by omega)]
    exact hJ (by omega)
/-! parts and sums, by the component -/
def pz_gL (K : List pz_T) (k1 k2 : Nat) (us : Nat → pz_R (zl_C × Nat)) : Nat → zl_C → Nat → pz_R (zl_C × Nat)
  | 0, c, a => Sum.inr (c, a)
  | n + 1, c, a => if pz_kd K a = k1 ∨ pz_kd K a = k2 then pz_bd (pz_ps K a) fun b => pz_bd (us b) fun r => pz_gL K k1 k2 us n (c ++ r.1 ++ [(pz_cd (pz_kd K a), 0)]) r.2 else Sum.inr (c, a)
theorem pz_ptL_gg (K : List pz_T) (rf : Nat → Nat → pz_R (zl_C × Nat)) (op : Nat) : ∀ n c a, pz_ptL K rf op n c a = pz_gL K 10 15 (pz_un K rf op) n c a
  | 0, _, _ => rfl
  | n + 1, c, a => by
    unfold pz_ptL pz_gL
    congr 2
    funext b
    congr 1
    funext r
    exact pz_ptL_gg K rf op n _ _
theorem pz_smL_g2 (K : List pz_T) (rf : Nat → Nat → pz_R (zl_C × Nat)) (op : Nat) : ∀ n c a, pz_smL K rf op n c a = pz_gL K 8 9 (pz_pt K rf op) n c a
  | 0, _, _ => rfl
  | n + 1, c, a => by
    unfold pz_smL pz_gL
    congr 2
    funext b
    congr 1
    funext r
    exact pz_smL_g2 K rf op n _ _
def pk_body (w : Nat → Nat) (c : Nat) (s1 s2 : Int32) (U : ps_S → Option (Option Nat × ps_S)) : (Nat × ps_S) → Option ((Nat × ps_S) ⊕ (Option Nat × ps_S)) := fun t5 =>
  (gp_X3_isSign w c t5.2 s1).bind fun b3 =>
  zs_let (fun (p4 : Unit) => (zs_ald 2001 (t5.2.1.2 2 6) (t5.2.1.1 3 3)).bind fun x5 =>
  (gp_X3_pass w c t5.2).bind (zx_sel (fun M7 => Sum.inr (none, M7)) fun (p6 : Unit × ps_S) =>
  (ps_nw p6.2 (15, 3, fun k => defaultValue (tyX15 k)) 3).bind fun z8 =>
  (U z8.2).bind (zx_sel (fun M10 => Sum.inr (none, M10)) fun (p9 : Nat × ps_S) =>
  (gp_X15_init w c p9.2 z8.1 x5 t5.1 p9.1).bind fun M11 =>
  some (Sum.inl (z8.1, M11))))) fun J23 =>
  if b3 = true then (J23 ())
  else ((gp_X3_isSign w c t5.2 s2).bind fun b12 =>
  if b12 = true then (J23 ())
  else (some (Sum.inr (some t5.1, t5.2))))
theorem pk_lup {b : Nat → Int} {p : Nat} {K : List pz_T} {w : Nat → Nat} {c : Nat} {r : Nat × Nat} {op k1 k2 : Nat} {U : ps_S → Option (Option Nat × ps_S)} {us : Nat → pz_R (zl_C × Nat)} (hU : ∀ M a, pk_C b p K c r M a op → pk_rm r a M → pw (U M) (pk_Q b p K c r M a op (us a))) (hk : (k1 = 10 ∧ k2 = 15) ∨ (k1 = 8 ∧ k2 = 9)) {M0 : ps_S} {a0 : Nat} :
    ∀ (n : Nat) (cc : zl_C) (a : Nat) (M : ps_S) (y f : Nat), 401 ≤ a + n → n < f → pk_G b p K c r M0 a0 op (cc, a) y M → pw (zs_loop f (pk_body w c (pj (pc_wh k1 : Nat)) (pj (pc_wh k2 : Nat)) U) (y, M)) (pk_Q b p K c r M0 a0 op (pz_gL K k1 k2 us n cc a))
  | 0, cc, a, M, y, f, h1, h2, h => absurd h.2.1.2.2.2.2.2.1 (by show ¬ a ≤ 400; omega)
  | n + 1, cc, a, M, y, f, h1, h2, h => by
    obtain ⟨f, rfl⟩ : ∃ g, f = g + 1 := ⟨f - 1, by omega⟩
    obtain ⟨g1, g2, g3, g4, g5, d, g6, g7⟩ := id h
    dsimp only at g2 g3 g5 g6 g7
    have h400 := g2.2.2.2.2.2.1
    have hs1 := pk_isSign (w := w) g2 (k := k1) (by omega)
    have hs2 := pk_isSign (w := w) g2 (k := k2) (by omega)
    show pw ((pk_body w c _ _ U (y, M)).bind fun s => Sum.elim (fun t' => zs_loop f (pk_body w c _ _ U) t') some s) _
    unfold pz_gL
    by_cases hkd : pz_kd K a = k1 ∨ pz_kd K a = k2
    · rw [if_pos hkd]
      have h8 : pz_kd K a = 8 ∨ pz_kd K a = 9 ∨ pz_kd K a = 10 ∨ pz_kd K a = 15 := by omega
      have hass : (pz_bd (pz_ps K a) fun b => pz_bd (us b) fun r => pz_gL K k1 k2 us n (cc ++ r.1 ++ [(pz_cd (pz_kd K a), 0)]) r.2) = pz_bd (pz_bd (pz_ps K a) us) fun r => pz_gL K k1 k2 us n (cc ++ r.1 ++ [(pz_cd (pz_kd K a), 0)]) r.2 := (pz_bd_assoc _ _ _).symm
      rw [hass]
      have hJ : pw ((zs_ald 2001 (M.1.2 2 6) (M.1.1 3 3)).bind fun x5 =>
          (gp_X3_pass w c M).bind (zx_sel (fun M7 => (Sum.inr (none, M7) : (Nat × ps_S) ⊕ (Option Nat × ps_S))) fun (p6 : Unit × ps_S) =>
          (ps_nw p6.2 (15, 3, fun k => defaultValue (tyX15 k)) 3).bind fun z8 =>
          (U z8.2).bind (zx_sel (fun M10 => Sum.inr (none, M10)) fun (p9 : Nat × ps_S) =>
          (gp_X15_init w c p9.2 z8.1 x5 y p9.1).bind fun M11 =>
          some (Sum.inl (z8.1, M11))))) (fun s => Sum.elim (fun q => ∃ M', s = Sum.inr (none, M') ∧ pk_F r M0 q.1 q.2 M') (fun v => ∃ y' M', s = Sum.inl (y', M') ∧ pk_G b p K c r M0 a0 op (cc ++ v.1 ++ [(pz_cd (pz_kd K a), 0)], v.2) y' M' ∧ a < v.2) (pz_bd (pz_ps K a) us)) := by
        rw [pk_ald6 g2 (by omega), Option.bind_some]
        refine pk_sel (Q := fun (res : pz_R (zl_C × Nat)) s => Sum.elim (fun q => ∃ M', s = Sum.inr (none, M') ∧ pk_F r M0 q.1 q.2 M') (fun v => ∃ y' M', s = Sum.inl (y', M') ∧ pk_G b p K c r M0 a0 op (cc ++ v.1 ++ [(pz_cd (pz_kd K a), 0)], v.2) y' M' ∧ a < v.2) res) (pk_pass (w := w) g2 (by omega)) (fun q M' hq => ⟨M', rfl, pk_F_le g1 hq⟩) (fun e u M1 _ hv => ?_)
        obtain ⟨rfl, hP1, hP2, hP3, hP4⟩ := hv
        have hm : M1.2 = M.2 := by rw [hP1]; rfl
        obtain ⟨r1, r2, r3, r4⟩ := g3
        obtain ⟨M2, e1, e2, e3, e4, e5, e6, e7⟩ := pk_nw (M := M1) (15, 3, fun k => defaultValue (tyX15 k)) (sl := 3) (by rw [hm]; omega)
        show pw ((ps_nw M1 _ 3).bind _) _
        rw [e1, Option.bind_some]
        have hC2 := pk_C_m hP3 e5 (pk_b_le e2 hP3.2.1) ⟨by rw [e6, hm]; omega, by rw [e7, hm]; omega⟩
        have hr2 : pk_rm r (a + 1) M2 := by
          refine ⟨?_, ?_, r3, r4⟩
          · rw [e6, hm]; omega
          · rw [e7, hm]; omega
        have hu1 : pz_bd (us (a + 1)) (fun r => (Sum.inr r : pz_R (zl_C × Nat))) = us (a + 1) := by cases us (a + 1) <;> rfl
        rw [← hu1]
        have hkM2 : pk M0 M2 := pk_trans (pk_trans g1 hP2) e2
        refine pk_sel (Q := fun (res : pz_R (zl_C × Nat)) s => Sum.elim (fun q => ∃ M', s = Sum.inr (none, M') ∧ pk_F r M0 q.1 q.2 M') (fun v => ∃ y' M', s = Sum.inl (y', M') ∧ pk_G b p K c r M0 a0 op (cc ++ v.1 ++ [(pz_cd (pz_kd K a), 0)], v.2) y' M' ∧ a < v.2) res) (hU M2 (a + 1) hC2 hr2) (fun q M' hq => ⟨M', rfl, pk_F_le hkM2 hq⟩) (fun v y2 M3 _ hv => ?_)
        obtain ⟨k1', k2', k3', k4', k5', d2, k6', k7'⟩ := hv
        have hc3 := k1'.2.2.1 _ _ (by rw [e3]; exact Nat.lt_succ_self _) e4
        have hz := hP3.2.1.1
        have hb3 := k2'.2.1.2
        have hzM : M.2.1.2.1 = M1.2.1.2.1 := by rw [hm]
        unfold gp_X15_init gp_X12_init
        show pw (((some M3).bind fun M1_1 => (ps_pV c M1_1 M1.2.1.2.1 15 3 0 (.int (pj (pc_wh (pz_kd K a) : Nat)))).bind fun M2 => (ps_pV c M2 M1.2.1.2.1 15 3 1 (.ref y)).bind fun M3 => (ps_pV c M3 M1.2.1.2.1 15 3 2 (.ref y2)).bind fun M4 => some M4).bind _) _
        rw [Option.bind_some, pk_pV _ hz hb3 hc3, Option.bind_some, pk_pV (M := ps_up M3 M1.2.1.2.1 _) (.ref y) hz hb3 (if_pos rfl), Option.bind_some, pk_pV (M := ps_up (ps_up M3 M1.2.1.2.1 _) M1.2.1.2.1 _) (.ref y2) hz hb3 (if_pos rfl), Option.bind_some, Option.bind_some, pw_some]
        generalize hF1 : updV (fun k => defaultValue (tyX15 k)) 0 (.int (pj (pc_wh (pz_kd K a) : Nat))) = F1
        generalize hF2 : updV F1 1 (.ref y) = F2
        generalize hF3 : updV F2 2 (.ref y2) = F3
        have hup : ∀ A : ps_S, pk A M3 → A.2.1.2.1 ≤ M1.2.1.2.1 → pk A (ps_up (ps_up (ps_up M3 M1.2.1.2.1 (15, 3, F1)) M1.2.1.2.1 (15, 3, F2)) M1.2.1.2.1 (15, 3, F3)) := fun A hA hs => pk_up _ (pk_up _ (pk_up _ hA hs) hs) hs
        have hkM3 : pk M M3 := pk_trans (pk_trans hP2 e2) k1'
        have hcell : (ps_up (ps_up (ps_up M3 M1.2.1.2.1 (15, 3, F1)) M1.2.1.2.1 (15, 3, F2)) M1.2.1.2.1 (15, 3, F3)).2.1.2.2 M1.2.1.2.1 = some (15, 3, F3) := if_pos rfl
        have hsz : (ps_up (ps_up (ps_up M3 M1.2.1.2.1 (15, 3, F1)) M1.2.1.2.1 (15, 3, F2)) M1.2.1.2.1 (15, 3, F3)).2.1.2.1 = M3.2.1.2.1 := rfl
        have hgq : gq (M1.2.1.2.1 + 1) (ps_up (ps_up (ps_up M3 M1.2.1.2.1 (15, 3, F1)) M1.2.1.2.1 (15, 3, F2)) M1.2.1.2.1 (15, 3, F3)) = gq (M1.2.1.2.1 + 1) M3 := by
          rw [gq_upL _ (Nat.lt_succ_self _), gq_upL _ (Nat.lt_succ_self _), gq_upL _ (Nat.lt_succ_self _)]
        have hM4 := hup M (pk_trans (pk_trans hP2 e2) k1') (by rw [hzM]; exact Nat.le_refl _)
        have hM04 := hup M0 (pk_trans g1 hkM3) (by rw [← hzM]; exact g1.2.1)
        have hCf : pk_C b p K c r (ps_up (ps_up (ps_up M3 M1.2.1.2.1 (15, 3, F1)) M1.2.1.2.1 (15, 3, F2)) M1.2.1.2.1 (15, 3, F3)) v.2 op := pk_C_m k2' rfl k2'.2.1 k2'.2.2.2.2.2.2.2
        have hrf : pk_rm r v.2 (ps_up (ps_up (ps_up M3 M1.2.1.2.1 (15, 3, F1)) M1.2.1.2.1 (15, 3, F2)) M1.2.1.2.1 (15, 3, F3)) := k3'
        have hfr : ∀ f, f ≠ 3 → (ps_up (ps_up (ps_up M3 M1.2.1.2.1 (15, 3, F1)) M1.2.1.2.1 (15, 3, F2)) M1.2.1.2.1 (15, 3, F3)).1.1 3 f = M0.1.1 3 f := fun f hf => by
          show M3.1.1 3 f = _
          rw [k4' f hf, e5, hP4 f hf, g4 f hf]
        generalize ps_up (ps_up (ps_up M3 M1.2.1.2.1 (15, 3, F1)) M1.2.1.2.1 (15, 3, F2)) M1.2.1.2.1 (15, 3, F3) = M4 at hcell hsz hgq hM4 hM04 hCf hrf hfr
        have hlt : M1.2.1.2.1 < M4.2.1.2.1 := by rw [hsz]; have := k1'.2.1; omega
        refine ⟨M1.2.1.2.1, M4, rfl, ⟨hM04, hCf, hrf, hfr, by show a0 < v.2; omega, max d d2 + 1, ?_, ?_⟩, by show a < v.2; omega⟩
        · show max d d2 + 1 + a0 ≤ v.2
          omega
        · have hop : pz_cd (pz_kd K a) = zl_op (pj (pc_wh (pz_kd K a) : Nat)) := by
            rcases h8 with q | q | q | q <;> rw [q] <;> decide
          have hc1 := zl_of_ic (gq_le hM4 (Nat.le_refl M0.2.1.2.1)) d y cc g7 (max d d2) (Nat.le_max_left _ _)
          have hc2 : zl_of (gq M0.2.1.2.1 M4) (max d d2) y2 = some v.1 := by
            rw [show M2.2.1.2.1 = M1.2.1.2.1 + 1 from e3, ← hgq] at k7'
            exact zl_of_ic (gq_le (pk_rfl M4) (by rw [← hzM]; have := g1.2.1; omega)) d2 y2 v.1 k7' (max d d2) (Nat.le_max_right _ _)
          have hF0 : F3 0 = .int (pj (pc_wh (pz_kd K a) : Nat)) := by
            rw [← hF3, updV_n (by decide), ← hF2, updV_n (by decide), ← hF1, updV_s]
          have hF1' : F3 1 = .ref y := by rw [← hF3, updV_n (by decide), ← hF2, updV_s]
          have hF2' : F3 2 = .ref y2 := by rw [← hF3, updV_s]
          show zl_of (gq M0.2.1.2.1 M4) (max d d2 + 1) M1.2.1.2.1 = some (cc ++ v.1 ++ [(pz_cd (pz_kd K a), 0)])
          rw [hop]
          exact zl_of_join (gq_some ⟨by rw [← hzM]; exact g1.2.1, hlt⟩ hcell rfl) hF0 hF1' hF2' hc1 hc2
      have hbody : pw (pk_body w c (pj (pc_wh k1 : Nat)) (pj (pc_wh k2 : Nat)) U (y, M)) (fun s => Sum.elim (fun q => ∃ M', s = Sum.inr (none, M') ∧ pk_F r M0 q.1 q.2 M') (fun v => ∃ y' M', s = Sum.inl (y', M') ∧ pk_G b p K c r M0 a0 op (cc ++ v.1 ++ [(pz_cd (pz_kd K a), 0)], v.2) y' M' ∧ a < v.2) (pz_bd (pz_ps K a) us)) := by
        unfold pk_body
        dsimp only
        rw [hs1, Option.bind_some, pw_let]
        by_cases q1 : pz_kd K a = k1
        · rw [decide_eq_true q1, if_pos rfl]; exact hJ
        · rw [decide_eq_false q1, if_neg (by decide), hs2, Option.bind_some, decide_eq_true (hkd.resolve_left q1), if_pos rfl]; exact hJ
      refine pw_seq hbody (fun s hs => ?_)
      cases hres : pz_bd (pz_ps K a) us with
      | inl q =>
        rw [hres] at hs
        obtain ⟨M', rfl, hF⟩ := hs
        exact (pw_some _ _).2 ⟨rfl, hF⟩
      | inr v =>
        rw [hres] at hs
        obtain ⟨y', M', rfl, hG, hlt⟩ := hs
        exact pk_lup hU hk n _ v.2 M' y' f (by omega) (by omega) hG
    · rw [if_neg hkd]
      have hbody : pk_body w c (pj (pc_wh k1 : Nat)) (pj (pc_wh k2 : Nat)) U (y, M) = some (Sum.inr (some y, M)) := by
        unfold pk_body
        dsimp only
        rw [hs1, Option.bind_some, pw_let, decide_eq_false (fun q => hkd (Or.inl q)), if_neg (by decide), hs2, Option.bind_some, decide_eq_false (fun q => hkd (Or.inr q)), if_neg (by decide)]
      rw [hbody, Option.bind_some, Sum.elim_inr, pw_some]
      exact ⟨y, rfl, h⟩
theorem pk_part {b : Nat → Int} {p : Nat} {K : List pz_T} {w : Nat → Nat} {c : Nat} {r : Nat × Nat} {rf : ps_S → Option (Option Nat × ps_S)} {rs : Nat → Nat → pz_R (zl_C × Nat)} {op : Nat} (hrf : ∀ M a, op < 6 → pk_C b p K c r M a (op + 1) → pk_rm r a M → pw (rf M) (pk_Q b p K c r M a (op + 1) (rs (op + 1) a))) {M : ps_S} {a : Nat} (h : pk_C b p K c r M a op) (hr : pk_rm r a M) :
    pw (gp_X3_part_B w c rf M) (pk_Q b p K c r M a op (pz_pt K rs op a)) := by
  unfold gp_X3_part_B pz_pt
  refine pk_sel (Q := pk_Q b p K c r M a op) (pk_unit (w := w) hrf h hr) (fun q M' hq => ⟨rfl, hq⟩) (fun v y M1 _ hv => ?_)
  have e1 : ∀ x : Option (Option Nat × ps_S), (x.bind fun z => some z) = x := fun x => by cases x <;> rfl
  rw [e1, pz_ptL_gg]
  exact pk_lup (U := gp_X3_unit_B w c rf) (fun M a h hr => pk_unit hrf h hr) (Or.inl ⟨rfl, rfl⟩) 401 v.1 v.2 M1 y 5000 (by omega) (by omega) hv
theorem pk_sum {b : Nat → Int} {p : Nat} {K : List pz_T} {w : Nat → Nat} {c : Nat} {r : Nat × Nat} : ∀ (n : Nat) (op a : Nat) (M : ps_S), n + op = 8 → op ≤ 6 → pk_C b p K c r M a op → pk_rm r a M → pw (gp_X3_sum w c n M) (pk_Q b p K c r M a op (pz_sm K n op a))
  | 0, op, a, M, h1, h2, h, hr => absurd h1 (by omega)
  | n + 1, op, a, M, h1, h2, h, hr => by
    have hrf : ∀ M a, op < 6 → pk_C b p K c r M a (op + 1) → pk_rm r a M → pw (gp_X3_sum w c n M) (pk_Q b p K c r M a (op + 1) (pz_sm K n (op + 1) a)) := fun M a ho h hr => pk_sum n (op + 1) a M (by omega) (by omega) h hr
    show pw (gp_X3_sum_B w c (gp_X3_sum w c n) M) (pk_Q b p K c r M a op (pz_bd (pz_pt K (pz_sm K n) op a) fun r => pz_smL K (pz_sm K n) op 401 r.1 r.2))
    unfold gp_X3_sum_B
    refine pk_sel (Q := pk_Q b p K c r M a op) (pk_part (w := w) hrf h hr) (fun q M' hq => ⟨rfl, hq⟩) (fun v y M1 _ hv => ?_)
    have e1 : ∀ x : Option (Option Nat × ps_S), (x.bind fun z => some z) = x := fun x => by cases x <;> rfl
    rw [e1, pz_smL_g2]
    exact pk_lup (U := gp_X3_part_B w c (gp_X3_sum w c n)) (fun M a h hr => pk_part hrf h hr) (Or.inr ⟨rfl, rfl⟩) 401 v.1 v.2 M1 y 5000 (by omega) (by omega) hv
