set_option maxRecDepth 100000
/-! one call of read: both sides -/
theorem pt_ok_X {T : zt_T} {X : pz_X} (hX : pt_X T X) (hb : pz_Xb X (0, 0)) (h6 : X.1.length ≤ 6) (hL : ∀ k L, k < 4 → zt_lw T k = some L → pl_okL L) : pt_ok T := by
  obtain ⟨x1, x2, x3, x4, x5⟩ := hX
  obtain ⟨b1, b2, b3, b4, b5, b6⟩ := hb rfl
  have tz : ∀ n : Nat, n ≤ 9999 → (pj (n : Nat)).toInt = n := fun n hn => pj_toInt (by omega)
  refine ⟨by omega, fun h hh => ?_, fun a b ha hb => ?_, ?_, ?_, ?_, hL⟩
  · have hx : X.1[h]? = some X.1[h] := List.getElem?_eq_getElem (by omega)
    obtain ⟨q1, q2⟩ := x2 h _ hx
    have := b1 _ (List.getElem_mem (by omega : h < X.1.length))
    unfold pt_h pt_s
    rw [q1, q2, tz _ (by omega), tz _ (by omega)]
    omega
  · have := b2 a b
    unfold pt_k
    rw [x3 a b ha hb, tz _ (by omega)]
    omega
  · unfold pt_f
    rw [x4 4 (by omega) (by omega), tz _ (by omega)]
    omega
  · unfold pt_f
    rw [x4 5 (by omega) (by omega), tz _ (by omega)]
    omega
  · unfold pt_f
    rw [x4 6 (by omega) (by omega), tz _ (by omega)]
    omega
theorem pr_R0_X {T T2 : zt_T} {X : pz_X} (h1 : pt_X T X) (h2 : pt_X T2 X) {M : cs_S} {Z : zm_S} {s : Nat} {V : pv_V} {H : List pv_V} {at_ : Nat} (h : pr_R0 T M Z s V H at_) : pr_R0 T2 M Z s V H at_ := by
  obtain ⟨g1, g2, g3, g4, g5, g6, g7, g8, g9, g10, g11, g12, g13⟩ := h
  have en : zt_n T2 = zt_n T := h2.1.trans h1.1.symm
  have ef : ∀ k, 4 ≤ k → k ≤ 7 → zt_f T2 k = zt_f T k := fun k a b => (h2.2.2.2.1 k a b).trans (h1.2.2.2.1 k a b).symm
  have eh : ∀ k, k < zt_n T → zt_hi T2 k 1 = zt_hi T k 1 ∧ zt_hi T2 k 2 = zt_hi T k 2 := fun k hk => by
    have hk' : k < X.1.length := by rw [← h1.1]; exact hk
    have hx : X.1[k]? = some X.1[k] := List.getElem?_eq_getElem hk'
    obtain ⟨q1, q2⟩ := h1.2.1 k _ hx
    obtain ⟨q3, q4⟩ := h2.2.1 k _ hx
    exact ⟨q3.trans q1.symm, q4.trans q2.symm⟩
  have ek : ∀ a b, a < 6 → b < 6 → zt_lk T2 a b = zt_lk T a b := fun a b ha hb => (h2.2.2.1 a b ha hb).trans (h1.2.2.1 a b ha hb).symm
  have el : ∀ k, k < 4 → zt_lw T2 k = zt_lw T k := fun k hk => (h2.2.2.2.2 k hk).trans (h1.2.2.2.2 k hk).symm
  have e7 := ef 7 (by omega) (by omega)
  refine ⟨?_, ?_, by rw [en]; exact g3, g4, by rw [e7]; exact g5, g6, ?_, ?_, g9, g10, g11, g12, g13⟩
  · obtain ⟨a1, a2, a3, a4, a5, a6, a7⟩ := g1
    unfold pt_h pt_s at a2
    unfold pt_k at a3
    unfold pt_f at a4 a5 a6
    refine ⟨by rw [en]; exact a1, fun h hh => ?_, fun a b ha hb => ?_, ?_, ?_, ?_, fun k L hk hL => a7 k L hk (by rw [← el k hk]; exact hL)⟩
    · rw [en] at hh
      unfold pt_h pt_s
      rw [(eh h hh).1, (eh h hh).2]; exact a2 h hh
    · unfold pt_k
      rw [ek a b ha hb]; exact a3 a b ha hb
    · unfold pt_f
      rw [ef 4 (by omega) (by omega)]; exact a4
    · unfold pt_f
      rw [ef 5 (by omega) (by omega)]; exact a5
    · unfold pt_f
      rw [ef 6 (by omega) (by omega)]; exact a6
  · obtain ⟨a1, a2, a3, a4, a5, a6, a7, a8, a9, a10⟩ := g2
    unfold pt_h pt_s at a4
    unfold pt_k at a5
    unfold pt_f at a6 a7 a8
    refine ⟨a1, a2, by rw [en]; exact a3, fun h hh => ?_, fun a b ha hb => ?_, ?_, ?_, ?_, by rw [e7]; exact a9, fun k hk => by rw [el k hk]; exact a10 k hk⟩
    · rw [en] at hh
      unfold pt_h pt_s
      rw [(eh h hh).1, (eh h hh).2]; exact a4 h hh
    · unfold pt_k
      rw [ek a b ha hb]; exact a5 a b ha hb
    · unfold pt_f
      rw [ef 4 (by omega) (by omega)]; exact a6
    · unfold pt_f
      rw [ef 5 (by omega) (by omega)]; exact a7
    · unfold pt_f
      rw [ef 6 (by omega) (by omega)]; exact a8
  · obtain ⟨a1, a2, a3, a4, a5, a6⟩ := g7
    refine ⟨a1, a2, a3, a4, a5, fun j W hj => ?_⟩
    rw [en, e7]; exact a6 j W hj
  · intro k hk
    rw [en, e7]; exact g8 k hk
/-- a village begins -/
def pv_new (T : zt_T) : pv_V := (fun h => if h < zt_n T then pt_h T h else 0, fun _ => 0, fun _ => 0, fun _ => 0, [], 0, 0)
theorem pv_new_ok {T : zt_T} (hT : pt_ok T) : pv_ok (zt_n T) (pv_new T) := by
  refine ⟨hT.1, fun h hh => ⟨?_, ?_, Int.le_refl _, by show (0 : Int) ≤ 99; omega, Int.le_refl _, by show (0 : Int) ≤ 99; omega, ?_⟩, List.nodup_nil, fun h hh => (by cases hh), fun h h1 h2 => ⟨?_, rfl, rfl⟩⟩
  · show 0 ≤ (if h < zt_n T then pt_h T h else 0)
    split
    · rename_i q; exact (hT.2.1 h q).1
    · omega
  · show (if h < zt_n T then pt_h T h else 0) ≤ 99
    split
    · rename_i q; have := (hT.2.1 h q).2.1; omega
    · omega
  · exact ⟨fun q => absurd q (by show ¬ (0 : Int) < 0; omega), fun q => (by cases q)⟩
  · show (if h < zt_n T then pt_h T h else 0) = 0
    rw [if_neg (by omega)]
theorem pc_begins {T : zt_T} {M : cs_S} {i : Nat} (h6 : zt_n T ≤ 6) : ∃ M', gv_begins T M i = some M' ∧ pc_V M' i (pv_new T) ∧ M'.1 (10 + i) 8 = zt_f T 7 ∧ (∀ o f, o ≠ 10 + i → M'.1 o f = M.1 o f) ∧ ∀ o f, o ≠ 10 + i → M'.2 o f = M.2 o f := by
  have hloop : pw (zs_loop 5000 (gv_begins_L2 T i) (0, M)) (fun M' => M'.1 = M.1 ∧ (∀ o f, o ≠ 10 + i → M'.2 o f = M.2 o f) ∧ ∀ h, h < 6 → M'.2 (10 + i) 0 h = pj (pv_h (pv_new T) h) ∧ M'.2 (10 + i) 1 h = 0 ∧ M'.2 (10 + i) 2 h = 0 ∧ M'.2 (10 + i) 3 h = 0) := by
    refine pw_for 6 (fun k t => ∃ M', t = (pj (k : Nat), M') ∧ M'.1 = M.1 ∧ (∀ o f, o ≠ 10 + i → M'.2 o f = M.2 o f) ∧ ∀ h, h < k → M'.2 (10 + i) 0 h = pj (pv_h (pv_new T) h) ∧ M'.2 (10 + i) 1 h = 0 ∧ M'.2 (10 + i) 2 h = 0 ∧ M'.2 (10 + i) 3 h = 0) 5000 (by omega) ?_ ?_ (0, M) ⟨M, rfl, rfl, fun _ _ _ => rfl, fun h hh => by omega⟩
    · rintro k t hk ⟨M', rfl, q1, q2, q3⟩
      have hnat : (pj (k : Nat)).toNatClampNeg = k := by rw [pj_nat (by omega), Int.toNat_natCast]
      have hval : (if pj (k : Nat) < nI (zt_n T) then ((zs_ix (zt_n T) (pj (k : Nat))).bind fun k7 => some (zt_hi T k7 1)) else some 0) = some (pj (pv_h (pv_new T) k)) := by
        show _ = some (pj (if k < zt_n T then pt_h T k else 0))
        rw [pj_nI]
        by_cases c : k < zt_n T
        · rw [if_pos ((pj_lt (by omega) (by omega)).2 (by omega)), pj_ix (by omega) (by omega), Option.bind_some, Int.toNat_natCast, if_pos c]
          unfold pt_h
          rw [pj_of]
        · rw [if_neg (by rw [pj_lt (by omega) (by omega)]; omega), if_neg c]; rfl
      unfold gv_begins_L2
      dsimp only
      rw [show (6 : Int32) = pj 6 from rfl, if_pos ((pj_lt (by omega) (by omega)).2 (by omega)), hval, Option.bind_some, pj_ast (by omega) (by omega), Option.bind_some, pj_ast (by omega) (by omega), Option.bind_some, pj_ast (by omega) (by omega), Option.bind_some, pj_ast (by omega) (by omega), Option.bind_some, pj_ast (by omega) (by omega), Option.bind_some, pj_1, pj_add, pw_some]
      refine ⟨_, rfl, q1, fun o f ho => ?_, fun h hh => ?_⟩
      · rw [pc_sA2n (by omega), pc_sA2n (by omega), pc_sA2n (by omega), pc_sA2n (by omega), pc_sA2n (by omega)]; exact q2 o f ho
      · have key : ∀ (A : cs_S) (f : Nat) (x : Int32) (g : Nat), (cs_sA A (10 + i) f (pj (k : Nat)) x).2 (10 + i) g h = if g = f ∧ h = k then x else A.2 (10 + i) g h := fun A f x g => by
          rw [pc_sA2, hnat]
          by_cases c : g = f
          · subst c
            rw [if_pos ⟨rfl, rfl⟩, pj_upd]; simp
          · rw [if_neg (fun q => c q.2), if_neg (fun q => c q.1)]
        rw [key, key, key, key, key, key, key, key, key, key, key, key, key, key, key, key, key, key, key, key]
        by_cases c : h = k
        · subst c
          simp
        · have := q3 h (by omega)
          simp [c]
          exact this
    · rintro t ⟨M', rfl, q1, q2, q3⟩
      unfold gv_begins_L2
      dsimp only
      rw [show (6 : Int32) = pj 6 from rfl, if_neg (by rw [pj_lt (by omega) (by omega)]; omega), pw_some]
      exact ⟨q1, q2, q3⟩
  obtain ⟨M1, l1, l2, l3, l4⟩ := hloop
  unfold gv_begins
  rw [l1, Option.bind_some, Option.bind_some, Option.bind_some, Option.bind_some, Option.bind_some]
  have f1 : ∀ (A : cs_S) (f : Nat) (x : Int32) (g : Nat), (cs_sF A (10 + i) f x).1 (10 + i) g = if g = f then x else A.1 (10 + i) g := fun A f x g => by
    rw [pc_sF1]; simp
  refine ⟨_, rfl, ⟨fun h hh => l4 h hh, ?_, fun k x hk => (by cases hk), ?_, ?_⟩, ?_, fun o f ho => ?_, l3⟩
  · rw [f1, f1, f1, f1]; rfl
  · rw [f1, f1, f1, f1]; rfl
  · rw [f1, f1, f1, f1]; rfl
  · rw [f1, if_pos rfl]
  · rw [pc_sF1n (by omega), pc_sF1n (by omega), pc_sF1n (by omega), pc_sF1n (by omega), l2]
/-! the state of both sides, between calls -/
def pi_g (P : Nat → Bool) (M : ps_S) : Nat → Option zs_HC := fun a => if a < M.2.1.2.1 then cs_rs P M.2.1 a else none
def pi_I (w : Nat → Nat) (c m b L : Nat) (xs : Nat → Int32) (k : Nat) (s : ls_S) : Prop := pr_R s.1 s.2.1.1 s.2.2 ∧ (∃ X T, pt_X s.1 X ∧ pt_X T X ∧ zt_ad T 0 = zt_ad s.1 0 ∧ zt_at (pi_g (ls_P c m) s.2.1) T) ∧ (∀ (j : Nat) u, pr_words[j]? = some u → pk_st (pi_g (ls_P c m) s.2.1) (w j) u) ∧ (∃ FE, pi_g (ls_P c m) s.2.1 (w 100) = some (73, 0, FE)) ∧
  (c + 561 ≤ s.2.1.2.1.2.1 ∧ s.2.1.2.1.1 ≤ c) ∧ (m + 49 ≤ s.2.1.2.1.2.1 ∧ s.2.1.2.1.1 ≤ m) ∧ (b < s.2.1.2.1.2.1 ∧ s.2.1.2.1.2.2 b = some (64, L, fun j => .int (xs j))) ∧ 6010 + 5010 * k ≤ s.2.1.2.2.2.1 ∧ 40057 + 25057 * k ≤ s.2.1.2.2.2.2
theorem pi_at {c m : Nat} {s : ls_S} : pk_ic (pi_g (ls_P c m) s.2.1) (ps_at c (ls_M m s)) := fun a x e => by
  unfold pi_g cs_rs at e
  split at e
  · split at e
    · cases e
    · rename_i h1 h2
      unfold ls_P at h2
      rw [decide_eq_true_eq] at h2
      unfold ps_at
      rw [if_neg (by omega)]
      show (if m ≤ a ∧ a < m + 49 then some (zm_cell m s.2.2 (a - m)) else s.2.1.2.1.2.2 a) = some x
      rw [if_neg (by omega)]
      exact e
  · cases e
theorem pi_le {c m : Nat} {s : ls_S} {M : ps_S} (h1 : s.2.1.2.1.2.1 ≤ M.2.1.2.1) (h2 : ∀ a x, a < s.2.1.2.1.2.1 → (ls_M m s).2.1.2.2 a = some x → M.2.1.2.2 a = some x) : pk_ic (pi_g (ls_P c m) s.2.1) (pi_g (ls_P c m) M) := fun a x e => by
  unfold pi_g cs_rs at e ⊢
  split at e
  · rename_i h0
    split at e
    · cases e
    · rename_i h3
      rw [if_pos (by omega), if_neg h3]
      unfold ls_P at h3
      rw [decide_eq_true_eq] at h3
      refine h2 a x h0 ?_
      show (if m ≤ a ∧ a < m + 49 then some (zm_cell m s.2.2 (a - m)) else s.2.1.2.1.2.2 a) = some x
      rw [if_neg (by omega)]
      exact e
  · cases e
theorem pi_rs {P : Nat → Bool} {M : ps_S} : pk_ic (pi_g P M) (cs_rs P M.2.1) := fun a x e => by
  unfold pi_g at e
  split at e
  · exact e
  · cases e
/-- what else reading leaves as it was -/
theorem pi_next {w : Nat → Nat} {c m b L : Nat} {xs : Nat → Int32} {k : Nat} {s : ls_S} (h : pi_I w c m b L xs (k + 1) s) (hd : m + 49 ≤ c ∨ c + 561 ≤ m) (hds : ¬ (m ≤ b ∧ b < m + 49) ∧ ¬ (c ≤ b ∧ b < c + 561)) {M : ps_S} (hR : pkR (ps_sF (ls_M m s) 0 4 (-1)) M) {T2 : zt_T} {A : cs_S} {Z' : zm_S} (h1 : pr_R T2 A Z') (h2 : ∃ X T, pt_X T2 X ∧ pt_X T X ∧ zt_ad T 0 = zt_ad T2 0 ∧ zt_at (pi_g (ls_P c m) M) T) (h3 : zt_at (cs_rs (ls_P c m) M.2.1) T2) :
    ls_rok (ls_P c m) m b L xs s.2.2 (T2, (A, M.2)) ∧ pi_I w c m b L xs k (T2, (A, M.2), Z') := by
  obtain ⟨g1, g2, g3, ⟨FE, g4⟩, g5, g6, g7, g8, g9⟩ := h
  obtain ⟨r1, r2, r3, r4, r5, r6, r7⟩ := hR
  have hle : pk_ic (pi_g (ls_P c m) s.2.1) (pi_g (ls_P c m) M) := pi_le r2 r3
  have hb : M.2.1.2.2 b = some (64, L, fun j => .int (xs j)) := by
    refine r3 b _ g7.1 ?_
    show (if m ≤ b ∧ b < m + 49 then some (zm_cell m s.2.2 (b - m)) else s.2.1.2.1.2.2 b) = _
    rw [if_neg hds.1]; exact g7.2
  refine ⟨⟨?_, hb, ?_, h3⟩, h1, h2, fun j u hj => pk_st_ic hle (g3 j u hj), ⟨FE, hle _ _ g4⟩, ⟨Nat.le_trans g5.1 r2, ?_⟩, ⟨Nat.le_trans g6.1 r2, ?_⟩, ⟨Nat.lt_of_lt_of_le g7.1 r2, hb⟩, ?_, ?_⟩
  · refine Prod.ext rfl (Prod.ext rfl (funext fun a => ?_))
    show (if m ≤ a ∧ a < m + 49 then some (zm_cell m s.2.2 (a - m)) else M.2.1.2.2 a) = M.2.1.2.2 a
    by_cases c1 : m ≤ a ∧ a < m + 49
    · rw [if_pos c1]
      refine (r3 a _ (by show a < s.2.1.2.1.2.1; omega) ?_).symm
      show (if m ≤ a ∧ a < m + 49 then some (zm_cell m s.2.2 (a - m)) else s.2.1.2.1.2.2 a) = _
      rw [if_pos c1]
    · rw [if_neg c1]
  · show M.2.1.1 ≤ m
    rw [r1]; exact g6.2
  · show M.2.1.1 ≤ c
    rw [r1]; exact g5.2
  · show M.2.1.1 ≤ m
    rw [r1]; exact g6.2
  · have r6 : s.2.1.2.2.2.1 ≤ M.2.2.2.1 + 5010 := r6
    show 6010 + 5010 * k ≤ M.2.2.2.1
    omega
  · have r7 : s.2.1.2.2.2.2 ≤ M.2.2.2.2 + 25057 := r7
    show 40057 + 25057 * k ≤ M.2.2.2.2
    omega
/-! one call of read: the sides answer alike -/
theorem pm_T_side {T : zt_T} {s : Nat} {Z Z' : zm_S} (h : pm_T T s Z) (hn6 : zt_n T ≤ 6) (g : py_M (1 - s) (zm_sF Z 2 0) Z') : pm_T T s Z' := by
  obtain ⟨h1, h2, h3, h4, h5, h6, h7, h8, h9, h10⟩ := h
  have hss : 1 - (1 - s) = s := by omega
  have cell : ∀ k n i, py_sz k = n → n * s ≤ i → i < n * s + n → Z'.2.1 k i = Z.2.1 k i := fun k n i hk a b => by
    have := g.2.2.1 k (i - n * s) (by rw [hk]; omega)
    rw [hss, hk, show n * s + (i - n * s) = i by omega] at this
    exact this
  have hs : s = 0 ∨ s = 1 := by omega
  refine ⟨h1, ?_, ?_, fun h hh => ?_, fun a b ha hb => ?_, ?_, ?_, ?_, ?_, fun k hk => ?_⟩
  · rw [g.1 18 (by omega)]; exact h2
  · rw [cell 22 1 s rfl (by omega) (by omega)]; exact h3
  · rw [cell 23 6 _ rfl (by omega) (by omega), cell 24 6 _ rfl (by omega) (by omega)]; exact h4 h hh
  · rw [cell 26 36 _ rfl (by omega) (by omega)]; exact h5 a b ha hb
  · rw [cell 27 1 s rfl (by omega) (by omega)]; exact h6
  · rw [cell 28 1 s rfl (by omega) (by omega)]; exact h7
  · rw [cell 29 1 s rfl (by omega) (by omega)]; exact h8
  · rw [cell 30 1 s rfl (by omega) (by omega)]; exact h9
  · have c31 := cell 31 4 (4 * s + k) rfl (by omega) (by omega)
    have c32 := cell 32 4 (4 * s + k) rfl (by omega) (by omega)
    have hl := h10 k hk
    cases hL : zt_lw T k with
    | none =>
      rw [hL] at hl
      show Z'.2.1 31 _ = Z'.2.1 32 _
      rw [c31, c32]; exact hl
    | some L =>
      rw [hL] at hl
      obtain ⟨f, ⟨f1, f2, f3⟩, f4, f5, f6, f7, f8⟩ := hl
      have hcd : ∀ a (c : zl_C), (s = 0 → a + c.length ≤ 420) → (s = 1 → 420 ≤ a) → pl_cd Z a c → pl_cd Z' a c := fun a c a1 a2 q => ⟨q.1, fun j x hj => by
        have hjl := (List.getElem?_eq_some_iff.1 hj).1
        have := q.1
        have e : 420 * s ≤ a + j ∧ a + j < 420 * s + 420 := by
          rcases hs with rfl | rfl
          · have := a1 rfl; omega
          · have := a2 rfl; omega
        rw [cell 40 420 _ rfl e.1 e.2, cell 41 420 _ rfl e.1 e.2]
        exact q.2 j x hj⟩
      have hbr : ∀ k i, 34 ≤ k → k ≤ 38 → 130 * s ≤ i → i < 130 * s + 130 → Z'.2.1 k i = Z.2.1 k i := fun k i k1 k2 i1 i2 => cell k 130 i (by
        have : k = 34 ∨ k = 35 ∨ k = 36 ∨ k = 37 ∨ k = 38 := by omega
        rcases this with rfl | rfl | rfl | rfl | rfl <;> rfl) i1 i2
      refine ⟨f, ⟨f1, f2, f3⟩, by rw [c31]; exact f4, by rw [c32]; exact f5, fun j q hj => ?_, ?_, f8⟩
      · have hjl := (List.getElem?_eq_some_iff.1 hj).1
        obtain ⟨a, q1, q2, q3, q4, q5, q6, q7, q8, q9, q10⟩ := f6 j q hj
        have i1 : 130 * s ≤ f + j := by omega
        have i2 : f + j < 130 * s + 130 := by omega
        refine ⟨a, ?_, ?_, ?_, ?_, ?_, hcd _ _ ?_ ?_ q6, hcd _ _ ?_ ?_ q7, hcd _ _ ?_ ?_ q8, q9, q10⟩
        · rw [hbr 34 _ (by omega) (by omega) i1 i2]; exact q1
        · rw [hbr 35 _ (by omega) (by omega) i1 i2]; exact q2
        · rw [hbr 36 _ (by omega) (by omega) i1 i2]; exact q3
        · rw [hbr 37 _ (by omega) (by omega) i1 i2]; exact q4
        · rw [hbr 38 _ (by omega) (by omega) i1 i2]; exact q5
        · intro e; have := q9 (by omega); omega
        · intro e; have := q10 (by omega); omega
        · intro e; have := q9 (by omega); omega
        · intro e; have := q10 (by omega); omega
        · intro e; have := q9 (by omega); omega
        · intro e; have := q10 (by omega); omega
      · obtain ⟨a, q1, q2, q3, q4, q5, q6⟩ := f7
        have i1 : 130 * s ≤ f + L.1.length := by omega
        have i2 : f + L.1.length < 130 * s + 130 := by omega
        refine ⟨a, ?_, ?_, ?_, hcd _ _ ?_ ?_ q4, q5, q6⟩
        · rw [hbr 34 _ (by omega) (by omega) i1 i2]; exact q1
        · rw [hbr 37 _ (by omega) (by omega) i1 i2]; exact q2
        · rw [hbr 38 _ (by omega) (by omega) i1 i2]; exact q3
        · intro e; have := q5 (by omega); omega
        · intro e; have := q6 (by omega); omega
/-- a fault: all stands, but for the tape and the place -/
theorem pr_R_fault {T : zt_T} {M A : cs_S} {Z Z' : zm_S} {s : Nat} {V : pv_V} {H : List pv_V} {at_ : Nat} (h : pr_R0 T M Z s V H at_) (hn6 : zt_n T ≤ 6) (g : py_M (1 - s) (zm_sF Z 2 0) Z')
    (a1 : ∀ o f, ¬ (o = 0 ∧ f = 4) → ¬ (o = 2 ∧ (f = 2 ∨ f = 7)) → o ≠ 3 → o ≠ 1 → A.1 o f = M.1 o f) (a2 : ∀ o f, ¬ (o = 2 ∧ 3 ≤ f ∧ f ≤ 6) → A.2 o f = M.2 o f) (a3 : A.1 2 2 = 0) (a4 : A.1 0 4 = Z'.1 17) : pr_R0 T A Z' s V H at_ := by
  obtain ⟨g1, g2, g3, g4, g5, g6, g7, g8, g9, g10, g11, g12, g13⟩ := h
  have arr : ∀ k, py_sz k = 0 → ¬ (k = 3 ∨ k = 5 ∨ k = 6 ∨ k = 7 ∨ k = 42) → Z'.2.1 k = Z.2.1 k := fun k a b => g.2.1 k a b
  have hV : ∀ i V, i < 45 → pc_V M i V → pc_V A i V := fun i V hi q => by
    obtain ⟨q1, q2, q3, q4, q5⟩ := q
    refine ⟨fun h hh => ?_, ?_, fun k x e => ?_, ?_, ?_⟩
    · rw [a2 _ _ (by omega), a2 _ _ (by omega), a2 _ _ (by omega), a2 _ _ (by omega)]; exact q1 h hh
    · rw [a1 _ _ (by omega) (by omega) (by omega) (by omega)]; exact q2
    · rw [a2 _ _ (by omega)]; exact q3 k x e
    · rw [a1 _ _ (by omega) (by omega) (by omega) (by omega)]; exact q4
    · rw [a1 _ _ (by omega) (by omega) (by omega) (by omega)]; exact q5
  refine ⟨g1, pm_T_side g2 hn6 g, g3, hV 0 V (by omega) g4, by rw [a1 _ _ (by omega) (by omega) (by omega) (by omega)]; exact g5, by rw [arr 47 rfl (by omega)]; exact g6, ?_, ?_, ?_, ⟨0, by omega, by rw [a3]; rfl, by rw [g.1 2 (by omega)]; exact zm_sFs _ _ _, fun j hj => by omega⟩, a4, fun j u hj => by rw [g.2.2.2 9 (by omega) (by omega)]; exact g12 j u hj, by rw [a2 _ _ (by omega)]; exact g13⟩
  · obtain ⟨k1, k2, k3, k4, k5, k6⟩ := g7
    refine ⟨k1, k2, by rw [a1 _ _ (by omega) (by omega) (by omega) (by omega)]; exact k3, by rw [a1 _ _ (by omega) (by omega) (by omega) (by omega)]; exact k4, by rw [g.1 53 (by omega)]; exact k5, fun j W e => ?_⟩
    obtain ⟨m1, m2, m3, m4⟩ := k6 j W e
    have hlt : (at_ + 40 - H.length + j) % 40 < 40 := Nat.mod_lt _ (by omega)
    refine ⟨m1, hV _ _ (by omega) m2, by rw [a1 _ _ (by omega) (by omega) (by omega) (by omega)]; exact m3, ?_⟩
    rw [arr 54 rfl (by omega)]; exact m4
  · intro k hk
    obtain ⟨k1, k2⟩ := g8 k hk
    rw [a2 0 13 (by omega), arr 69 rfl (by omega)]
    refine ⟨k1, k2.imp id (fun q => ⟨q.1, ?_⟩)⟩
    obtain ⟨W, w1, w2, w3, w4⟩ := q.2
    refine ⟨W, w1, hV _ _ (by omega) w2, by rw [a1 _ _ (by omega) (by omega) (by omega) (by omega)]; exact w3, ?_⟩
    rw [arr 70 rfl (by omega)]; exact w4
  · obtain ⟨t, t1, t2, t3, t4⟩ := g9
    refine ⟨t, t1, by rw [a1 _ _ (by omega) (by omega) (by omega) (by omega)]; exact t2, by rw [g.1 63 (by omega)]; exact t3, fun j hj => ?_⟩
    rw [a2 0 22 (by omega), a2 0 23 (by omega), a2 0 24 (by omega), arr 64 rfl (by omega), arr 65 rfl (by omega), arr 66 rfl (by omega)]
    exact t4 j hj
/-- a new text: all begins -/
theorem pr_R_new {T T2 : zt_T} {X : pz_X} {M A : cs_S} {Z Z' : zm_S} {s : Nat} {V : pv_V} {H : List pv_V} {at_ : Nat} (h : pr_R0 T M Z s V H at_) (hX : pt_X T2 X) (h6 : X.1.length ≤ 6) (hb : pz_Xb X (0, 0)) (g : py_good X (1 - s) (zm_sF Z 2 0) Z')
    (a1 : pc_V A 0 (pv_new T2)) (a2 : A.1 (10 + 0) 8 = zt_f T2 7) (a3 : A.1 0 5 = 0) (a4 : A.1 0 6 = M.1 0 6) (a5 : ∀ k, k < 3 → A.2 0 13 k = 0) (a6 : A.1 0 19 = 0) (a7 : A.1 2 2 = 0) (a8 : A.1 0 4 = pj (-1)) (a9 : A.2 0 16 0 = M.2 0 16 0) : pr_R0 T2 A Z' (1 - s) (pv_new T2) [] at_ := by
  obtain ⟨g1, g2, g3, g4, g5, g6, ⟨k1, k2, k3, k4, k5, k6⟩, g8, g9, g10, g11, g12, g13⟩ := h
  obtain ⟨q1, q2, q3, q4, q5, q6, q7, q8, q9⟩ := g
  have hT := q1 T2 hX
  have hok : pt_ok T2 := pt_ok_X hX hb h6 (fun k L hk hL => by
    have := hT.2.2.2.2.2.2.2.2.2 k hk
    rw [hL] at this
    obtain ⟨f, -, -, -, -, -, h⟩ := this
    exact h)
  refine ⟨hok, hT, pv_new_ok hok, a1, a2, ⟨fun h hh => ⟨?_, ?_, ?_, ?_⟩, ?_, fun k x e => (by cases e), ?_, ?_⟩, ⟨by decide, k2, by rw [a3]; rfl, by rw [a4]; exact k4, by rw [q4]; rfl, fun j W e => (by cases e)⟩, fun k hk => ⟨by rw [a5 k hk, q6 k hk], Or.inl (a5 k hk)⟩, ⟨0, by omega, by rw [a6]; rfl, by rw [q5]; rfl, fun j hj => by omega⟩, ⟨0, by omega, by rw [a7]; rfl, by rw [q7 2 (by omega)]; exact zm_sFs _ _ _, fun j hj => by omega⟩, by rw [a8, q3], fun j u hj => by rw [q9 9 (by omega) (by omega)]; exact g12 j u hj, by rw [a9]; exact g13⟩
  · rw [q2 h (by omega)]
    show pz_hr X h = pj (if h < zt_n T2 then pt_h T2 h else 0)
    unfold pz_hr
    by_cases c : h < X.1.length
    · have hx : X.1[h]? = some X.1[h] := List.getElem?_eq_getElem c
      rw [hx, if_pos (by rw [hX.1]; exact c)]
      unfold pt_h
      rw [pj_of, (hX.2.1 h _ hx).1]
    · rw [List.getElem?_eq_none (by omega), if_neg (by rw [hX.1]; exact c)]; rfl
  · rw [q2 _ (by omega)]
    unfold pz_hr
    rw [List.getElem?_eq_none (by omega)]; rfl
  · rw [q2 _ (by omega)]
    unfold pz_hr
    rw [List.getElem?_eq_none (by omega)]; rfl
  · rw [q2 _ (by omega)]
    unfold pz_hr
    rw [List.getElem?_eq_none (by omega)]; rfl
  · rw [q2 _ (by omega)]
    unfold pz_hr
    rw [List.getElem?_eq_none (by omega)]; rfl
  · rw [q2 _ (by omega)]
    unfold pz_hr
    rw [List.getElem?_eq_none (by omega)]; rfl
  · rw [q2 _ (by omega)]
    unfold pz_hr
    rw [List.getElem?_eq_none (by omega)]; rfl
theorem pq_read {w : Nat → Nat} {c m b L : Nat} {xs : Nat → Int32} {k : Nat} {s : ls_S} (h : pi_I w c m b L xs (k + 1) s) (hd : m + 49 ≤ c ∨ c + 561 ≤ m) (hds : ¬ (m ≤ b ∧ b < m + 49) ∧ ¬ (c ≤ b ∧ b < c + 561)) :
    pw (ls_read w (ls_P c m) c m b L xs s) (fun p => pw (gm_read p.2.2.2) (fun q => p.1 = q.1 ∧ pi_I w c m b L xs k (ls_uM p.2 q.2))) := by
  obtain ⟨⟨sd, V, H, at_, hR0⟩, ⟨X0, T0, x1, x2, x3, x4⟩, hW, ⟨FE, hE⟩, h5, h6, h7, h8, h9⟩ := id h
  obtain ⟨g1, g2, g3, g4, g5, g6, g7, g8, g9, ⟨p, p1, p2, p3, p4⟩, g11, g12, g13⟩ := id hR0
  have htape : ∀ j, j < p → s.2.2.2.1 1 j = pj (s.2.2.2.1 1 j).toInt ∧ -128 ≤ (s.2.2.2.1 1 j).toInt ∧ (s.2.2.2.1 1 j).toInt < 128 := fun j hj => ⟨(pj_of _).symm, (p4 j hj).2⟩
  have hby : pc_by (fun j => (s.2.2.2.1 1 j).toInt) p (ps_sF (ls_M m s) 0 4 (-1)) := by
    refine ⟨p1, (ps_sF1n (by omega)).trans p2, fun j hj => ⟨?_, (p4 j hj).2⟩⟩
    show s.2.1.1.2 2 1 j = _
    rw [(p4 j hj).1]; exact (htape j hj).1
  have hW' : ∀ (j : Nat) u, pr_words[j]? = some u → pk_st (ps_at c (ps_sF (ls_M m s) 0 4 (-1))) (w j) u := fun j u hj => pk_st_ic pi_at (hW j u hj)
  have hb : pk_b c (ps_sF (ls_M m s) 0 4 (-1)) := h5
  have hE1 : w 100 < s.2.1.2.1.2.1 ∧ ls_P c m (w 100) = false ∧ s.2.1.2.1.2.2 (w 100) = some (73, 0, FE) := by
    unfold pi_g cs_rs at hE
    split at hE
    · split at hE
      · cases hE
      · rename_i q1 q2
        exact ⟨q1, by simpa using q2, hE⟩
    · cases hE
  have hPw : ¬ ((c ≤ w 100 ∧ w 100 < c + 561 ∧ ¬ (c + 10 ≤ w 100 ∧ w 100 < c + 20)) ∨ (m ≤ w 100 ∧ w 100 < m + 49)) := by
    have := hE1.2.1
    unfold ls_P at this
    exact of_decide_eq_false this
  have hE2 : (ps_sF (ls_M m s) 0 4 (-1)).2.1.2.2 (w 100) = some (73, 0, FE) := by
    show (if m ≤ w 100 ∧ w 100 < m + 49 then some (zm_cell m s.2.2 (w 100 - m)) else s.2.1.2.1.2.2 (w 100)) = _
    rw [if_neg (fun q => hPw (Or.inr q))]; exact hE1.2.2
  have hcomp := pk_read (w := w) hby hW' hb hE2 ⟨hE1.1, fun q => hPw (Or.inl q)⟩ ⟨by show 6010 ≤ s.2.1.2.2.2.1; omega, by show 40057 ≤ s.2.1.2.2.2.2; omega⟩
  have hmod := py_read (b := fun j => (s.2.2.2.1 1 j).toInt) p1 p3 htape g2.1 g2.2.1 g12
  obtain ⟨z, e, hz⟩ := hcomp
  obtain ⟨z1, M'⟩ := z
  unfold ls_read gh_read
  rw [e, Option.bind_some]
  cases hsp : pz_read (fun j => (s.2.2.2.1 1 j).toInt) (pz_K (fun j => (s.2.2.2.1 1 j).toInt) p) with
  | inl q =>
    rw [hsp] at hz hmod
    obtain ⟨rfl, hR, f6, f7⟩ := hz
    have hTat : zt_at (pi_g (ls_P c m) M') T0 := zt_at_ic (pi_le (m := m) hR.2.1 hR.2.2.1) x4
    obtain ⟨T2, t1, t2, t3⟩ := zt_at_of (zt_at_ic pi_rs hTat) x2
    have hX : gh_readX (ls_P c m) s.1 M' = some (pj (q.1 : Nat), (T2, ps_sF (ps_sF M' 0 4 (pj (q.2 : Nat))) 2 2 0)) := by
      unfold gh_readX gh_readE
      rw [f6, f7]
      show (zt_of (cs_rs (ls_P c m) M'.2.1) (zt_ad s.1 0)).bind _ = _
      rw [← x3, t1]; rfl
    show pw ((gh_readX (ls_P c m) s.1 M').bind _) _
    rw [hX, Option.bind_some]
    obtain ⟨r, m1, m2, m3, m4⟩ := hmod
    have hRf : pr_R0 T2 (ps_sF (ps_sF M' 0 4 (pj (q.2 : Nat))) 2 2 0).1 r.2 sd V H at_ := by
      have h0 := pr_R0_X x1 t2 hR0
      refine pr_R_fault h0 h0.1.1 m4 (fun o f q1 q2 q3 q4 => ?_) (fun o f q1 => ?_) ?_ ?_
      · rw [ps_sF1n (by omega), ps_sF1n (by omega), hR.2.2.2.2.1 o f (by omega) (by omega) (by omega), ps_sF1n (by omega)]; rfl
      · show M'.1.2 o f = _
        rw [hR.2.2.2.1 o f q1]; rfl
      · rw [ps_sF1s]
      · rw [ps_sF1n (by omega), ps_sF1s, m3]
    obtain ⟨n1, n2⟩ := pi_next h hd hds hR (T2 := T2) (A := (ps_sF (ps_sF M' 0 4 (pj (q.2 : Nat))) 2 2 0).1) (Z' := r.2) ⟨sd, V, H, at_, hRf⟩ ⟨X0, T0, t2, x2, t3.symm, hTat⟩ (zt_of_at t1).1
    have n1' : ls_rok (ls_P c m) m b L xs s.2.2 ((pj (q.1 : Nat), (T2, ps_sF (ps_sF M' 0 4 (pj (q.2 : Nat))) 2 2 0)) : Int32 × rd_S).2 := n1
    rw [if_pos n1', pw_some]
    exact ⟨r, m1, m2.symm, n2⟩
  | inr X =>
    rw [hsp] at hz hmod
    obtain ⟨y, rfl, hR, hT, hy⟩ := hz
    have hsz : (ps_sF (ls_M m s) 0 4 (-1)).2.1.2.1 = s.2.1.2.1.2.1 := rfl
    have hgP : ∀ a z, pk_A (ps_sF (ls_M m s) 0 4 (-1)).2.1.2.1 M' a z → cs_rs (ls_P c m) M'.2.1 a = some z := fun a z hA => by
      unfold cs_rs
      have : ls_P c m a = false := by
        unfold ls_P
        exact decide_eq_false (by have := hA.1.1; rw [hsz] at this; omega)
      rw [this, if_neg (by decide)]; exact hA.2
    have hgi : ∀ a z, pk_A (ps_sF (ls_M m s) 0 4 (-1)).2.1.2.1 M' a z → pi_g (ls_P c m) M' a = some z := fun a z hA => by
      unfold pi_g
      rw [if_pos hA.1.2]; exact hgP a z hA
    obtain ⟨T2, t1, t2, t3⟩ := pk_ztof hgP hT hy
    obtain ⟨T3, t4, t5, t6⟩ := pk_ztof hgi hT hy
    have hn6 : zt_n T2 ≤ 6 := (zt_of_at t1).1.2.2.1
    have hl6 : X.1.length ≤ 6 := by rw [← t2.1]; exact hn6
    obtain ⟨S, s1, s2, s3, s4, s5⟩ := pc_begins (T := T2) (M := M'.1) (i := 0) hn6
    have hK : gh_readK (ls_P c m) y M' = some (0, (T2, ps_sF (gh_readS S, M'.2) 2 2 0)) := by
      unfold gh_readK gh_readE
      rw [t1, Option.bind_some, s1, Option.bind_some]
      show (zt_of (cs_rs (ls_P c m) M'.2.1) (zt_ad T2 0)).bind _ = _
      rw [t3, t1]; rfl
    show pw ((gh_readK (ls_P c m) y M').bind _) _
    rw [hK, Option.bind_some]
    obtain ⟨r, m1, m2, m3⟩ := hmod
    have fS : ∀ o f, (gh_readS S).1 o f = if o = 0 ∧ f = 19 then 0 else if o = 0 ∧ f = 5 then 0 else S.1 o f := fun o f => rfl
    have aS : ∀ o f, ¬ (o = 0 ∧ f = 13) → (gh_readS S).2 o f = S.2 o f := fun o f q => by
      unfold gh_readS
      rw [pc_sA2n q, pc_sA2n q, pc_sA2n q]; rfl
    have aS13 : ∀ k, k < 3 → (gh_readS S).2 0 13 k = 0 := fun k hk => by
      unfold gh_readS
      have n0 : (0 : Int32).toNatClampNeg = 0 := by decide
      have n1 : (1 : Int32).toNatClampNeg = 1 := by decide
      have n2 : (2 : Int32).toNatClampNeg = 2 := by decide
      rw [pc_sA2s, n2, pj_upd, pc_sA2s, n1, pj_upd, pc_sA2s, n0, pj_upd]
      by_cases c2 : k = 2
      · rw [if_pos c2]
      · rw [if_neg c2]
        by_cases c1 : k = 1
        · rw [if_pos c1]
        · rw [if_neg c1, if_pos (by omega)]
    have fM : ∀ o f, ¬ (o = 0 ∧ f = 4) → ¬ (o = 2 ∧ f = 7) → o ≠ 3 → o ≠ 1 → M'.1.1 o f = s.2.1.1.1 o f := fun o f q1 q2 q3 q4 => by
      rw [hR.2.2.2.2.1 o f q2 (by omega) (by omega), ps_sF1n q1]; rfl
    have hRn : pr_R0 T2 (ps_sF (gh_readS S, M'.2) 2 2 0).1 r.2 (1 - sd) (pv_new T2) [] at_ := by
      refine pr_R_new hR0 t2 hl6 (pz_read_b hsp) m3 ?_ ?_ ?_ ?_ (fun k hk => aS13 k hk) ?_ (ps_sF1s _ _ _ _) ?_ ?_
      · obtain ⟨v1, v2, v3, v4, v5⟩ := s2
        refine ⟨fun h hh => ?_, ?_, fun k x e => ?_, ?_, ?_⟩
        · show (gh_readS S).2 (10 + 0) 0 h = _ ∧ (gh_readS S).2 (10 + 0) 1 h = _ ∧ (gh_readS S).2 (10 + 0) 2 h = _ ∧ (gh_readS S).2 (10 + 0) 3 h = _
          rw [aS _ _ (by omega), aS _ _ (by omega), aS _ _ (by omega), aS _ _ (by omega)]; exact v1 h hh
        · rw [ps_sF1n (by omega)]; exact v2
        · show (gh_readS S).2 (10 + 0) 4 k = _
          rw [aS _ _ (by omega)]; exact v3 k x e
        · rw [ps_sF1n (by omega)]; exact v4
        · rw [ps_sF1n (by omega)]; exact v5
      · rw [ps_sF1n (by omega)]; exact s3
      · rw [ps_sF1n (by omega)]; rfl
      · rw [ps_sF1n (by omega)]
        show (gh_readS S).1 0 6 = _
        rw [fS, if_neg (by omega), if_neg (by omega), s4 0 6 (by omega), fM 0 6 (by omega) (by omega) (by omega) (by omega)]
      · rw [ps_sF1n (by omega)]; rfl
      · rw [ps_sF1n (by omega)]
        show (gh_readS S).1 0 4 = _
        rw [fS, if_neg (by omega), if_neg (by omega), s4 0 4 (by omega), hR.2.2.2.2.1 0 4 (by omega) (by omega) (by omega), ps_sF1s]; rfl
      · show (gh_readS S).2 0 16 0 = _
        rw [aS _ _ (by omega), s5 0 16 (by omega), hR.2.2.2.1 0 16 (by omega)]; rfl
    obtain ⟨n1, n2⟩ := pi_next h hd hds hR (T2 := T2) (A := (ps_sF (gh_readS S, M'.2) 2 2 0).1) (Z' := r.2) ⟨1 - sd, pv_new T2, [], at_, hRn⟩ ⟨X, T3, t2, t5, t6.trans t3.symm, (zt_of_at t4).1⟩ (zt_of_at t1).1
    have n1' : ls_rok (ls_P c m) m b L xs s.2.2 ((0, (T2, ps_sF (gh_readS S, M'.2) 2 2 0)) : Int32 × rd_S).2 := n1
    rw [if_pos n1', pw_some]
    exact ⟨r, m1, m2.symm, n2⟩
