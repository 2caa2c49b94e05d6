set_option maxRecDepth 100000
/-! the model at its start -/
theorem pk_key : ∀ (o : Option Int64) (x : Int64) {α : Type} (f : Int64 → Option α), o = some x → o.bind f = f x := fun o x _ f e => by rw [e]; rfl
def zm_sLs (Z : zm_S) (l : List (List Nat)) : Nat → zm_S
  | 0 => Z
  | n + 1 => zm_sL (zm_sLs Z l n) 9 (pj (n : Nat)) (pr_key (l[n]?.getD []))
theorem zm_sLs_1 (Z : zm_S) (l : List (List Nat)) : ∀ n, (zm_sLs Z l n).1 = Z.1 ∧ (zm_sLs Z l n).2.1 = Z.2.1
  | 0 => ⟨rfl, rfl⟩
  | n + 1 => ⟨(zm_sLs_1 Z l n).1, (zm_sLs_1 Z l n).2⟩
theorem zm_sLs_2 (Z : zm_S) (l : List (List Nat)) : ∀ n, n ≤ 100 → ∀ j, j < n → (zm_sLs Z l n).2.2 9 j = pr_key (l[j]?.getD [])
  | 0, _, j, h => absurd h (Nat.not_lt_zero j)
  | n + 1, hn, j, h => by
    show (if 9 = 9 then vp_updL ((zm_sLs Z l n).2.2 9) (pj (n : Nat)).toNatClampNeg (pr_key (l[n]?.getD [])) else (zm_sLs Z l n).2.2 9) j = _
    rw [if_pos rfl, pj_nat (by omega), Int.toNat_natCast]
    unfold vp_updL
    by_cases e : j = n
    · rw [if_pos e, e]
    · rw [if_neg e]; exact zm_sLs_2 Z l n (by omega) j (by omega)
theorem gm_initT_e {Z1 Z2 Z3 Z4 : zm_S} (h1 : gm_plain zm_S0 0 = some Z1) (h2 : gm_plain Z1 1 = some Z2) (h3 : gm_begins (zm_sLs Z2 pr_words 22) = some Z3) (h4 : gm_keepsRow Z3 = some Z4) : gm_initT zm_S0 = some Z4 := by
  unfold gm_initT
  rw [h1, Option.bind_some, h2, Option.bind_some]
  rw [pk_key _ (pr_key (pr_words[0]?.getD [])) _ (by decide +kernel : gm_letters 104 111 117 115 101 0 0 = some (pr_key (pr_words[0]?.getD []))), show zs_ast 22 0 (zm_sL Z2 9 0 (pr_key (pr_words[0]?.getD []))) = some (zm_sLs Z2 pr_words 1) from rfl, Option.bind_some]
  rw [pk_key _ (pr_key (pr_words[1]?.getD [])) _ (by decide +kernel : gm_letters 108 105 107 101 115 0 0 = some (pr_key (pr_words[1]?.getD []))), show zs_ast 22 1 (zm_sL (zm_sLs Z2 pr_words 1) 9 1 (pr_key (pr_words[1]?.getD []))) = some (zm_sLs Z2 pr_words 2) from rfl, Option.bind_some]
  rw [pk_key _ (pr_key (pr_words[2]?.getD [])) _ (by decide +kernel : gm_letters 119 101 108 108 0 0 0 = some (pr_key (pr_words[2]?.getD []))), show zs_ast 22 2 (zm_sL (zm_sLs Z2 pr_words 2) 9 2 (pr_key (pr_words[2]?.getD []))) = some (zm_sLs Z2 pr_words 3) from rfl, Option.bind_some]
  rw [pk_key _ (pr_key (pr_words[3]?.getD [])) _ (by decide +kernel : gm_letters 119 97 116 101 114 0 0 = some (pr_key (pr_words[3]?.getD []))), show zs_ast 22 3 (zm_sL (zm_sLs Z2 pr_words 3) 9 3 (pr_key (pr_words[3]?.getD []))) = some (zm_sLs Z2 pr_words 4) from rfl, Option.bind_some]
  rw [pk_key _ (pr_key (pr_words[4]?.getD [])) _ (by decide +kernel : gm_letters 103 114 111 119 115 0 0 = some (pr_key (pr_words[4]?.getD []))), show zs_ast 22 4 (zm_sL (zm_sLs Z2 pr_words 4) 9 4 (pr_key (pr_words[4]?.getD []))) = some (zm_sLs Z2 pr_words 5) from rfl, Option.bind_some]
  rw [pk_key _ (pr_key (pr_words[5]?.getD [])) _ (by decide +kernel : gm_letters 119 101 97 107 101 110 115 = some (pr_key (pr_words[5]?.getD []))), show zs_ast 22 5 (zm_sL (zm_sLs Z2 pr_words 5) 9 5 (pr_key (pr_words[5]?.getD []))) = some (zm_sLs Z2 pr_words 6) from rfl, Option.bind_some]
  rw [pk_key _ (pr_key (pr_words[6]?.getD [])) _ (by decide +kernel : gm_letters 106 111 105 110 115 0 0 = some (pr_key (pr_words[6]?.getD []))), show zs_ast 22 6 (zm_sL (zm_sLs Z2 pr_words 6) 9 6 (pr_key (pr_words[6]?.getD []))) = some (zm_sLs Z2 pr_words 7) from rfl, Option.bind_some]
  rw [pk_key _ (pr_key (pr_words[7]?.getD [])) _ (by decide +kernel : gm_letters 99 111 115 116 115 0 0 = some (pr_key (pr_words[7]?.getD []))), show zs_ast 22 7 (zm_sL (zm_sLs Z2 pr_words 7) 9 7 (pr_key (pr_words[7]?.getD []))) = some (zm_sLs Z2 pr_words 8) from rfl, Option.bind_some]
  rw [pk_key _ (pr_key (pr_words[8]?.getD [])) _ (by decide +kernel : gm_letters 98 108 105 103 104 116 0 = some (pr_key (pr_words[8]?.getD []))), show zs_ast 22 8 (zm_sL (zm_sLs Z2 pr_words 8) 9 8 (pr_key (pr_words[8]?.getD []))) = some (zm_sLs Z2 pr_words 9) from rfl, Option.bind_some]
  rw [pk_key _ (pr_key (pr_words[9]?.getD [])) _ (by decide +kernel : gm_letters 115 101 101 100 0 0 0 = some (pr_key (pr_words[9]?.getD []))), show zs_ast 22 9 (zm_sL (zm_sLs Z2 pr_words 9) 9 9 (pr_key (pr_words[9]?.getD []))) = some (zm_sLs Z2 pr_words 10) from rfl, Option.bind_some]
  rw [pk_key _ (pr_key (pr_words[10]?.getD [])) _ (by decide +kernel : gm_letters 105 102 0 0 0 0 0 = some (pr_key (pr_words[10]?.getD []))), show zs_ast 22 10 (zm_sL (zm_sLs Z2 pr_words 10) 9 10 (pr_key (pr_words[10]?.getD []))) = some (zm_sLs Z2 pr_words 11) from rfl, Option.bind_some]
  rw [pk_key _ (pr_key (pr_words[11]?.getD [])) _ (by decide +kernel : gm_letters 116 104 101 110 0 0 0 = some (pr_key (pr_words[11]?.getD []))), show zs_ast 22 11 (zm_sL (zm_sLs Z2 pr_words 11) 9 11 (pr_key (pr_words[11]?.getD []))) = some (zm_sLs Z2 pr_words 12) from rfl, Option.bind_some]
  rw [pk_key _ (pr_key (pr_words[12]?.getD [])) _ (by decide +kernel : gm_letters 101 108 115 101 0 0 0 = some (pr_key (pr_words[12]?.getD []))), show zs_ast 22 12 (zm_sL (zm_sLs Z2 pr_words 12) 9 12 (pr_key (pr_words[12]?.getD []))) = some (zm_sLs Z2 pr_words 13) from rfl, Option.bind_some]
  rw [pk_key _ (pr_key (pr_words[13]?.getD [])) _ (by decide +kernel : gm_letters 104 97 105 114 0 0 0 = some (pr_key (pr_words[13]?.getD []))), show zs_ast 22 13 (zm_sL (zm_sLs Z2 pr_words 13) 9 13 (pr_key (pr_words[13]?.getD []))) = some (zm_sLs Z2 pr_words 14) from rfl, Option.bind_some]
  rw [pk_key _ (pr_key (pr_words[14]?.getD [])) _ (by decide +kernel : gm_letters 115 116 114 111 110 103 0 = some (pr_key (pr_words[14]?.getD []))), show zs_ast 22 14 (zm_sL (zm_sLs Z2 pr_words 14) 9 14 (pr_key (pr_words[14]?.getD []))) = some (zm_sLs Z2 pr_words 15) from rfl, Option.bind_some]
  rw [pk_key _ (pr_key (pr_words[15]?.getD [])) _ (by decide +kernel : gm_letters 108 105 107 101 0 0 0 = some (pr_key (pr_words[15]?.getD []))), show zs_ast 22 15 (zm_sL (zm_sLs Z2 pr_words 15) 9 15 (pr_key (pr_words[15]?.getD []))) = some (zm_sLs Z2 pr_words 16) from rfl, Option.bind_some]
  rw [pk_key _ (pr_key (pr_words[16]?.getD [])) _ (by decide +kernel : gm_letters 121 101 97 114 0 0 0 = some (pr_key (pr_words[16]?.getD []))), show zs_ast 22 16 (zm_sL (zm_sLs Z2 pr_words 16) 9 16 (pr_key (pr_words[16]?.getD []))) = some (zm_sLs Z2 pr_words 17) from rfl, Option.bind_some]
  rw [pk_key _ (pr_key (pr_words[17]?.getD [])) _ (by decide +kernel : gm_letters 112 108 97 99 101 0 0 = some (pr_key (pr_words[17]?.getD []))), show zs_ast 22 17 (zm_sL (zm_sLs Z2 pr_words 17) 9 17 (pr_key (pr_words[17]?.getD []))) = some (zm_sLs Z2 pr_words 18) from rfl, Option.bind_some]
  rw [pk_key _ (pr_key (pr_words[18]?.getD [])) _ (by decide +kernel : gm_letters 119 104 105 99 104 0 0 = some (pr_key (pr_words[18]?.getD []))), show zs_ast 22 18 (zm_sL (zm_sLs Z2 pr_words 18) 9 18 (pr_key (pr_words[18]?.getD []))) = some (zm_sLs Z2 pr_words 19) from rfl, Option.bind_some]
  rw [pk_key _ (pr_key (pr_words[19]?.getD [])) _ (by decide +kernel : gm_letters 115 112 108 105 99 101 100 = some (pr_key (pr_words[19]?.getD []))), show zs_ast 22 19 (zm_sL (zm_sLs Z2 pr_words 19) 9 19 (pr_key (pr_words[19]?.getD []))) = some (zm_sLs Z2 pr_words 20) from rfl, Option.bind_some]
  rw [pk_key _ (pr_key (pr_words[20]?.getD [])) _ (by decide +kernel : gm_letters 103 105 118 101 110 0 0 = some (pr_key (pr_words[20]?.getD []))), show zs_ast 22 20 (zm_sL (zm_sLs Z2 pr_words 20) 9 20 (pr_key (pr_words[20]?.getD []))) = some (zm_sLs Z2 pr_words 21) from rfl, Option.bind_some]
  rw [pk_key _ (pr_key (pr_words[21]?.getD [])) _ (by decide +kernel : gm_letters 111 116 104 101 114 0 0 = some (pr_key (pr_words[21]?.getD []))), show zs_ast 22 21 (zm_sL (zm_sLs Z2 pr_words 21) 9 21 (pr_key (pr_words[21]?.getD []))) = some (zm_sLs Z2 pr_words 22) from rfl, Option.bind_some]
  rw [h3, Option.bind_some, h4, Option.bind_some]
theorem pi_initT {c : Nat} : pw (gm_initT zm_S0) (fun Z => pm_T (zt_T0 c) 0 Z ∧ (∀ x, x < 33 → Z.2.1 47 x = 0) ∧ Z.1 53 = 0 ∧ Z.1 63 = 0 ∧ Z.1 2 = 0 ∧ Z.1 17 = -1 ∧ (∀ k, Z.2.1 69 k = 0) ∧ pr_K Z) := by
  obtain ⟨Z1, e1, a1, a2, a3, a4, a5, a6, a7, a8, a9, a10, a11, a12⟩ := py_plain (sd := 0) (by omega) zm_S0
  obtain ⟨Z2, e2, b1, b2, b3, b4, b5, b6, b7, b8, b9, b10, b11, b12⟩ := py_plain (sd := 1) (by omega) Z1
  obtain ⟨l1, l2⟩ := zm_sLs_1 Z2 pr_words 22
  have l3 := zm_sLs_2 Z2 pr_words 22 (by omega)
  generalize hZ : zm_sLs Z2 pr_words 22 = Z2' at l1 l2 l3
  have f1 : ∀ k, Z2'.1 k = zm_S0.1 k := fun k => by rw [l1, b1, a1]
  have f2 : ∀ k j s, py_sz k = s → j < s → Z2'.2.1 k j = Z1.2.1 k j := fun k j s hs hj => by
    subst hs
    rw [l2]
    have := b3.2.2.1 k j hj
    rw [show py_sz k * (1 - 1) + j = j by omega] at this
    exact this
  obtain ⟨Z3, e3, c1, c2, c3, c4⟩ := pm_begins (sd := 0) (n := 0) (Z := Z2') (by omega) (by omega) (by rw [f1]; rfl) (by rw [f2 22 0 1 rfl (by omega)]; exact a5)
  obtain ⟨Z4, e4, d1, d2, d3, d4⟩ := py_keepsRow Z3
  have g1 : ∀ k, k ≠ 49 → k ≠ 50 → Z4.1 k = zm_S0.1 k := fun k h1 h2 => by rw [d1, c1 k h1 h2, f1]
  have g2 : ∀ k, k ≠ 47 → k ≠ 48 → Z4.2.1 k = Z2'.2.1 k := fun k h1 h2 => by rw [d2 k h1, c2 k h2]
  have g3 : ∀ k j s, k ≠ 47 → k ≠ 48 → py_sz k = s → j < s → Z4.2.1 k j = Z1.2.1 k j := fun k j s h1 h2 hs hj => by rw [g2 k h1 h2, f2 k j s hs hj]
  refine ⟨Z4, gm_initT_e e1 e2 (by rw [hZ]; exact e3) e4, ⟨by omega, by rw [g1 18 (by omega) (by omega)]; rfl, ?_, fun h hh => absurd hh (Nat.not_lt_zero h), fun a b ha hb => ?_, ?_, ?_, ?_, ?_, fun k hk => ?_⟩, fun x hx => ?_, by rw [g1 53 (by omega) (by omega)]; rfl, by rw [g1 63 (by omega) (by omega)]; rfl, by rw [g1 2 (by omega) (by omega)]; rfl, by rw [g1 17 (by omega) (by omega)]; rfl, fun k => ?_, fun j u hj => ?_⟩
  · rw [g3 22 0 1 (by omega) (by omega) rfl (by omega), a5]; rfl
  · rw [g3 26 _ 36 (by omega) (by omega) rfl (by omega), show 36 * 0 + 6 * a + b = 36 * 0 + (6 * a + b) by omega, a7 _ (by omega)]; rfl
  · rw [g3 27 0 1 (by omega) (by omega) rfl (by omega), a8]; rfl
  · rw [g3 28 0 1 (by omega) (by omega) rfl (by omega), a9]; rfl
  · rw [g3 29 0 1 (by omega) (by omega) rfl (by omega), a10]; rfl
  · rw [g3 30 0 1 (by omega) (by omega) rfl (by omega), a11]; rfl
  · show Z4.2.1 31 (4 * 0 + k) = Z4.2.1 32 (4 * 0 + k)
    rw [g3 31 _ 4 (by omega) (by omega) rfl (by omega), g3 32 _ 4 (by omega) (by omega) rfl (by omega), (a12 k hk).1, (a12 k hk).2]
  · rw [d4 x hx, c4 x hx, if_neg (by omega)]
  · rw [g2 69 (by omega) (by omega), l2, b4 69 (by omega), a4 69 (by omega)]; rfl
  · have hlt : j < 22 := by
      have := (List.getElem?_eq_some_iff.1 hj).1
      exact this
    rw [d3, c3, l3 j hlt, hj]; rfl
/-! both sides at the start; the whole law -/
theorem zt_at_T0 {g : Nat → Option zs_HC} {w : Nat → Nat} {c : Nat} (h : ∀ i, i < 10 → ∃ x, g (c + (10 + i)) = some x ∧ hc_eq x (tk_t w c 10 i)) : zt_at g (zt_T0 c) := by
  refine ⟨?_, ?_, Nat.zero_le _, fun q => absurd q (Nat.lt_irrefl 0), fun k hk => absurd hk (Nat.not_lt_zero k), ?_, ?_, fun k hk => ?_⟩
  · obtain ⟨⟨t, n, f⟩, e, q1, q2, q3⟩ := h 0 (by omega)
    cases q1; cases q2
    have q3 : ∀ k, k < 8 → f k = (tk_t w c 10 0).2.2 k := q3
    refine ⟨f, e, q3 0 (by omega), q3 1 (by omega), q3 2 (by omega), fun k h1 h2 => ?_⟩
    rw [q3 k h2]
    have : k = 3 ∨ k = 4 ∨ k = 5 ∨ k = 6 ∨ k = 7 := by omega
    rcases this with rfl | rfl | rfl | rfl | rfl <;> rfl
  · obtain ⟨⟨t, n, f⟩, e, q1, q2, q3⟩ := h 1 (by omega)
    cases q1; cases q2
    have q3 : ∀ k, k < 3 → f k = (tk_t w c 10 1).2.2 k := q3
    exact ⟨f, e, q3 2 (by omega), fun q => absurd q (Nat.lt_irrefl 0)⟩
  · obtain ⟨⟨t, n, f⟩, e, q1, q2, q3⟩ := h 2 (by omega)
    cases q1; cases q2
    have q3 : ∀ k, k < 4 → f k = (tk_t w c 10 2).2.2 k := q3
    exact ⟨f, e, fun k hk => ⟨fun _ => q3 k hk, fun L e => (by cases e)⟩⟩
  · obtain ⟨⟨t, n, f⟩, e, q1, q2, q3⟩ := h 3 (by omega)
    cases q1; cases q2
    have q3 : ∀ k, k < 6 → f k = (tk_t w c 10 3).2.2 k := q3
    refine ⟨f, e, fun k hk => (q3 k hk).trans ?_⟩
    show Value.ref (c + (10 + (4 + k))) = .ref (c + (if 5 + k = 0 then 10 else if 5 + k = 1 then 11 else if 5 + k = 3 then 12 else if 5 + k = 4 then 13 else if 5 ≤ 5 + k then 14 + (5 + k - 5) else 0))
    rw [if_neg (by omega), if_neg (by omega), if_neg (by omega), if_neg (by omega), if_pos (by omega)]
    exact congrArg Value.ref (show (c + (10 + (4 + k)) : Nat) = c + (14 + (5 + k - 5)) by omega)
  · obtain ⟨⟨t, n, f⟩, e, q1, q2, q3⟩ := h (4 + k) (by omega)
    have ht : tk_t w c 10 (4 + k) = (64, 6, fun _ => .int 5) := by
      unfold tk_t
      rw [if_neg (by omega), if_neg (by omega), if_neg (by omega), if_neg (by omega)]
    rw [ht] at q1 q2 q3
    cases q1; cases q2
    have q3 : ∀ k, k < 6 → f k = .int 5 := q3
    refine ⟨f, ?_, fun j hj => q3 j hj⟩
    rw [← e]
    show g (c + (if 5 + k = 0 then 10 else if 5 + k = 1 then 11 else if 5 + k = 3 then 12 else if 5 + k = 4 then 13 else if 5 ≤ 5 + k then 14 + (5 + k - 5) else 0)) = _
    rw [if_neg (by omega), if_neg (by omega), if_neg (by omega), if_neg (by omega), if_pos (by omega)]
    exact congrArg g (show (c + (14 + (5 + k - 5)) : Nat) = c + (10 + (4 + k)) by omega)
theorem pt_X_T0 (c : Nat) : pt_X (zt_T0 c) pz_X0 := by
  refine ⟨rfl, fun h q e => (by cases e), fun _ _ _ _ => rfl, fun k h1 h2 => ?_, fun _ _ => rfl⟩
  have : k = 4 ∨ k = 5 ∨ k = 6 ∨ k = 7 := by omega
  rcases this with rfl | rfl | rfl | rfl <;> rfl
theorem pt_ok_T0 (c : Nat) : pt_ok (zt_T0 c) := by
  refine ⟨Nat.zero_le _, fun h hh => absurd hh (Nat.not_lt_zero h), fun a b _ _ => ?_, ?_, ?_, ?_, fun k L _ e => (by cases e)⟩
  · show 0 ≤ (5 : Int32).toInt ∧ (5 : Int32).toInt ≤ 9; decide
  · show 1 ≤ (20 : Int32).toInt ∧ (20 : Int32).toInt ≤ 99; decide
  · show 0 ≤ (10 : Int32).toInt ∧ (10 : Int32).toInt ≤ 99; decide
  · show 0 ≤ (0 : Int32).toInt ∧ (0 : Int32).toInt ≤ 100; decide
theorem pr_start {c : Nat} {Z : zm_S} (h1 : pm_T (zt_T0 c) 0 Z) (h2 : ∀ x, x < 33 → Z.2.1 47 x = 0) (h3 : Z.1 53 = 0) (h4 : Z.1 63 = 0) (h5 : Z.1 2 = 0) (h6 : Z.1 17 = -1) (h7 : ∀ k, Z.2.1 69 k = 0) (h8 : pr_K Z) : ∃ S, gv_begins (zt_T0 c) cs_S0 0 = some S ∧ pr_R (zt_T0 c) S Z := by
  obtain ⟨S, e, q1, q2, q3, q4⟩ := pc_begins (T := zt_T0 c) (M := cs_S0) (i := 0) (Nat.zero_le _)
  refine ⟨S, e, 0, pv_new (zt_T0 c), [], 0, pt_ok_T0 c, h1, pv_new_ok (pt_ok_T0 c), q1, q2, ⟨fun h hh => ⟨?_, ?_, ?_, ?_⟩, ?_, fun k x hk => (by cases hk), ?_, ?_⟩, ⟨Nat.zero_le _, by omega, ?_, ?_, ?_, fun j V e => (by cases e)⟩, fun k hk => ⟨?_, Or.inl ?_⟩, ⟨0, by omega, ?_, ?_, fun j hj => absurd hj (Nat.not_lt_zero j)⟩, ⟨0, by omega, ?_, ?_, fun j hj => absurd hj (Nat.not_lt_zero j)⟩, ?_, h8, ?_⟩
  · rw [h2 _ (by omega)]; rfl
  · rw [h2 _ (by omega)]; rfl
  · rw [h2 _ (by omega)]; rfl
  · rw [h2 _ (by omega)]; rfl
  · rw [h2 _ (by omega)]; rfl
  · rw [h2 _ (by omega)]; rfl
  · rw [h2 _ (by omega)]; rfl
  · rw [q3 0 5 (by omega)]; rfl
  · rw [q3 0 6 (by omega)]; rfl
  · rw [h3]; rfl
  · rw [q4 0 13 (by omega), h7]; rfl
  · rw [q4 0 13 (by omega)]; rfl
  · rw [q3 0 19 (by omega)]; rfl
  · rw [h4]; rfl
  · rw [q3 2 2 (by omega)]; rfl
  · rw [h5]; rfl
  · rw [q3 0 4 (by omega), h6]; rfl
  · rw [q4 0 16 (by omega)]; rfl
/-- what HairRope's constructor leaves -/
def hq_A (w : Nat → Nat) (M : ps_S) (c k s : Nat) (S : cs_S) (M1 : ps_S) : Prop := M1.1 = S ∧ M1.2.1.1 = M.2.1.1 ∧ M1.2.1.2.1 = c + 561 ∧ M1.2.2.1 = .null ∧ k ≤ M1.2.2.2.1 ∧ s ≤ M1.2.2.2.2 ∧ (∀ a, a < c → M1.2.1.2.2 a = M.2.1.2.2 a) ∧ (∀ a, cs_dom c a → M1.2.1.2.2 a = some (cs_cell (w, zt_T0 c, .null) c S (a - c))) ∧ ∀ i, i < 10 → ∃ x, M1.2.1.2.2 (c + (10 + i)) = some x ∧ hc_eq x (tk_t w c 10 i)
theorem hq_law1 {α : Type} {w : Nat → Nat} {M : ps_S} {c : Nat} {k s : Nat} {S : cs_S} {f : Nat → ps_S → Option α} {Q : α → Prop} (hc : M.2.1.2.1 = c) (hb : M.2.1.1 ≤ c) (hn : M.2.2.1 = .null) (hk : k + 561 ≤ M.2.2.2.1) (hs : s + 13778 ≤ M.2.2.2.2) (hw : ∀ j, j < 22 → w j < c ∧ ∃ x, M.2.1.2.2 (w j) = some (18, x)) (hS : gv_begins (zt_T0 c) cs_S0 0 = some S) (g : ∀ M1, hq_A w M c k s S M1 → pw (f c M1) Q) :
    pw ((ps_nw M (0, 27, fun k => defaultValue (tyX0 k)) 27).bind fun z1 => (gq_X0_init w z1.2 z1.1).bind fun M1 => f z1.1 M1) Q := by
  have h0 : hq_x M c 0 (cC_x w c) (k + 560 + 1) (s + 13751 + 27) M := ⟨⟨rfl, rfl, hb, hc, rfl, hk, hs⟩, fun _ _ => rfl, fun j hj => absurd hj (Nat.not_lt_zero j)⟩
  refine pw_seq (hq_nwo h0) ?_
  rintro ⟨z, M2⟩ ⟨hz, h2⟩
  have hz : c = z := Eq.symm hz
  subst hz
  refine pw_seq (Q := fun M1 => hq_A w M c k s S M1) (hq_X0 (k := k) (s := s) h2 hw (fun M3 h3 => ?_)) g
  obtain ⟨⟨a1, a2, a3, a4, a5, a6, a7⟩, a8, a9⟩ := h3
  have ht : ∀ i, i < 10 → ∃ x, M3.2.1.2.2 (c + (10 + i)) = some x ∧ hc_eq x (tk_t w c 10 i) := fun i hi => by
    obtain ⟨x, e, q⟩ := a9 (10 + i) (by omega)
    refine ⟨x, e, ?_⟩
    unfold cC_x at q
    rw [if_pos (by omega), show 10 + i - 10 = i by omega] at q
    exact q
  have hok : hp_ok w M3 c := by
    refine ⟨by omega, fun j hj => ?_, zt_at_T0 (w := w) (fun i hi => ?_)⟩
    · obtain ⟨x, e, q⟩ := a9 j hj.1
      rw [cC_in hj.2] at q
      exact ⟨x, e, q.1, q.2.1, q.2.2⟩
    · obtain ⟨x, e, q⟩ := ht i hi
      refine ⟨x, ?_, q⟩
      unfold cs_rs
      rw [if_neg]
      · exact e
      · unfold hp_P; rw [decide_eq_true_eq]; omega
  show pw (hp_end w M3 c) _
  unfold hp_end
  rw [if_pos hok, hS]
  refine ⟨_, rfl, rfl, a2, a4, a5.trans hn, a6, a7, fun a ha => ?_, fun a ha => ?_, fun i hi => ?_⟩
  · show (if c ≤ a ∧ a < c + 561 ∧ ¬ (c + 10 ≤ a ∧ a < c + 20) then _ else M3.2.1.2.2 a) = _
    rw [if_neg (by omega)]; exact a8 a ha
  · show (if c ≤ a ∧ a < c + 561 ∧ ¬ (c + 10 ≤ a ∧ a < c + 20) then _ else M3.2.1.2.2 a) = _
    unfold cs_dom at ha
    rw [if_pos ha]
  · obtain ⟨x, e, q⟩ := ht i hi
    refine ⟨x, ?_, q⟩
    show (if c ≤ c + (10 + i) ∧ c + (10 + i) < c + 561 ∧ ¬ (c + 10 ≤ c + (10 + i) ∧ c + (10 + i) < c + 20) then _ else M3.2.1.2.2 (c + (10 + i))) = _
    rw [if_neg (by omega)]; exact e
/-- what HairRopeModel's constructor leaves -/
def hq_B (M : ps_S) (m k s : Nat) (Z : zm_S) (M1 : ps_S) : Prop := M1.1 = M.1 ∧ M1.2.1.1 = M.2.1.1 ∧ M1.2.1.2.1 = m + 49 ∧ M1.2.2.1 = M.2.2.1 ∧ k ≤ M1.2.2.2.1 ∧ s ≤ M1.2.2.2.2 ∧ (∀ a, a < m → M1.2.1.2.2 a = M.2.1.2.2 a) ∧ ∀ a, m ≤ a → a < m + 49 → M1.2.1.2.2 a = some (zm_cell m Z (a - m))
theorem hq_law2 {α : Type} {w : Nat → Nat} {M : ps_S} {m : Nat} {k s : Nat} {Z : zm_S} {f : Nat → ps_S → Option α} {Q : α → Prop} (hc : M.2.1.2.1 = m) (hb : M.2.1.1 ≤ m) (hk : k + 49 ≤ M.2.2.2.1) (hs : s + 10992 ≤ M.2.2.2.2) (hZ : gm_initT zm_S0 = some Z) (g : ∀ M1, hq_B M m k s Z M1 → pw (f m M1) Q) :
    pw ((ps_nw M (10, 71, fun k => defaultValue (tyX10 k)) 71).bind fun z1 => (gq_X10_init w z1.2 z1.1).bind fun M1 => f z1.1 M1) Q := by
  have h0 : hq_x M m 0 (zm_cell m zm_S0) (k + 48 + 1) (s + 10921 + 71) M := ⟨⟨rfl, rfl, hb, hc, rfl, hk, hs⟩, fun _ _ => rfl, fun j hj => absurd hj (Nat.not_lt_zero j)⟩
  refine pw_seq (hq_nwo h0) ?_
  rintro ⟨z, M2⟩ ⟨hz, h2⟩
  have hz : m = z := Eq.symm hz
  subst hz
  refine pw_seq (Q := fun M1 => hq_B M m k s Z M1) (hq_X10 (k := k) (s := s) h2 (fun M3 h3 => ?_)) g
  obtain ⟨⟨a1, a2, a3, a4, a5, a6, a7⟩, a8, a9⟩ := h3
  have hok : hm_ok M3 m := by
    refine ⟨by omega, fun j hj => ?_⟩
    obtain ⟨x, e, q⟩ := a9 j hj
    exact ⟨x, e, q.1, q.2.1, q.2.2⟩
  show pw (hm_end M3 m) _
  unfold hm_end
  rw [if_pos hok, hZ]
  refine ⟨_, rfl, a1, a2, a4, a5, a6, a7, fun a ha => ?_, fun a h1 h2 => ?_⟩
  · show (if m ≤ a ∧ a < m + 49 then _ else M3.2.1.2.2 a) = _
    rw [if_neg (by omega)]; exact a8 a ha
  · show (if m ≤ a ∧ a < m + 49 then _ else M3.2.1.2.2 a) = _
    rw [if_pos ⟨h1, h2⟩]
def hq_g (M : ps_S) : Nat → Option zs_HC := fun a => if a < M.2.1.2.1 then M.2.1.2.2 a else none
/-- THE LAW, FROM ITS FIRST HEAP ON, ANSWERS TRUE -/
theorem lw_true {w : Nat → Nat} {b L : Nat} {xs : Nat → Int32} {M : ps_S} (hn : M.2.2.1 = .null) (hb0 : M.2.1.1 ≤ M.2.1.2.1) (hL : L ≤ 384) (hb : hq_g M b = some (64, L, fun j => .int (xs j))) (hw : ∀ (j : Nat) u, pr_words[j]? = some u → pk_st (hq_g M) (w j) u) (hE : ∃ FE, hq_g M (w 100) = some (73, 0, FE)) (hk : 400000 ≤ M.2.2.2.1) (hs : 2000000 ≤ M.2.2.2.2) : pw (gl_law0 w b L xs M) (fun z => z.1 = true) := by
  obtain ⟨Z, eZ, z1, z2, z3, z4, z5, z6, z7, z8⟩ := pi_initT (c := M.2.1.2.1)
  obtain ⟨S, eS, hR⟩ := pr_start z1 z2 z3 z4 z5 z6 z7 z8
  have hlt : ∀ a x, hq_g M a = some x → a < M.2.1.2.1 ∧ M.2.1.2.2 a = some x := fun a x e => by
    unfold hq_g at e
    by_cases q : a < M.2.1.2.1
    · rw [if_pos q] at e; exact ⟨q, e⟩
    · rw [if_neg q] at e; cases e
  have hw18 : ∀ j, j < 22 → w j < M.2.1.2.1 ∧ ∃ x, M.2.1.2.2 (w j) = some (18, x) := fun j hj => by
    have hlen : j < pr_words.length := hj
    obtain ⟨F, z, S', q1, -⟩ := hw j _ (List.getElem?_eq_getElem hlen)
    obtain ⟨q2, q3⟩ := hlt _ _ q1
    exact ⟨q2, _, q3⟩
  unfold gl_law0
  generalize hc : M.2.1.2.1 = c at *
  refine hq_law1 (k := 350000) (s := 1800000) hc (by omega) hn (by omega) (by omega) hw18 eS (f := fun c M1 => (ps_nw M1 (10, 71, fun k => defaultValue (tyX10 k)) 71).bind fun z2 => (gq_X10_init w z2.2 z2.1).bind fun M2 => gl_lawS w b L xs c z2.1 M2) (fun M1 hA => ?_)
  obtain ⟨a1, a2, a3, a4, a5, a6, a7, a8, a9⟩ := hA
  refine hq_law2 (k := 340000) (s := 1700000) (m := c + 561) (f := fun m M2 => gl_lawS w b L xs c m M2) a3 (by omega) (by omega) (by omega) eZ (fun M2 hB => ?_)
  obtain ⟨b1, b2, b3, b4, b5, b6, b7, b8⟩ := hB
  have hbc := hlt _ _ hb
  have hcell : ∀ a, a < c → M2.2.1.2.2 a = M.2.1.2.2 a := fun a ha => by rw [b7 a (by omega), a7 a ha]
  have hP : ∀ i, i < 10 → ls_P c (c + 561) (c + (10 + i)) = false := fun i hi => by
    unfold ls_P; rw [decide_eq_false_iff_not]; omega
  have hPc : ∀ a, a < c → ls_P c (c + 561) a = false := fun a ha => by
    unfold ls_P; rw [decide_eq_false_iff_not]; omega
  have hok : ls_sok w b L xs c (c + 561) M2 Z := by
    refine ⟨?_, by omega, by omega, zt_at_T0 (w := w) (fun i hi => ?_), by omega, ?_, Or.inr (Nat.le_refl _), by omega, by omega⟩
    · rw [b4, a4, b1, a1]
      refine Prod.ext rfl (Prod.ext rfl (funext fun a => ?_))
      show (if c ≤ a ∧ a < c + 561 ∧ ¬ (c + 10 ≤ a ∧ a < c + 20) then some (cs_cell (w, zt_T0 c, .null) c S (a - c)) else (if c + 561 ≤ a ∧ a < c + 561 + 49 then some (zm_cell (c + 561) Z (a - (c + 561))) else M2.2.1.2.2 a)) = M2.2.1.2.2 a
      by_cases q1 : c ≤ a ∧ a < c + 561 ∧ ¬ (c + 10 ≤ a ∧ a < c + 20)
      · rw [if_pos q1, b7 a (by omega), a8 a q1]
      · rw [if_neg q1]
        by_cases q2 : c + 561 ≤ a ∧ a < c + 561 + 49
        · rw [if_pos q2, b8 a q2.1 q2.2]
        · rw [if_neg q2]
    · obtain ⟨x, e, q⟩ := a9 i hi
      refine ⟨x, ?_, q⟩
      unfold cs_rs
      rw [hP i hi, if_neg (by simp), b7 _ (by omega)]; exact e
    · rw [hcell b hbc.1]; exact hbc.2
  have hic : pk_ic (hq_g M) (pi_g (ls_P c (c + 561)) M2) := fun a x e => by
    obtain ⟨q1, q2⟩ := hlt a x e
    unfold pi_g cs_rs
    rw [if_pos (by omega), hPc a q1, if_neg (by simp), hcell a q1]; exact q2
  have hI : pi_I w c (c + 561) b L xs 64 (zt_T0 c, M2, Z) := by
    refine ⟨?_, ⟨pz_X0, zt_T0 c, pt_X_T0 c, pt_X_T0 c, rfl, zt_at_T0 (w := w) (fun i hi => ?_)⟩, fun j u hj => pk_st_ic hic (hw j u hj), ?_, ⟨?_, ?_⟩, ⟨?_, ?_⟩, ⟨?_, ?_⟩, ?_, ?_⟩
    · show pr_R (zt_T0 c) M2.1 Z
      rw [b1, a1]; exact hR
    · obtain ⟨x, e, q⟩ := a9 i hi
      refine ⟨x, ?_, q⟩
      unfold pi_g cs_rs
      rw [if_pos (by show c + (10 + i) < M2.2.1.2.1; omega), hP i hi, if_neg (by simp)]
      show M2.2.1.2.2 _ = _
      rw [b7 _ (by omega)]; exact e
    · obtain ⟨FE, e⟩ := hE
      exact ⟨FE, hic _ _ e⟩
    · show c + 561 ≤ M2.2.1.2.1; omega
    · show M2.2.1.1 ≤ c; omega
    · show c + 561 + 49 ≤ M2.2.1.2.1; omega
    · show M2.2.1.1 ≤ c + 561; omega
    · show b < M2.2.1.2.1; have := hbc.1; omega
    · show M2.2.1.2.2 b = _; rw [hcell b hbc.1]; exact hbc.2
    · show 6010 + 5010 * 64 ≤ M2.2.2.2.1; omega
    · show 40057 + 25057 * 64 ≤ M2.2.2.2.2; omega
  obtain ⟨z, e, hz⟩ := pq_law (w := w) (c := c) (m := c + 561) (b := b) (L := L) (xs := xs) (Or.inr (Nat.le_refl _)) (by have := hbc.1; omega) hI hL
  show pw (gl_lawS w b L xs c (c + 561) M2) _
  unfold gl_lawS
  rw [eZ, Option.bind_some, if_pos hok, e]
  exact ⟨_, rfl, hz⟩
