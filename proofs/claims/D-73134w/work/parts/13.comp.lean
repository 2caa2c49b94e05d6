/-! THE COMPONENT's cells as numbers: objects o with fields k (S.1 o k), arrays k of an object o (S.2 o k i), the text (W.2.1), the parser's text (S.2.2.2).
  objects: 0 HairRope, 1 Fault, 2 Tokens, 3 Parser, 10 + i the village i (0 village, 1 trial, 2 + k past, 42 + k slots), 110 + i its Asked, 60 61 62 the rows of ways, join, often -/
set_option maxRecDepth 100000
/-- code of a term, behind one another (0 an int, 1 a variable, 2 plus, 3 minus, 4 times, 5 over) -/
abbrev zl_C : Type := List (Nat × Int32)
/-- a law: its ifs (less, than, then), what else -/
abbrev zl_L : Type := List (zl_C × zl_C × zl_C) × zl_C
/-- a text: addresses (0 itself, 1 its list, 2 the list's array, 3 laws, 4 like, 5 + i the rows of like, 20 + k the laws), how many houses, room for, where they are, their numbers (1 hair, 2 strong), like, numbers (3 likes, 4 well, 5 water, 6 blight, 7 seed), laws -/
abbrev zt_T : Type := (Nat → Nat) × Nat × Nat × (Nat → Nat) × (Nat → Nat → Int32) × (Nat → Nat → Int32) × (Nat → Int32) × (Nat → Option zl_L)
def zt_ad (T : zt_T) : Nat → Nat := T.1
def zt_n (T : zt_T) : Nat := T.2.1
def zt_cap (T : zt_T) : Nat := T.2.2.1
def zt_ha (T : zt_T) : Nat → Nat := T.2.2.2.1
def zt_hi (T : zt_T) : Nat → Nat → Int32 := T.2.2.2.2.1
def zt_lk (T : zt_T) : Nat → Nat → Int32 := T.2.2.2.2.2.1
def zt_f (T : zt_T) : Nat → Int32 := T.2.2.2.2.2.2.1
def zt_lw (T : zt_T) : Nat → Option zl_L := T.2.2.2.2.2.2.2
def zl_op (op : Int32) : Nat := if op = 43 then 2 else if op = 45 then 3 else if op = 42 then 4 else 5
/-- a term in the heap, of a depth -/
def zl_at (g : Nat → Option zs_HC) : Nat → Nat → zl_C → Prop
  | 0, _, _ => False
  | d + 1, a, c => (∃ f v, g a = some (13, 1, f) ∧ f 0 = .int v ∧ c = [(0, v)]) ∨ (∃ f k, g a = some (14, 1, f) ∧ f 0 = .int k ∧ zs_in k 9 = true ∧ c = [(1, k)]) ∨ ∃ f op a1 a2 c1 c2, g a = some (15, 3, f) ∧ f 0 = .int op ∧ f 1 = .ref a1 ∧ f 2 = .ref a2 ∧ zl_at g d a1 c1 ∧ zl_at g d a2 c2 ∧ c = c1 ++ c2 ++ [(zl_op op, 0)]
def zl_law (g : Nat → Option zs_HC) (a : Nat) (L : zl_L) : Prop := ∃ f f1 f2 f3 a1 a2 a3, g a = some (11, 4, f) ∧ f 0 = .ref a1 ∧ f 1 = .ref a2 ∧ f 2 = .ref a3 ∧ f 3 = .int (nI L.1.length) ∧ L.1.length ≤ 4 ∧ g a1 = some (70, 4, f1) ∧ g a2 = some (70, 4, f2) ∧ g a3 = some (70, 5, f3) ∧
  (∀ k q, L.1[k]? = some q → ∃ b1 b2 b3, f1 k = .ref b1 ∧ f2 k = .ref b2 ∧ f3 k = .ref b3 ∧ zl_at g 420 b1 q.1 ∧ zl_at g 420 b2 q.2.1 ∧ zl_at g 420 b3 q.2.2) ∧ ∃ b, f3 L.1.length = .ref b ∧ zl_at g 420 b L.2
def zt_at (g : Nat → Option zs_HC) (T : zt_T) : Prop :=
  (∃ f, g (zt_ad T 0) = some (4, 8, f) ∧ f 0 = .ref (zt_ad T 1) ∧ f 1 = .ref (zt_ad T 3) ∧ f 2 = .ref (zt_ad T 4) ∧ ∀ k, 3 ≤ k → k < 8 → f k = .int (zt_f T k)) ∧
  (∃ f, g (zt_ad T 1) = some (17, 3, f) ∧ f 2 = .int (nI (zt_n T)) ∧ (0 < zt_n T → f 1 = .ref (zt_ad T 2))) ∧ zt_n T ≤ 6 ∧
  (0 < zt_n T → ∃ f, g (zt_ad T 2) = some (73, zt_cap T, f) ∧ zt_n T ≤ zt_cap T ∧ zt_cap T < 2 ^ 31 ∧ ∀ k, k < zt_n T → f k = .ref (zt_ha T k)) ∧
  (∀ k, k < zt_n T → ∃ f, g (zt_ha T k) = some (16, 3, f) ∧ f 1 = .int (zt_hi T k 1) ∧ f 2 = .int (zt_hi T k 2)) ∧
  (∃ f, g (zt_ad T 3) = some (69, 4, f) ∧ ∀ k, k < 4 → (zt_lw T k = none → f k = .null) ∧ ∀ L, zt_lw T k = some L → f k = .ref (zt_ad T (20 + k)) ∧ zl_law g (zt_ad T (20 + k)) L) ∧
  (∃ f, g (zt_ad T 4) = some (74, 6, f) ∧ ∀ k, k < 6 → f k = .ref (zt_ad T (5 + k))) ∧ ∀ k, k < 6 → ∃ f, g (zt_ad T (5 + k)) = some (64, 6, f) ∧ ∀ j, j < 6 → f j = .int (zt_lk T k j)
/-- what stands beside: the words' addresses, the text, the parser's text -/
abbrev cs_W : Type := (Nat → Nat) × zt_T × Value
abbrev cs_S : Type := (Nat → Nat → Int32) × (Nat → Nat → Nat → Int32)
def cs_va (i : Nat) : Nat := if i = 0 then 20 else if i = 1 then 30 else if i < 42 then 161 + 10 * (i - 2) else 42 + 10 * (i - 42)
/-- of a place: the village, its part -/
def cs_vi (j : Nat) : Option (Nat × Nat) := if 20 ≤ j ∧ j < 30 then some (0, j - 20) else if 30 ≤ j ∧ j < 40 then some (1, j - 30) else if 42 ≤ j ∧ j < 72 then some (42 + (j - 42) / 10, (j - 42) % 10) else if 161 ≤ j ∧ j < 561 then some (2 + (j - 161) / 10, (j - 161) % 10) else none
def cs_vf (s : Nat) : Nat := if s < 6 then s - 1 else if s < 8 then s + 3 else 11
/-- an array's place: whose, which -/
def cs_kz : Nat → Option (Nat × Nat)
  | 4 => some (2, 1) | 5 => some (2, 3) | 6 => some (2, 4) | 7 => some (2, 5) | 8 => some (2, 6) | 74 => some (0, 13) | 147 => some (0, 16) | 148 => some (0, 17) | 149 => some (0, 18) | 150 => some (0, 22) | 151 => some (0, 23) | 152 => some (0, 24) | 153 => some (0, 25)
  | j => if 76 ≤ j ∧ j < 140 then some (60, j - 76) else if 141 ≤ j ∧ j < 147 then some (61, j - 141) else if 155 ≤ j ∧ j < 161 then some (62, j - 155) else none
def cs_key (j : Nat) : Option (Nat × Nat) := match cs_vi j with
  | some (i, s) => if s = 0 ∨ s = 8 then none else some (10 + i, cs_vf s)
  | none => cs_kz j
def cs_tg (o k : Nat) : Nat := if o = 2 then (if k < 4 then 65 else 66) else if o = 0 ∧ (k = 13 ∨ k = 24) then 67 else 64
def cs_ln (o k : Nat) : Nat := if o = 2 then (if k = 1 then 2000 else 2001) else if o = 0 then (if k = 13 then 3 else if k = 16 then 64 else if k = 22 ∨ k = 23 ∨ k = 24 then 20 else 6) else if 10 ≤ o ∧ o < 55 ∧ k = 11 then 9 else 6
def cs_az (o k : Nat) : Nat := if o = 2 then (match k with | 1 => 4 | 3 => 5 | 4 => 6 | 5 => 7 | _ => 8) else if o = 0 then (match k with | 13 => 74 | 16 => 147 | 17 => 148 | 18 => 149 | 22 => 150 | 23 => 151 | 24 => 152 | _ => 153) else if o = 60 then 76 + k else if o = 61 then 141 + k else if o = 62 then 155 + k else cs_va (o - 10) + (if k < 5 then k + 1 else if k < 11 then k - 3 else 9)
/-- an object's place -/
def cs_ob (j : Nat) : Option Nat := match cs_vi j with
  | some (i, s) => if s = 0 then some (10 + i) else if s = 8 then some (110 + i) else none
  | none => if j = 0 then some 0 else if j = 1 then some 1 else if j = 2 then some 2 else if j = 9 then some 3 else if j = 72 then some 200 else if j = 73 then some 201 else none
def cs_oz (o : Nat) : Nat := if o = 0 then 0 else if o = 1 then 1 else if o = 2 then 2 else if o = 3 then 9 else if o = 200 then 72 else if o = 201 then 73 else if o < 100 then cs_va (o - 10) else cs_va (o - 110) + 8
def cs_cl (o : Nat) : Nat := if o < 4 then o else if o < 55 then 5 else if o < 155 then 6 else if o = 200 then 8 else 9
def cs_nf (o : Nat) : Nat := if o = 0 then 27 else if o = 3 then 7 else if o < 4 then 8 else if o < 55 then 12 else if o < 155 then 2 else 0
def cs_sc (o k : Nat) : Bool := if o = 0 then decide (k = 4 ∨ k = 5 ∨ k = 6 ∨ k = 19 ∨ k = 20 ∨ k = 21) else if o = 1 then decide (k = 5 ∨ k = 6 ∨ k = 7) else if o = 2 then decide (k = 2 ∨ k = 7) else if o = 3 then decide (3 ≤ k) else if o < 55 then decide (5 ≤ k ∧ k ≤ 8) else decide (k = 1)
/-- what else an object's fields hold -/
def cs_c0 : Nat → Nat
  | 0 => 1 | 1 => 2 | 2 => 9 | 7 => 20 | 8 => 30 | 9 => 40 | 10 => 41 | 11 => 72 | 12 => 73 | 13 => 74 | 14 => 75 | 15 => 140 | 16 => 147 | 17 => 148 | 18 => 149 | 22 => 150 | 23 => 151 | 24 => 152 | 25 => 153 | _ => 154
def cs_cv (W : cs_W) (c : Nat) (o k : Nat) : Value :=
  if o = 0 then (if k = 3 then .ref (zt_ad W.2.1 0) else .ref (c + cs_c0 k))
  else if o = 1 then (if k = 3 then .ref (W.1 22) else .null)
  else if o = 2 then .ref (c + (if k < 2 then k + 3 else k + 2))
  else if o = 3 then (if k = 0 then .ref (c + 2) else if k = 1 then .ref (c + 1) else W.2.2)
  else if o < 55 then .ref (c + (cs_va (o - 10) + (if k < 5 then k + 1 else k - 3)))
  else .ref (c + (cs_va (o - 110) + 9))
/-- the arrays of references -/
def cs_ra (W : cs_W) (c j : Nat) : zs_HC :=
  if j = 3 then (72, 22, fun i => .ref (W.1 i)) else if j = 40 then (71, 40, fun i => .ref (c + cs_va (2 + i))) else if j = 41 then (71, 3, fun i => .ref (c + cs_va (42 + i)))
  else if j = 75 then (74, 64, fun i => .ref (c + (76 + i))) else if j = 140 then (74, 6, fun i => .ref (c + (141 + i))) else (74, 6, fun i => .ref (c + (155 + i)))
def cs_cell (W : cs_W) (c : Nat) (S : cs_S) (j : Nat) : zs_HC := match cs_key j with
  | some q => (cs_tg q.1 q.2, cs_ln q.1 q.2, fun i => .int (S.2 q.1 q.2 i))
  | none => match cs_ob j with
    | some o => (cs_cl o, cs_nf o, fun k => if cs_sc o k = true then .int (S.1 o k) else cs_cv W c o k)
    | none => cs_ra W c j
def cs_in (j : Nat) : Prop := j < 561 ∧ ¬ (10 ≤ j ∧ j < 20)
def cs_dom (c a : Nat) : Prop := c ≤ a ∧ a < c + 561 ∧ ¬ (c + 10 ≤ a ∧ a < c + 20)
def cs_h (W : cs_W) (h0 : zs_AH) (c : Nat) (S : cs_S) : zs_AH := (h0.1, h0.2.1, fun a => if c ≤ a ∧ a < c + 561 ∧ ¬ (c + 10 ≤ a ∧ a < c + 20) then some (cs_cell W c S (a - c)) else h0.2.2 a)
def cs_rs (P : Nat → Bool) (h : zs_AH) : Nat → Option zs_HC := fun a => if P a then none else h.2.2 a
def cs_R (W : cs_W) (P : Nat → Bool) (h0 : zs_AH) (c : Nat) : cs_S → zs_AH → Prop := fun S h => h0.1 ≤ c ∧ (∀ a, cs_dom c a → P a = true) ∧ h = cs_h W h0 c S ∧ zt_at (cs_rs P h0) W.2.1
def cs_bd : cs_S → Nat × Nat := fun _ => (0, 0)
def cs_sF (S : cs_S) (o k : Nat) (x : Int32) : cs_S := (fun p q => if p = o ∧ q = k then x else S.1 p q, S.2)
def cs_sA (S : cs_S) (o k : Nat) (i x : Int32) : cs_S := (S.1, fun p q => if p = o ∧ q = k then upd (S.2 o k) i.toNatClampNeg x else S.2 p q)
theorem cs_at {W : cs_W} {h0 : zs_AH} {c : Nat} {S : cs_S} (j : Nat) (hj : cs_in j) : (cs_h W h0 c S).2.2 (c + j) = some (cs_cell W c S j) := by
  show (if c ≤ c + j ∧ c + j < c + 561 ∧ ¬ (c + 10 ≤ c + j ∧ c + j < c + 20) then some (cs_cell W c S (c + j - c)) else h0.2.2 (c + j)) = _
  obtain ⟨h1, h2⟩ := hj
  rw [if_pos ⟨by omega, by omega, by omega⟩, Nat.add_sub_cancel_left]
theorem cs_up {W : cs_W} {h0 : zs_AH} {c : Nat} {S S1 : cs_S} (j : Nat) (hj : cs_in j) (x : zs_HC) (hx : x = cs_cell W c S1 j) (ho : ∀ i, i < 561 → i ≠ j → cs_cell W c S i = cs_cell W c S1 i) : zs_up (cs_h W h0 c S) (c + j) x = cs_h W h0 c S1 := by
  refine Prod.ext rfl (Prod.ext rfl (funext fun q => ?_))
  show (if q = c + j then some x else if c ≤ q ∧ q < c + 561 ∧ ¬ (c + 10 ≤ q ∧ q < c + 20) then some (cs_cell W c S (q - c)) else h0.2.2 q) = if c ≤ q ∧ q < c + 561 ∧ ¬ (c + 10 ≤ q ∧ q < c + 20) then some (cs_cell W c S1 (q - c)) else h0.2.2 q
  obtain ⟨g1, g2⟩ := hj
  by_cases h1 : q = c + j
  · subst h1
    rw [if_pos rfl, if_pos ⟨by omega, by omega, by omega⟩, Nat.add_sub_cancel_left, hx]
  · rw [if_neg h1]
    by_cases h2 : c ≤ q ∧ q < c + 561 ∧ ¬ (c + 10 ≤ q ∧ q < c + 20)
    · rw [if_pos h2, if_pos h2, ho (q - c) (by omega) (by omega)]
    · rw [if_neg h2, if_neg h2]
theorem cs_ktab : ∀ j, j < 561 → (cs_key j).all (fun q => decide (cs_az q.1 q.2 = j)) = true := by decide +kernel
theorem cs_otab : ∀ j, j < 561 → (cs_ob j).all (fun o => decide (cs_oz o = j)) = true := by decide +kernel
theorem cs_kinv {j o k : Nat} (hj : j < 561) (h : cs_key j = some (o, k)) : cs_az o k = j := by
  have := cs_ktab j hj
  rw [h] at this
  exact of_decide_eq_true this
theorem cs_oinv {j o : Nat} (hj : j < 561) (h : cs_ob j = some o) : cs_oz o = j := by
  have := cs_otab j hj
  rw [h] at this
  exact of_decide_eq_true this
theorem cs_cell_sA {W : cs_W} {c : Nat} {S : cs_S} {o k i j : Nat} {z x : Int32} (hi : i < 561) (hj : j < 561) (h : cs_key j = some (o, k)) (hne : i ≠ j) : cs_cell W c S i = cs_cell W c (cs_sA S o k z x) i := by
  unfold cs_cell
  cases hk : cs_key i with
  | some q =>
    have hq : ¬ (q.1 = o ∧ q.2 = k) := by
      rintro ⟨rfl, rfl⟩
      exact hne ((cs_kinv hi hk).symm.trans (cs_kinv hj h))
    show (_, _, _) = (_, _, _)
    refine Prod.ext rfl (Prod.ext rfl (funext fun p => ?_))
    show Value.int (S.2 q.1 q.2 p) = Value.int ((if q.1 = o ∧ q.2 = k then upd (S.2 o k) z.toNatClampNeg x else S.2 q.1 q.2) p)
    rw [if_neg hq]
  | none =>
    cases cs_ob i with
    | some o => rfl
    | none => rfl
theorem cs_cell_sF {W : cs_W} {c : Nat} {S : cs_S} {o k i j : Nat} {x : Int32} (hi : i < 561) (hj : j < 561) (h : cs_ob j = some o) (hne : i ≠ j) : cs_cell W c S i = cs_cell W c (cs_sF S o k x) i := by
  unfold cs_cell
  cases hk : cs_key i with
  | some q => rfl
  | none =>
    cases ho : cs_ob i with
    | none => rfl
    | some o2 =>
      have hq : o2 ≠ o := by
        rintro rfl
        exact hne ((cs_oinv hi ho).symm.trans (cs_oinv hj h))
      show (_, _, _) = (_, _, _)
      refine Prod.ext rfl (Prod.ext rfl (funext fun p => ?_))
      show (if cs_sc o2 p = true then Value.int (S.1 o2 p) else cs_cv W c o2 p) = if cs_sc o2 p = true then Value.int (if o2 = o ∧ p = k then x else S.1 o2 p) else cs_cv W c o2 p
      rw [if_neg (fun z : o2 = o ∧ p = k => hq z.1)]
/-- no place is both -/
theorem cs_obkey : ∀ j, j < 561 → (cs_ob j).isSome = true → cs_key j = none := by decide +kernel
/-- what is asked of an array's place, of an object's -/
def cs_pa (j o k t n : Nat) : Prop := cs_in j ∧ cs_key j = some (o, k) ∧ cs_tg o k = t ∧ cs_ln o k = n
def cs_po (j o : Nat) : Prop := cs_in j ∧ cs_ob j = some o
theorem cs_cellA {W : cs_W} {P : Nat → Bool} {h0 h : zs_AH} {c : Nat} {S : cs_S} {j o k t n : Nat} (p : cs_pa j o k t n) (hR : cs_R W P h0 c S h) : h.2.2 (c + j) = some (t, n, fun i => .int (S.2 o k i)) := by
  obtain ⟨p1, p2, p3, p4⟩ := p
  rw [hR.2.2.1, cs_at j p1]
  unfold cs_cell
  rw [p2]
  show some (cs_tg o k, cs_ln o k, _) = _
  rw [p3, p4]
theorem cs_cellO {W : cs_W} {P : Nat → Bool} {h0 h : zs_AH} {c : Nat} {S : cs_S} {j o : Nat} (p : cs_po j o) (hR : cs_R W P h0 c S h) : h.2.2 (c + j) = some (cs_cl o, cs_nf o, fun k => if cs_sc o k = true then .int (S.1 o k) else cs_cv W c o k) := by
  obtain ⟨p1, p2⟩ := p
  rw [hR.2.2.1, cs_at j p1]
  unfold cs_cell
  rw [cs_obkey j p1.1 (by rw [p2]; rfl), p2]
theorem cs_stA {W : cs_W} {P : Nat → Bool} {h0 h : zs_AH} {c : Nat} {S : cs_S} {j o k t n : Nat} {i x : Int32} (p : cs_pa j o k t n) (hR : cs_R W P h0 c S h) : h.2.2 (c + j) = some (t, n, fun q => .int (S.2 o k q)) ∧ h.1 ≤ c + j ∧ cs_R W P h0 c (cs_sA S o k i x) (zs_up h (c + j) (t, n, fun q => .int (upd (S.2 o k) i.toNatClampNeg x q))) := by
  have e := cs_cellA p hR
  obtain ⟨p1, p2, p3, p4⟩ := p
  obtain ⟨r1, r2, r3, r4⟩ := hR
  refine ⟨e, by rw [r3]; exact Nat.le_trans r1 (Nat.le_add_right _ _), r1, r2, ?_, r4⟩
  rw [r3]
  refine cs_up j p1 _ ?_ (fun i hi hne => cs_cell_sA hi p1.1 p2 hne)
  unfold cs_cell
  rw [p2]
  show _ = (cs_tg o k, cs_ln o k, _)
  rw [p3, p4]
  refine Prod.ext rfl (Prod.ext rfl (funext fun q => ?_))
  show _ = Value.int ((if o = o ∧ k = k then upd (S.2 o k) i.toNatClampNeg x else S.2 o k) q)
  rw [if_pos ⟨rfl, rfl⟩]
theorem cs_stF {W : cs_W} {P : Nat → Bool} {h0 h : zs_AH} {c : Nat} {S : cs_S} {j o k : Nat} {x : Int32} (p : cs_po j o) (hsc : cs_sc o k = true) (hR : cs_R W P h0 c S h) : h.2.2 (c + j) = some (cs_cl o, cs_nf o, fun k => if cs_sc o k = true then .int (S.1 o k) else cs_cv W c o k) ∧ h.1 ≤ c + j ∧ cs_R W P h0 c (cs_sF S o k x) (zs_up h (c + j) (cs_cl o, cs_nf o, updV (fun k => if cs_sc o k = true then .int (S.1 o k) else cs_cv W c o k) k (.int x))) := by
  have e := cs_cellO p hR
  obtain ⟨p1, p2⟩ := p
  obtain ⟨r1, r2, r3, r4⟩ := hR
  refine ⟨e, by rw [r3]; exact Nat.le_trans r1 (Nat.le_add_right _ _), r1, r2, ?_, r4⟩
  rw [r3]
  refine cs_up j p1 _ ?_ (fun i hi hne => cs_cell_sF hi p1.1 p2 hne)
  unfold cs_cell
  rw [cs_obkey j p1.1 (by rw [p2]; rfl), p2]
  refine Prod.ext rfl (Prod.ext rfl (funext fun q => ?_))
  by_cases hq : q = k
  · subst hq
    simp [updV, hsc, cs_sF]
  · simp [updV, hq, cs_sF]
theorem zc_X0 : zs_cls 0 RX0 TX0 27 tyX0 := ⟨by decide, rfl, in_X0, tyX0_ok, nmX0⟩
theorem zc_X1 : zs_cls 1 RX1 TX1 8 tyX1 := ⟨by decide, rfl, in_X1, tyX1_ok, nmX1⟩
theorem zc_X2 : zs_cls 2 RX2 TX2 8 tyX2 := ⟨by decide, rfl, in_X2, tyX2_ok, nmX2⟩
theorem zc_X3 : zs_cls 3 RX3 TX3 7 tyX3 := ⟨by decide, rfl, in_X3, tyX3_ok, nmX3⟩
theorem zc_X4 : zs_cls 4 RX4 TX4 8 tyX4 := ⟨by decide, rfl, in_X4, tyX4_ok, nmX4⟩
theorem zc_X5 : zs_cls 5 RX5 TX5 12 tyX5 := ⟨by decide, rfl, in_X5, tyX5_ok, nmX5⟩
theorem zc_X6 : zs_cls 6 RX6 TX6 2 tyX6 := ⟨by decide, rfl, in_X6, tyX6_ok, nmX6⟩
theorem zc_X8 : zs_cls 8 RX8 TX6 0 tyX6 := ⟨by decide, rfl, fun w h => by simp [u_ws] at h, fun k h => absurd h (Nat.not_lt_zero k), fun a h => absurd h (Nat.not_lt_zero a)⟩
theorem zc_X9 : zs_cls 9 RX9 TX6 0 tyX6 := ⟨by decide, rfl, fun w h => by simp [u_ws] at h, fun k h => absurd h (Nat.not_lt_zero k), fun a h => absurd h (Nat.not_lt_zero a)⟩
theorem zc_X11 : zs_cls 11 RX11 TX11 4 tyX11 := ⟨by decide, rfl, in_X11, tyX11_ok, nmX11⟩
theorem zc_X13 : zs_cls 13 RX13 TX13 1 tyX13 := ⟨by decide, rfl, in_X13, tyX13_ok, nmX13⟩
theorem zc_X14 : zs_cls 14 RX14 TX14 1 tyX14 := ⟨by decide, rfl, in_X14, tyX14_ok, nmX14⟩
theorem zc_X15 : zs_cls 15 RX15 TX15 3 tyX15 := ⟨by decide, rfl, in_X15, tyX15_ok, nmX15⟩
theorem zc_X16 : zs_cls 16 RX16 TX16 3 tyX16 := ⟨by decide, rfl, in_X16, tyX16_ok, nmX16⟩
theorem zc_J5 : zs_cls 17 RJ5 TJ5 3 tyJ5 := ⟨by decide, rfl, in_J5, tyJ5_ok, nmJ5⟩
theorem zc_J8 : zs_cls 18 RJ8 TJ8 4 tyJ8 := ⟨by decide, rfl, in_J8, tyJ8_ok, nmJ8⟩
theorem zc_J12 : zs_cls 19 RJ12 TJ12 4 tyJ12 := ⟨by decide, rfl, in_J12, tyJ12_ok, nmJ12⟩
section CS
variable {α β : Type} {D : zs_D} {W : cs_W} {P : Nat → Bool} {h0 : zs_AH} {c : Nat} {Fn : zs_Q cs_S α} {own : String} {cc : ByteArray} {nL : Nat} {rt : Option FieldType} {nm : String} {d : Nat} {M : cs_S} {pc : Nat} {lv : List (Nat × Value)} {st : List Value} {o : Option β} {K : β → Option (α × cs_S)}
/-- a number of an object -/
theorem cs_geti (j ob k : Nat) {i ci N : Nat} {C : String} {T : u_T} {ty : Nat → FieldType} (p : cs_po j ob) (hc : zs_cls ci C T N ty) (hcl : cs_cl ob = ci ∧ cs_nf ob = N) (hk : k < N) (hs : cs_sc ob k = true) (hq : Cond.fieldLink own i (T k).1 (T k).2.1 (T k).2.2.1 ∈ lw_all) (hd : decode cc pc = .ok (.getfield i, 3)) (kk : zs_Sim D (cs_R W P h0 c) cs_bd Fn own cc nL rt nm d M (pc + 3) lv (.int (M.1 ob k) :: st) o K) : zs_Sim D (cs_R W P h0 c) cs_bd Fn own cc nL rt nm d M pc lv (.ref (c + j) :: st) o K := by
  obtain ⟨rfl, rfl⟩ := hcl
  exact zs_getf k hc hk hq (fun h hR => ⟨_, cs_cellO p hR, if_pos hs⟩) hd kk
/-- what else an object's field holds -/
theorem cs_getr (j ob k : Nat) {i ci N : Nat} {C : String} {T : u_T} {ty : Nat → FieldType} {v : Value} (p : cs_po j ob) (hc : zs_cls ci C T N ty) (hcl : cs_cl ob = ci ∧ cs_nf ob = N) (hk : k < N) (hs : cs_sc ob k = false) (hv : cs_cv W c ob k = v) (hq : Cond.fieldLink own i (T k).1 (T k).2.1 (T k).2.2.1 ∈ lw_all) (hd : decode cc pc = .ok (.getfield i, 3)) (kk : zs_Sim D (cs_R W P h0 c) cs_bd Fn own cc nL rt nm d M (pc + 3) lv (v :: st) o K) : zs_Sim D (cs_R W P h0 c) cs_bd Fn own cc nL rt nm d M pc lv (.ref (c + j) :: st) o K := by
  obtain ⟨rfl, rfl⟩ := hcl
  exact zs_getf k hc hk hq (fun h hR => ⟨_, cs_cellO p hR, by rw [if_neg (by rw [hs]; decide)]; exact hv⟩) hd kk
theorem cs_puti (j ob k : Nat) {i ci N : Nat} {C : String} {T : u_T} {ty : Nat → FieldType} {x : Int32} {f : cs_S → Option β} (p : cs_po j ob) (hc : zs_cls ci C T N ty) (hcl : cs_cl ob = ci ∧ cs_nf ob = N) (hk : k < N) (hs : cs_sc ob k = true) (hq : Cond.fieldLink own i (T k).1 (T k).2.1 (T k).2.2.1 ∈ lw_all) (hfin : (T k).2.2.2 = false) (hn : narrow (ty k) (.int x) = .int x) (hfit : fits (ty k) (.int x) = true) (hd : decode cc pc = .ok (.putfield i, 3)) (kk : ∀ M1, zs_Sim D (cs_R W P h0 c) cs_bd Fn own cc nL rt nm d M1 (pc + 3) lv st (f M1) K) : zs_Sim D (cs_R W P h0 c) cs_bd Fn own cc nL rt nm d M pc lv (.int x :: .ref (c + j) :: st) ((some (cs_sF M ob k x)).bind f) K := by
  obtain ⟨rfl, rfl⟩ := hcl
  refine zs_putf (M1 := cs_sF M ob k x) k hc hk hq hfin hn hfit rfl (fun h hR => cs_stF p hs hR) hd ?_
  exact zs_nmM kk
theorem cs_iald (j ob k : Nat) {n : Nat} {i : Int32} {f : Int32 → Option β} (p : cs_pa j ob k 64 n) (hd : decode cc pc = .ok (.iaload, 1)) (kk : ∀ x, zs_Sim D (cs_R W P h0 c) cs_bd Fn own cc nL rt nm d M (pc + 1) lv (.int x :: st) (f x) K) : zs_Sim D (cs_R W P h0 c) cs_bd Fn own cc nL rt nm d M pc lv (.int i :: .ref (c + j) :: st) ((zs_ald n (M.2 ob k) i).bind f) K := zs_iald (fun _ hR => cs_cellA p hR) hd kk
theorem cs_bald (j ob k : Nat) {n : Nat} {i : Int32} {f : Int32 → Option β} (p : cs_pa j ob k 65 n) (hd : decode cc pc = .ok (.baload, 1)) (kk : ∀ x, zs_Sim D (cs_R W P h0 c) cs_bd Fn own cc nL rt nm d M (pc + 1) lv (.int x :: st) (f x) K) : zs_Sim D (cs_R W P h0 c) cs_bd Fn own cc nL rt nm d M pc lv (.int i :: .ref (c + j) :: st) ((zs_ald n (M.2 ob k) i).bind f) K := zs_bald (fun _ hR => cs_cellA p hR) hd kk
theorem cs_sald (j ob k : Nat) {n : Nat} {i : Int32} {f : Int32 → Option β} (p : cs_pa j ob k 66 n) (hd : decode cc pc = .ok (.saload, 1)) (kk : ∀ x, zs_Sim D (cs_R W P h0 c) cs_bd Fn own cc nL rt nm d M (pc + 1) lv (.int x :: st) (f x) K) : zs_Sim D (cs_R W P h0 c) cs_bd Fn own cc nL rt nm d M pc lv (.int i :: .ref (c + j) :: st) ((zs_ald n (M.2 ob k) i).bind f) K := zs_sald (fun _ hR => cs_cellA p hR) hd kk
theorem cs_zald (j ob k : Nat) {n : Nat} {i : Int32} {f : Int32 → Option β} (p : cs_pa j ob k 67 n) (hd : decode cc pc = .ok (.baload, 1)) (kk : ∀ x, zs_Sim D (cs_R W P h0 c) cs_bd Fn own cc nL rt nm d M (pc + 1) lv (.int x :: st) (f x) K) : zs_Sim D (cs_R W P h0 c) cs_bd Fn own cc nL rt nm d M pc lv (.int i :: .ref (c + j) :: st) ((zs_ald n (M.2 ob k) i).bind f) K := zs_zald (fun _ hR => cs_cellA p hR) hd kk
theorem cs_iast (j ob k : Nat) {n : Nat} {i x : Int32} {f : cs_S → Option β} (p : cs_pa j ob k 64 n) (hd : decode cc pc = .ok (.iastore, 1)) (kk : ∀ M1, zs_Sim D (cs_R W P h0 c) cs_bd Fn own cc nL rt nm d M1 (pc + 1) lv st (f M1) K) : zs_Sim D (cs_R W P h0 c) cs_bd Fn own cc nL rt nm d M pc lv (.int x :: .int i :: .ref (c + j) :: st) ((zs_ast n i (cs_sA M ob k i x)).bind f) K := zs_iast (F := M.2 ob k) rfl (fun _ hR => cs_stA p hR) hd (kk _)
theorem cs_bast (j ob k : Nat) {n : Nat} {i x : Int32} {f : cs_S → Option β} (p : cs_pa j ob k 65 n) (hd : decode cc pc = .ok (.bastore, 1)) (kk : ∀ M1, zs_Sim D (cs_R W P h0 c) cs_bd Fn own cc nL rt nm d M1 (pc + 1) lv st (f M1) K) : zs_Sim D (cs_R W P h0 c) cs_bd Fn own cc nL rt nm d M pc lv (.int x :: .int i :: .ref (c + j) :: st) ((zs_ast n i (cs_sA M ob k i (vp_nar .byte x))).bind f) K := zs_bast (F := M.2 ob k) rfl (fun _ hR => cs_stA p hR) hd (kk _)
theorem cs_sast (j ob k : Nat) {n : Nat} {i x : Int32} {f : cs_S → Option β} (p : cs_pa j ob k 66 n) (hd : decode cc pc = .ok (.sastore, 1)) (kk : ∀ M1, zs_Sim D (cs_R W P h0 c) cs_bd Fn own cc nL rt nm d M1 (pc + 1) lv st (f M1) K) : zs_Sim D (cs_R W P h0 c) cs_bd Fn own cc nL rt nm d M pc lv (.int x :: .int i :: .ref (c + j) :: st) ((zs_ast n i (cs_sA M ob k i (vp_nar .short x))).bind f) K := zs_sast (F := M.2 ob k) rfl (fun _ hR => cs_stA p hR) hd (kk _)
theorem cs_zast (j ob k : Nat) {n : Nat} {i x : Int32} {f : cs_S → Option β} (p : cs_pa j ob k 67 n) (hd : decode cc pc = .ok (.bastore, 1)) (kk : ∀ M1, zs_Sim D (cs_R W P h0 c) cs_bd Fn own cc nL rt nm d M1 (pc + 1) lv st (f M1) K) : zs_Sim D (cs_R W P h0 c) cs_bd Fn own cc nL rt nm d M pc lv (.int x :: .int i :: .ref (c + j) :: st) ((zs_ast n i (cs_sA M ob k i (vp_nar .boolean x))).bind f) K := zs_zast (F := M.2 ob k) rfl (fun _ hR => cs_stA p hR) hd (kk _)
end CS
theorem cs_vtab : ∀ i, i < 45 → cs_vi (cs_va i) = some (i, 0) ∧ cs_va i + 9 < 561 ∧ 20 ≤ cs_va i ∧ ∀ s, s < 10 → cs_vi (cs_va i + s) = some (i, s) := by decide +kernel
/-- the village i, its arrays, its Asked and that one's array -/
theorem cs_pv {i : Nat} (hi : i < 45) : cs_po (cs_va i) (10 + i) := by
  obtain ⟨h1, h2, h3, h4⟩ := cs_vtab i hi
  refine ⟨⟨by omega, by omega⟩, ?_⟩
  unfold cs_ob
  rw [h1]
  rfl
theorem cs_pq {i : Nat} (hi : i < 45) : cs_po (cs_va i + 8) (110 + i) := by
  obtain ⟨h1, h2, h3, h4⟩ := cs_vtab i hi
  refine ⟨⟨by omega, by omega⟩, ?_⟩
  unfold cs_ob
  rw [h4 8 (by decide)]
  rfl
theorem cs_pva {i : Nat} (hi : i < 45) (s : Nat) (hs : 0 < s ∧ s < 10 ∧ s ≠ 8) (n : Nat) (hn : n = if s = 9 then 9 else 6) : cs_pa (cs_va i + s) (10 + i) (cs_vf s) 64 n := by
  obtain ⟨h1, h2, h3, h4⟩ := cs_vtab i hi
  refine ⟨⟨by omega, by omega⟩, ?_, ?_, ?_⟩
  · unfold cs_key
    rw [h4 s hs.2.1]
    show (if s = 0 ∨ s = 8 then none else some (10 + i, cs_vf s)) = _
    rw [if_neg (by omega)]
  · unfold cs_tg
    rw [if_neg (by omega), if_neg (by omega)]
  · rw [hn]
    unfold cs_ln cs_vf
    rw [if_neg (by omega), if_neg (by omega)]
    by_cases h9 : s = 9
    · subst h9
      rw [if_pos ⟨by omega, by omega, by decide⟩, if_pos rfl]
    · rw [if_neg h9, if_neg]
      rintro ⟨-, -, z⟩
      by_cases h6 : s < 6
      · rw [if_pos h6] at z; omega
      · rw [if_neg h6, if_pos (by omega)] at z; omega
