set_option maxRecDepth 100000
/-! a new text, by the component -/
theorem pk_mn {M : ps_S} {n k : Nat} (h : 1 + n ≤ M.2.2.2.1 ∧ n + n * k ≤ M.2.2.2.2) : ∃ M1, ps_mn M n k = some (M.2.1.2.1, M1) ∧ pk M M1 ∧ M1.2.1.2.1 = M.2.1.2.1 + 1 + n ∧ M1.2.1.2.2 M.2.1.2.1 = some (74, n, fun j => .ref (M.2.1.2.1 + 1 + j)) ∧ (∀ i, i < n → M1.2.1.2.2 (M.2.1.2.1 + 1 + i) = some (64, k, fun _ => .int 0)) ∧ M1.1 = M.1 ∧ M1.2.2.2.1 = M.2.2.2.1 - (1 + n) ∧ M1.2.2.2.2 = M.2.2.2.2 - (n + n * k) := by
  refine ⟨ps_mext M n k, if_pos h, ⟨rfl, by show _ ≤ M.2.1.2.1 + 1 + n; omega, fun a y ha e => ?_, rfl, fun _ _ _ _ => rfl, rfl⟩, rfl, if_pos rfl, fun i hi => ?_, rfl, rfl, rfl⟩
  · show (if a = M.2.1.2.1 then _ else if M.2.1.2.1 < a ∧ a < M.2.1.2.1 + 1 + n then _ else M.2.1.2.2 a) = _
    rw [if_neg (by omega), if_neg (by omega)]; exact e
  · show (if M.2.1.2.1 + 1 + i = M.2.1.2.1 then _ else if M.2.1.2.1 < M.2.1.2.1 + 1 + i ∧ M.2.1.2.1 + 1 + i < M.2.1.2.1 + 1 + n then _ else M.2.1.2.2 (M.2.1.2.1 + 1 + i)) = _
    rw [if_neg (by omega), if_pos (by omega)]
theorem pk_sT {A B : ps_S} {x : Nat} (h : pk A B) : pk (ps_sT A x) (ps_sT B x) := ⟨h.1, h.2.1, h.2.2.1, h.2.2.2.1, h.2.2.2.2.1, rfl⟩
def pz_Xl (f : Nat → Nat → Nat) : pz_X := ([], 0, f, pz_X0.2.2.2)
def pz_l5 (i j : Nat) : Nat → Nat → Nat := fun p q => if p < i ∨ (p = i ∧ q < j) then 5 else 0
theorem pz_l5_up (i j : Nat) : pz_up2 (pz_l5 i j) i j 5 = pz_l5 i (j + 1) := by
  funext p q
  unfold pz_up2 pz_l5
  by_cases c : p = i ∧ q = j
  · rw [if_pos c, if_pos (by omega)]
  · rw [if_neg c]
    by_cases d : p < i ∨ (p = i ∧ q < j)
    · rw [if_pos d, if_pos (by omega)]
    · rw [if_neg d, if_neg (by omega)]
theorem pk_TT_like {w : Nat → Nat} {s0 : Nat} {X : pz_X} {M : ps_S} {x l la lk : Nat} {F G LF KF : Nat → Value} (g : pk_TT w s0 X M x l la lk F G LF KF) (f : Nat → Nat → Nat) (h : ∀ i j, i < 6 → j < 6 → f i j = X.2.2.1 i j) : pk_TT w s0 (X.1, X.2.1, f, X.2.2.2) M x l la lk F G LF KF := by
  obtain ⟨g1, g2, g3, g4, g5, g6, g7, g8, g9⟩ := g
  refine ⟨g1, g2, g3, g4, g5, g6, g7, g8, fun i hi => ?_⟩
  obtain ⟨q1, R, q2, q3⟩ := g9 i hi
  exact ⟨q1, R, q2, fun j hj => by show R j = .int (pj (f i j : Nat)); rw [h i j hi hj]; exact q3 j hj⟩
theorem pk_newtext {w : Nat → Nat} {c : Nat} {M1 : ps_S} (hb : pk_b c M1) (hr : 10 ≤ M1.2.2.2.1 ∧ 57 ≤ M1.2.2.2.2) :
    ∃ Mz M3, ps_nw M1 (4, 8, fun k => defaultValue (tyX4 k)) 8 = some (M1.2.1.2.1, Mz) ∧ gp_X4_init w c Mz M1.2.1.2.1 = some M3 ∧ pk M1 M3 ∧ M3.1 = M1.1 ∧ M3.2.2.2.1 = M1.2.2.2.1 - 10 ∧ M3.2.2.2.2 = M1.2.2.2.2 - 57 ∧ pk_T w M1.2.1.2.1 pz_X0 (ps_sT M3 M1.2.1.2.1) := by
  have hc := hb.1
  obtain ⟨Mz, a1, a2, a3, a4, a5, a6, a7⟩ := pk_nw (M := M1) (4, 8, fun k => defaultValue (tyX4 k)) (sl := 8) (by omega)
  obtain ⟨Ma, b1, b2, b3, b4, b5, b6, b7⟩ := pk_nw (M := Mz) (17, 3, fun k => defaultValue (tyJ5 k)) (sl := 3) (by omega)
  have base : ∀ A : ps_S, pk M1 A → A.2.1.1 ≤ c := fun A hA => by rw [hA.1]; exact hb.2
  have kMa := pk_trans a2 b2
  have p1 := pk_pV (c := c) (k := 0) (.int 0) (by omega) (base _ kMa) b4
  generalize hG1 : updV (fun k => defaultValue (tyJ5 k)) 0 (.int 0) = G1 at p1
  have p2 := pk_pV (M := ps_up Ma Mz.2.1.2.1 (17, 3, G1)) (c := c) (k := 1) (.ref (w 100)) (by omega) (base Ma kMa) (if_pos rfl)
  generalize hG2 : updV G1 1 (.ref (w 100)) = G2 at p2
  have k2 : pk M1 (ps_up (ps_up Ma Mz.2.1.2.1 (17, 3, G1)) Mz.2.1.2.1 (17, 3, G2)) := pk_up _ (pk_up _ kMa (by omega)) (by omega)
  have x2 : (ps_up (ps_up Ma Mz.2.1.2.1 (17, 3, G1)) Mz.2.1.2.1 (17, 3, G2)).2.1.2.2 M1.2.1.2.1 = some (4, 8, fun k => defaultValue (tyX4 k)) := by
    rw [ps_upC, if_neg (by omega), ps_upC, if_neg (by omega)]; exact b2.2.2.1 _ _ (by omega) a4
  have l2 : (ps_up (ps_up Ma Mz.2.1.2.1 (17, 3, G1)) Mz.2.1.2.1 (17, 3, G2)).2.1.2.2 Mz.2.1.2.1 = some (17, 3, G2) := if_pos rfl
  have r2 : (ps_up (ps_up Ma Mz.2.1.2.1 (17, 3, G1)) Mz.2.1.2.1 (17, 3, G2)).2.2.2.1 = M1.2.2.2.1 - 2 ∧ (ps_up (ps_up Ma Mz.2.1.2.1 (17, 3, G1)) Mz.2.1.2.1 (17, 3, G2)).2.2.2.2 = M1.2.2.2.2 - 11 := ⟨by show Ma.2.2.2.1 = _; omega, by show Ma.2.2.2.2 = _; omega⟩
  have s2 : (ps_up (ps_up Ma Mz.2.1.2.1 (17, 3, G1)) Mz.2.1.2.1 (17, 3, G2)).2.1.2.1 = M1.2.1.2.1 + 2 := by show Ma.2.1.2.1 = _; omega
  have o2 : (ps_up (ps_up Ma Mz.2.1.2.1 (17, 3, G1)) Mz.2.1.2.1 (17, 3, G2)).1 = M1.1 := by show Ma.1 = _; rw [b5, a5]
  have hinit : gp_J5_init w c Ma Mz.2.1.2.1 = some (ps_up (ps_up Ma Mz.2.1.2.1 (17, 3, G1)) Mz.2.1.2.1 (17, 3, G2)) := by
    unfold gp_J5_init gp_J4_init gp_J3_init
    simp only [Option.bind_some, p1, p2]
  generalize ps_up (ps_up Ma Mz.2.1.2.1 (17, 3, G1)) Mz.2.1.2.1 (17, 3, G2) = M2 at k2 x2 l2 r2 s2 o2 hinit
  have p3 := pk_pV (c := c) (k := 0) (.ref Mz.2.1.2.1) hc (base _ k2) x2
  generalize hF1 : updV (fun k => defaultValue (tyX4 k)) 0 (.ref Mz.2.1.2.1) = F1 at p3
  have k3 : pk M1 (ps_up M2 M1.2.1.2.1 (4, 8, F1)) := pk_up _ k2 (Nat.le_refl _)
  obtain ⟨M4, d1, d2, d3, d4, d5, d6, d7⟩ := pk_na (M := ps_up M2 M1.2.1.2.1 (4, 8, F1)) 5 .null (z := 4) (by omega) (by show 1 ≤ M2.2.2.2.1 ∧ 4 ≤ M2.2.2.2.2; omega)
  have d1 : ps_na (ps_up M2 M1.2.1.2.1 (4, 8, F1)) 5 .null 4 = some (M2.2.1.2.1, M4) := d1
  have d3 : M4.2.1.2.1 = M2.2.1.2.1 + 1 := d3
  have d4 : M4.2.1.2.2 M2.2.1.2.1 = some (69, 4, fun _ => .null) := d4
  have d6 : M4.2.2.2.1 = M2.2.2.2.1 - 1 := d6
  have d7 : M4.2.2.2.2 = M2.2.2.2.2 - 4 := d7
  have k4 := pk_trans k3 d2
  have x4 := d2.2.2.1 M1.2.1.2.1 _ (by show _ < M2.2.1.2.1; omega) (if_pos rfl)
  have l4 := d2.2.2.1 Mz.2.1.2.1 _ (by show _ < M2.2.1.2.1; omega) (by rw [ps_upC, if_neg (by omega)]; exact l2)
  have o4 : M4.1 = M1.1 := by rw [d5]; show M2.1 = _; exact o2
  have p5 := pk_pV (c := c) (k := 1) (.ref M2.2.1.2.1) hc (base _ k4) x4
  generalize hF2 : updV F1 1 (.ref M2.2.1.2.1) = F2 at p5
  have k5 : pk M1 (ps_up M4 M1.2.1.2.1 (4, 8, F2)) := pk_up _ k4 (Nat.le_refl _)
  obtain ⟨M6, e1, e2, e3, e4, e5, e6, e7, e8⟩ := pk_mn (M := ps_up M4 M1.2.1.2.1 (4, 8, F2)) (n := 6) (k := 6) (by show 1 + 6 ≤ M4.2.2.2.1 ∧ 6 + 6 * 6 ≤ M4.2.2.2.2; omega)
  have e1 : ps_mn (ps_up M4 M1.2.1.2.1 (4, 8, F2)) 6 6 = some (M4.2.1.2.1, M6) := e1
  have e3 : M6.2.1.2.1 = M4.2.1.2.1 + 1 + 6 := e3
  have e4 : M6.2.1.2.2 M4.2.1.2.1 = some (74, 6, fun j => .ref (M4.2.1.2.1 + 1 + j)) := e4
  have e5 : ∀ i, i < 6 → M6.2.1.2.2 (M4.2.1.2.1 + 1 + i) = some (64, 6, fun _ => .int 0) := e5
  have e7 : M6.2.2.2.1 = M4.2.2.2.1 - (1 + 6) := e7
  have e8 : M6.2.2.2.2 = M4.2.2.2.2 - (6 + 6 * 6) := e8
  have k6 := pk_trans k5 e2
  have x6 := e2.2.2.1 M1.2.1.2.1 _ (by show _ < M4.2.1.2.1; omega) (if_pos rfl)
  have l6 := e2.2.2.1 Mz.2.1.2.1 _ (by show _ < M4.2.1.2.1; omega) (by rw [ps_upC, if_neg (by omega)]; exact l4)
  have la6 := e2.2.2.1 M2.2.1.2.1 _ (by show _ < M4.2.1.2.1; omega) (by rw [ps_upC, if_neg (by omega)]; exact d4)
  have o6 : M6.1 = M1.1 := by rw [e6]; show M4.1 = _; exact o4
  have p7 := pk_pV (c := c) (k := 2) (.ref M4.2.1.2.1) hc (base _ k6) x6
  generalize hF3 : updV F2 2 (.ref M4.2.1.2.1) = F3 at p7
  have p8 := pk_pV (M := ps_up M6 M1.2.1.2.1 (4, 8, F3)) (c := c) (k := 4) (.int 20) hc (base M6 k6) (if_pos rfl)
  generalize hF4 : updV F3 4 (.int 20) = F4 at p8
  have p9 := pk_pV (M := ps_up (ps_up M6 M1.2.1.2.1 (4, 8, F3)) M1.2.1.2.1 (4, 8, F4)) (c := c) (k := 5) (.int 10) hc (base M6 k6) (if_pos rfl)
  generalize hF5 : updV F4 5 (.int 10) = F5 at p9
  have k9 : pk M1 (ps_up (ps_up (ps_up M6 M1.2.1.2.1 (4, 8, F3)) M1.2.1.2.1 (4, 8, F4)) M1.2.1.2.1 (4, 8, F5)) := pk_up _ (pk_up _ (pk_up _ k6 (Nat.le_refl _)) (Nat.le_refl _)) (Nat.le_refl _)
  have o9 : (ps_up (ps_up (ps_up M6 M1.2.1.2.1 (4, 8, F3)) M1.2.1.2.1 (4, 8, F4)) M1.2.1.2.1 (4, 8, F5)).1 = M1.1 := o6
  have r9 : (ps_up (ps_up (ps_up M6 M1.2.1.2.1 (4, 8, F3)) M1.2.1.2.1 (4, 8, F4)) M1.2.1.2.1 (4, 8, F5)).2.2.2 = (M1.2.2.2.1 - 10, M1.2.2.2.2 - 57) := by
    refine Prod.ext ?_ ?_
    · show M6.2.2.2.1 = M1.2.2.2.1 - 10; omega
    · show M6.2.2.2.2 = M1.2.2.2.2 - 57; omega
  have c9 : ∀ q, q ≠ M1.2.1.2.1 → (ps_up (ps_up (ps_up M6 M1.2.1.2.1 (4, 8, F3)) M1.2.1.2.1 (4, 8, F4)) M1.2.1.2.1 (4, 8, F5)).2.1.2.2 q = M6.2.1.2.2 q := fun q hq => by rw [ps_upC, if_neg hq, ps_upC, if_neg hq, ps_upC, if_neg hq]
  have x9 : (ps_up (ps_up (ps_up M6 M1.2.1.2.1 (4, 8, F3)) M1.2.1.2.1 (4, 8, F4)) M1.2.1.2.1 (4, 8, F5)).2.1.2.2 M1.2.1.2.1 = some (4, 8, F5) := if_pos rfl
  have s9 : (ps_up (ps_up (ps_up M6 M1.2.1.2.1 (4, 8, F3)) M1.2.1.2.1 (4, 8, F4)) M1.2.1.2.1 (4, 8, F5)).2.1.2.1 = M6.2.1.2.1 := rfl
  have hpre : ∀ R : Option ps_S, (zs_loop 5000 (g_X4_init_L49 c M1.2.1.2.1) (0, ps_up (ps_up (ps_up M6 M1.2.1.2.1 (4, 8, F3)) M1.2.1.2.1 (4, 8, F4)) M1.2.1.2.1 (4, 8, F5))) = R → gp_X4_init w c Mz M1.2.1.2.1 = R := by
    intro R hR
    have e0 : ∀ x : Option ps_S, (x.bind fun z => some z) = x := fun x => by cases x <;> rfl
    unfold gp_X4_init
    simp only [b1, Option.bind_some, hinit, p3, d1, p5, e1, p7, p8, p9, e0]
    exact hR
  generalize ps_up (ps_up (ps_up M6 M1.2.1.2.1 (4, 8, F3)) M1.2.1.2.1 (4, 8, F4)) M1.2.1.2.1 (4, 8, F5) = M9 at k9 o9 r9 c9 x9 s9 hpre
  have ef : ∀ k, F5 k = if k = 5 then .int 10 else if k = 4 then .int 20 else if k = 2 then .ref M4.2.1.2.1 else if k = 1 then .ref M2.2.1.2.1 else if k = 0 then .ref Mz.2.1.2.1 else defaultValue (tyX4 k) := fun k => by
    rw [← hF5, ← hF4, ← hF3, ← hF2, ← hF1]; rfl
  have hT9 : pk_TT w M1.2.1.2.1 (pz_Xl (pz_l5 0 0)) (ps_sT M9 M1.2.1.2.1) M1.2.1.2.1 Mz.2.1.2.1 M2.2.1.2.1 M4.2.1.2.1 F5 G2 (fun _ => .null) (fun j => .ref (M4.2.1.2.1 + 1 + j)) := by
    refine ⟨rfl, ⟨⟨Nat.le_refl _, by show _ < M9.2.1.2.1; omega⟩, x9⟩, ⟨⟨by omega, by show _ < M9.2.1.2.1; omega⟩, (c9 _ (by omega)).trans l6⟩, ⟨⟨by omega, by show _ < M9.2.1.2.1; omega⟩, (c9 _ (by omega)).trans la6⟩, ⟨⟨by omega, by show _ < M9.2.1.2.1; omega⟩, (c9 _ (by omega)).trans e4⟩, ⟨?_, ?_, ?_, ?_, fun k h1 h2 => ?_⟩, ⟨Nat.zero_le _, ?_, ?_, Or.inl ⟨rfl, ?_⟩⟩, fun k hk => ⟨fun _ => rfl, fun L hL => (by cases hL)⟩, fun i hi => ⟨rfl, fun _ => .int 0, ⟨⟨by omega, by show _ < M9.2.1.2.1; omega⟩, (c9 _ (by omega)).trans (e5 i hi)⟩, fun j hj => ?_⟩⟩
    · rw [ef]; rfl
    · rw [ef]; rfl
    · rw [ef]; rfl
    · rw [ef]; rfl
    · rw [ef]
      have : k = 4 ∨ k = 5 ∨ k = 6 ∨ k = 7 := by omega
      rcases this with rfl | rfl | rfl | rfl <;> rfl
    · exact ⟨0, by rw [← hG2, updV_n (by decide), ← hG1, updV_s]⟩
    · rw [← hG2, updV_n (by decide), ← hG1, updV_n (by decide)]; rfl
    · rw [← hG2, updV_s]
    · show Value.int 0 = .int (pj ((pz_l5 0 0 i j : Nat) : Int))
      unfold pz_l5
      rw [if_neg (by omega)]; rfl
  -- the rows
  have inner : ∀ (i : Nat) (t : Int32 × ps_S) (M : ps_S), i < 6 → t = (pj (i : Nat), M) → pk M1 M ∧ M.1 = M1.1 ∧ M.2.2.2 = (M1.2.2.2.1 - 10, M1.2.2.2.2 - 57) ∧ pk_TT w M1.2.1.2.1 (pz_Xl (pz_l5 i 0)) (ps_sT M M1.2.1.2.1) M1.2.1.2.1 Mz.2.1.2.1 M2.2.1.2.1 M4.2.1.2.1 F5 G2 (fun _ => .null) (fun j => .ref (M4.2.1.2.1 + 1 + j)) →
      pw (zs_loop 5000 (g_X4_init_L57 c M1.2.1.2.1 t) (0, M)) (fun M' => pk M1 M' ∧ M'.1 = M1.1 ∧ M'.2.2.2 = (M1.2.2.2.1 - 10, M1.2.2.2.2 - 57) ∧ pk_TT w M1.2.1.2.1 (pz_Xl (pz_l5 i 6)) (ps_sT M' M1.2.1.2.1) M1.2.1.2.1 Mz.2.1.2.1 M2.2.1.2.1 M4.2.1.2.1 F5 G2 (fun _ => .null) (fun j => .ref (M4.2.1.2.1 + 1 + j))) := by
    intro i t M hi ht hM
    subst ht
    refine pw_for 6 (fun j u => ∃ M, u = (pj (j : Nat), M) ∧ pk M1 M ∧ M.1 = M1.1 ∧ M.2.2.2 = (M1.2.2.2.1 - 10, M1.2.2.2.2 - 57) ∧ pk_TT w M1.2.1.2.1 (pz_Xl (pz_l5 i j)) (ps_sT M M1.2.1.2.1) M1.2.1.2.1 Mz.2.1.2.1 M2.2.1.2.1 M4.2.1.2.1 F5 G2 (fun _ => .null) (fun j => .ref (M4.2.1.2.1 + 1 + j))) 5000 (by omega) ?_ ?_ (0, M) ⟨M, rfl, hM⟩
    · rintro j u hj ⟨M', rfl, q1, q2, q3, q4⟩
      obtain ⟨t1, t2, t3, t4, t5⟩ := pk_TT_rd (c := c) hb.1 q4
      have t3 : ps_gR c M' M1.2.1.2.1 4 8 2 = some M4.2.1.2.1 := t3
      have t5 : ps_aR c M' M4.2.1.2.1 10 (pj (i : Nat)) = some (M4.2.1.2.1 + 1 + i) := t5 i hi
      obtain ⟨R, w1, w2⟩ := pk_TT_row q4 (i := i) (j := j) (v := 5) hi
      have hp := pk_pA (c := c) (M := M') (t := 0) (i := j) (n := 6) (F := R) (.int 5) (by have := w1.1; omega) (base _ q1) w1.2 hj (by omega)
      unfold g_X4_init_L57
      dsimp only
      rw [show (6 : Int32) = pj 6 from rfl, if_pos ((pj_lt (by omega) (by omega)).2 (by omega)), t3, Option.bind_some, t5, Option.bind_some, hp, Option.bind_some, pj_1, pj_add, pw_some]
      refine ⟨_, rfl, pk_up _ q1 w1.1.1, q2, q3, ?_⟩
      have w3 : pk_TT w M1.2.1.2.1 (pz_Xl (pz_up2 (pz_l5 i j) i j 5)) (ps_sT (ps_up M' (M4.2.1.2.1 + 1 + i) (64, 6, updV R j (.int 5))) M1.2.1.2.1) M1.2.1.2.1 Mz.2.1.2.1 M2.2.1.2.1 M4.2.1.2.1 F5 G2 (fun _ => .null) (fun j => .ref (M4.2.1.2.1 + 1 + j)) := w2
      rw [pz_l5_up] at w3
      exact w3
    · rintro u ⟨M', rfl, q1, q2, q3, q4⟩
      unfold g_X4_init_L57
      dsimp only
      rw [show (6 : Int32) = pj 6 from rfl, if_neg (by rw [pj_lt (by omega) (by omega)]; omega), pw_some]
      exact ⟨q1, q2, q3, q4⟩
  have outer : pw (zs_loop 5000 (g_X4_init_L49 c M1.2.1.2.1) (0, M9)) (fun M' => pk M1 M' ∧ M'.1 = M1.1 ∧ M'.2.2.2 = (M1.2.2.2.1 - 10, M1.2.2.2.2 - 57) ∧ pk_TT w M1.2.1.2.1 (pz_Xl (pz_l5 6 0)) (ps_sT M' M1.2.1.2.1) M1.2.1.2.1 Mz.2.1.2.1 M2.2.1.2.1 M4.2.1.2.1 F5 G2 (fun _ => .null) (fun j => .ref (M4.2.1.2.1 + 1 + j))) := by
    refine pw_for 6 (fun i u => ∃ M, u = (pj (i : Nat), M) ∧ pk M1 M ∧ M.1 = M1.1 ∧ M.2.2.2 = (M1.2.2.2.1 - 10, M1.2.2.2.2 - 57) ∧ pk_TT w M1.2.1.2.1 (pz_Xl (pz_l5 i 0)) (ps_sT M M1.2.1.2.1) M1.2.1.2.1 Mz.2.1.2.1 M2.2.1.2.1 M4.2.1.2.1 F5 G2 (fun _ => .null) (fun j => .ref (M4.2.1.2.1 + 1 + j))) 5000 (by omega) ?_ ?_ (0, M9) ⟨M9, rfl, k9, o9, r9, hT9⟩
    · rintro i u hi ⟨M', rfl, q1, q2, q3, q4⟩
      unfold g_X4_init_L49
      dsimp only
      rw [show (6 : Int32) = pj 6 from rfl, if_pos ((pj_lt (by omega) (by omega)).2 (by omega))]
      refine pw_seq (inner i _ M' hi rfl ⟨q1, q2, q3, q4⟩) (fun M5' h5 => ?_)
      rw [pj_1, pj_add, pw_some]
      obtain ⟨w1, w2, w3, w4⟩ := h5
      exact ⟨M5', rfl, w1, w2, w3, pk_TT_like w4 (pz_l5 (i + 1) 0) (fun p q hp hq => by
        show pz_l5 (i + 1) 0 p q = pz_l5 i 6 p q
        unfold pz_l5
        by_cases d : p < i ∨ (p = i ∧ q < 6)
        · rw [if_pos d, if_pos (by omega)]
        · rw [if_neg d, if_neg (by omega)])⟩
    · rintro u ⟨M', rfl, q1, q2, q3, q4⟩
      unfold g_X4_init_L49
      dsimp only
      rw [show (6 : Int32) = pj 6 from rfl, if_neg (by rw [pj_lt (by omega) (by omega)]; omega), pw_some]
      exact ⟨q1, q2, q3, q4⟩
  obtain ⟨M3, z1, z2, z3, z4, z5⟩ := outer
  refine ⟨Mz, M3, a1, hpre _ z1, z2, z3, by rw [z4], by rw [z4], _, _, _, _, _, _, _, _, pk_TT_like z5 (fun _ _ => 5) (fun p q hp hq => ?_)⟩
  show 5 = pz_l5 6 0 p q
  unfold pz_l5
  rw [if_pos (by omega)]
/-! the tokens by the component: letters, digits, words -/
theorem pz_toks_m {b : Nat → Int} {p : Nat} : ∀ (n k : Nat), k ≤ p → (pz_toks b p n k).length ≤ p + 1 - k ∧ ∀ q ∈ pz_toks b p n k, q = (0, p, p, 0) ∨ ∃ j, j < p ∧ q = pz_tok b p j
  | 0, k, h => ⟨Nat.zero_le _, fun q hq => by cases hq⟩
  | n + 1, k, h => by
    unfold pz_toks
    by_cases c1 : p ≤ k
    · rw [if_pos c1]
      refine ⟨by show 1 ≤ p + 1 - k; omega, fun q hq => Or.inl (List.mem_singleton.1 hq)⟩
    rw [if_neg c1]
    by_cases c2 : pz_blk b p k = true
    · rw [if_pos c2]
      obtain ⟨i1, i2⟩ := pz_toks_m (b := b) (p := p) n (k + 1) (by omega)
      exact ⟨by omega, i2⟩
    rw [if_neg c2]
    by_cases c3 : (pz_tok b p k).1 = 3
    · rw [if_pos c3]
      refine ⟨by show 1 ≤ p + 1 - k; omega, fun q hq => Or.inr ⟨k, by omega, List.mem_singleton.1 hq⟩⟩
    rw [if_neg c3]
    obtain ⟨s1, s2, s3⟩ := pz_tok_sp (b := b) (show k < p by omega)
    obtain ⟨i1, i2⟩ := pz_toks_m (b := b) (p := p) n (pz_tok b p k).2.2.1 s3
    refine ⟨by rw [List.length_cons]; omega, fun q hq => ?_⟩
    rcases List.mem_cons.1 hq with rfl | hq
    · exact Or.inr ⟨k, by omega, rfl⟩
    · exact i2 q hq
theorem pz_tok_e {b : Nat → Int} {p k : Nat} (hk : k < p) : (pz_tok b p k).2.1 ≤ (pz_tok b p k).2.2.1 ∧ (pz_tok b p k).2.2.1 ≤ p ∧ ((pz_tok b p k).1 = 2 → (pz_tok b p k).2.2.2 = pz_num b (pz_tok b p k).2.1 ((pz_tok b p k).2.2.1 - (pz_tok b p k).2.1) ∧ (pz_tok b p k).2.2.1 - (pz_tok b p k).2.1 ≤ 4 ∧ ∀ j, (pz_tok b p k).2.1 ≤ j → j < (pz_tok b p k).2.2.1 → 48 ≤ b j ∧ b j ≤ 57) := by
  obtain ⟨s1, s2, s3⟩ := pz_tok_sp (b := b) hk
  refine ⟨by omega, s3, ?_⟩
  unfold pz_tok
  by_cases c : pz_ltr b p k = true
  · rw [if_pos c]
    intro e
    exact absurd e (pz_wk_bd b k (pz_le b p k)).2.2.1
  · rw [if_neg c]
    by_cases d : pz_dig b p k = true
    · rw [if_pos d]
      obtain ⟨l1, l2, l3, l4⟩ := pz_de_sp d
      intro e
      have e : (if 4 < pz_de b p k - k then 3 else 2) = 2 := e
      have h4 : ¬ 4 < pz_de b p k - k := fun q => by rw [if_pos q] at e; omega
      exact ⟨rfl, by show pz_de b p k - k ≤ 4; omega, fun j h1 h2 => (pz_dig_c (l3 j h1 h2)).2⟩
    · rw [if_neg d]
      intro e
      have e : pz_sg (pz_c b p k) = 2 := e
      have := pz_sg_bd (pz_c b p k)
      omega
theorem pz_K_e {b : Nat → Int} {p : Nat} : (pz_K b p).length ≤ p + 1 ∧ ∀ a, a < (pz_K b p).length → pz_fr (pz_K b p) a ≤ pz_to (pz_K b p) a ∧ pz_to (pz_K b p) a ≤ p ∧ (pz_kd (pz_K b p) a = 2 → pz_vl (pz_K b p) a = pz_num b (pz_fr (pz_K b p) a) (pz_to (pz_K b p) a - pz_fr (pz_K b p) a) ∧ pz_to (pz_K b p) a - pz_fr (pz_K b p) a ≤ 4 ∧ ∀ j, pz_fr (pz_K b p) a ≤ j → j < pz_to (pz_K b p) a → 48 ≤ b j ∧ b j ≤ 57) := by
  obtain ⟨h1, h2⟩ := pz_toks_m (b := b) (p := p) (p + 1) 0 (Nat.zero_le _)
  refine ⟨h1, fun a ha => ?_⟩
  have hm := List.mem_of_getElem? (pz_getD ha)
  rcases h2 _ hm with q | ⟨j, hj, q⟩
  · unfold pz_fr pz_to pz_kd pz_vl
    rw [q]
    exact ⟨Nat.le_refl _, Nat.le_refl _, fun e => by cases e⟩
  · unfold pz_fr pz_to pz_kd pz_vl
    rw [q]
    exact pz_tok_e hj
/-- the tape, as the component has it -/
def pc_by (b : Nat → Int) (p : Nat) (M : ps_S) : Prop := p ≤ 2000 ∧ M.1.1 2 2 = pj p ∧ ∀ k, k < p → M.1.2 2 1 k = pj (b k) ∧ -128 ≤ b k ∧ b k < 128
section CB
variable {b : Nat → Int} {p : Nat} {w : Nat → Nat} {c : Nat} {M : ps_S}
theorem pc_c_bd (h : pc_by b p M) (k : Nat) : -128 ≤ pz_c b p k ∧ pz_c b p k < 128 := by
  unfold pz_c
  split
  · rename_i q; exact (h.2.2 k q).2
  · omega
theorem pc_byAt (h : pc_by b p M) {k : Nat} (hk : k ≤ 3000) : gp_X2_at w c M (pj k) = some (pj (pz_c b p k)) := by
  obtain ⟨h1, h2, h3⟩ := h
  unfold gp_X2_at pz_c
  rw [h2]
  by_cases q : k < p
  · rw [if_pos ((pj_lt (by omega) (by omega)).2 (by omega)), if_pos q, pj_ald (by omega) (by omega), Int.toNat_natCast, (h3 k q).1]; rfl
  · rw [if_neg (by rw [pj_lt (by omega) (by omega)]; omega), if_neg q]; rfl
theorem pc_isLetter (h : pc_by b p M) {k : Nat} (hk : k ≤ 3000) : gp_X2_isLetter w c M (pj k) = some (pz_ltr b p k) := by
  have hb := pc_c_bd h k
  unfold gp_X2_isLetter pz_ltr
  rw [pc_byAt h hk, Option.bind_some, pw_let, show (97 : Int32) = pj 97 from rfl, show (122 : Int32) = pj 122 from rfl, Option.bind_some]
  by_cases c1 : pz_c b p k < 97
  · rw [if_pos ((pj_lt (by omega) (by omega)).2 c1), decide_eq_false (by omega)]; rfl
  · rw [if_neg (by rw [pj_lt (by omega) (by omega)]; exact c1), decide_eq_true (by omega)]
    by_cases c2 : 122 < pz_c b p k
    · rw [if_pos ((pj_lt (by omega) (by omega)).2 c2), decide_eq_false (by omega)]; rfl
    · rw [if_neg (by rw [pj_lt (by omega) (by omega)]; exact c2), decide_eq_true (by omega)]; rfl
theorem pc_isDigit (h : pc_by b p M) {k : Nat} (hk : k ≤ 3000) : gp_X2_isDigit w c M (pj k) = some (pz_dig b p k) := by
  have hb := pc_c_bd h k
  unfold gp_X2_isDigit pz_dig
  rw [pc_byAt h hk, Option.bind_some, pw_let, show (48 : Int32) = pj 48 from rfl, show (57 : Int32) = pj 57 from rfl, Option.bind_some]
  by_cases c1 : pz_c b p k < 48
  · rw [if_pos ((pj_lt (by omega) (by omega)).2 c1), decide_eq_false (by omega)]; rfl
  · rw [if_neg (by rw [pj_lt (by omega) (by omega)]; exact c1), decide_eq_true (by omega)]
    by_cases c2 : 57 < pz_c b p k
    · rw [if_pos ((pj_lt (by omega) (by omega)).2 c2), decide_eq_false (by omega)]; rfl
    · rw [if_neg (by rw [pj_lt (by omega) (by omega)]; exact c2), decide_eq_true (by omega)]; rfl
theorem pc_letters (h : pc_by b p M) {k : Nat} {x y : Int32} (hl : pz_ltr b p k = true) : zs_loop 5000 (g_X2_read_L74 w c (x, y, M)) (pj ((k : Nat) + 1 : Int)) = some (pj (pz_le b p k : Nat)) := by
  obtain ⟨l1, l2, l3, l4⟩ := pz_le_sp hl
  have hp := h.1
  have e0 : pj ((k : Nat) + 1 : Int) = pj ((k + 1 + 0 : Nat) : Int) := by congr 1
  have e1 : pj (pz_le b p k : Nat) = pj ((k + 1 + (pz_le b p k - (k + 1)) : Nat) : Int) := by congr 1; omega
  rw [e0, e1]
  refine pw_forE (pz_le b p k - (k + 1)) (fun j => pj ((k + 1 + j : Nat) : Int)) 5000 (by omega) (fun j hj => ?_) ?_
  · unfold g_X2_read_L74
    dsimp only
    rw [pc_isLetter h (by omega), Option.bind_some, l3 _ (by omega) (by omega), if_pos rfl, pj_1, pj_add]; rfl
  · unfold g_X2_read_L74
    dsimp only
    rw [pc_isLetter h (by omega), Option.bind_some, show k + 1 + (pz_le b p k - (k + 1)) = pz_le b p k by omega, l4, if_neg (by decide)]
theorem pc_digits (h : pc_by b p M) {k : Nat} {x y : Int32} (hl : pz_dig b p k = true) : zs_loop 5000 (g_X2_read_L134 w c (x, y, M)) (pj ((k : Nat) + 1 : Int)) = some (pj (pz_de b p k : Nat)) := by
  obtain ⟨l1, l2, l3, l4⟩ := pz_de_sp hl
  have hp := h.1
  have e0 : pj ((k : Nat) + 1 : Int) = pj ((k + 1 + 0 : Nat) : Int) := by congr 1
  have e1 : pj (pz_de b p k : Nat) = pj ((k + 1 + (pz_de b p k - (k + 1)) : Nat) : Int) := by congr 1; omega
  rw [e0, e1]
  refine pw_forE (pz_de b p k - (k + 1)) (fun j => pj ((k + 1 + j : Nat) : Int)) 5000 (by omega) (fun j hj => ?_) ?_
  · unfold g_X2_read_L134
    dsimp only
    rw [pc_isDigit h (by omega), Option.bind_some, l3 _ (by omega) (by omega), if_pos rfl, pj_1, pj_add]; rfl
  · unfold g_X2_read_L134
    dsimp only
    rw [pc_isDigit h (by omega), Option.bind_some, show k + 1 + (pz_de b p k - (k + 1)) = pz_de b p k by omega, l4, if_neg (by decide)]
/-- a character of a word -/
theorem pc_charAt {y : Nat} {u : List Nat} (hu : pk_st (ps_at c M) y u) (hl : u.length ≤ 100) (hc : ∀ x ∈ u, x < 128) {j : Nat} (hj : j < u.length) : gp_J8_charAt w c M y (pj j) = some (pj (u[j] : Nat)) := by
  obtain ⟨F, z, S, g1, g2, g3, g4, g5⟩ := hu
  have h10 : ¬ (1 : Int32) = 0 := by decide
  have hx := pj_ch _ (hc _ (List.getElem_mem hj))
  have h0 : ¬ pj (j : Nat) < 0 := by rw [pj_0, pj_lt (by omega) (by omega)]; omega
  have hlt : pj (j : Nat) < pj (u.length : Nat) := (pj_lt (by omega) (by omega)).2 (by omega)
  have ha := pk_aI (t := 1) (i := j) (x := pj (u[j] : Nat)) g4 hj (by omega) (g5 j _ (List.getElem?_eq_getElem hj))
  unfold gp_J8_charAt gp_J8_isLatin1 gp_J9_charAt gp_J8_checkIndex g_ckix
  simp only [pk_ck g1, Option.bind_some, pw_let, if_neg h10, pk_gI g1 g3, reduceIte, pk_gR g1 g2, pk_ln (t := 1) g4, if_neg h0, if_pos hlt, ha, hx.2.2.1, hx.2.2.2.1]
theorem pc_length {y : Nat} {u : List Nat} (hu : pk_st (ps_at c M) y u) (hl : u.length ≤ 100) : gp_J8_length w c M y = some (pj (u.length : Nat)) ∧ ps_ck c M y 18 = some () := by
  obtain ⟨F, z, S, g1, g2, g3, g4, g5⟩ := hu
  have h10 : ¬ (1 : Int32) = 0 := by decide
  have hn0 : vp_nar .byte 0 = 0 := by decide
  have hsh : ∀ n, n ≤ 100 → zs_shr (pj ((n : Nat) : Int)) 0 = pj (n : Nat) := by decide +kernel
  refine ⟨?_, pk_ck g1⟩
  unfold gp_J8_length gp_J8_coder
  simp only [pk_gR g1 g2, Option.bind_some, pk_ln (t := 1) g4, pk_ck g1, if_neg h10, pk_gI g1 g3, hn0, reduceIte, hsh _ hl]
theorem pc_word (h : pc_by b p M) (hW : ∀ (j : Nat) u, pr_words[j]? = some u → pk_st (ps_at c M) (w j) u) {k e : Nat} (he : k < e ∧ e ≤ p) (hl : ∀ j, k ≤ j → j < e → 0 ≤ b j) : gp_X2_word w c M (pj k) (pj e) = some (pj (pz_oi (pz_wd (pz_sl b k e)))) := by
  have hp := h.1
  have e1 : ∀ x : Option Int32, (x.bind fun z => some z) = x := fun x => by cases x <;> rfl
  have h22 : pr_words.length = 22 := rfl
  have hloop := pz_floop (f := 5000) (l := pr_words) (q := fun u => u == pz_sl b k e) (bd := g_X2_word_L2 c M w (pj e) (pj k)) (R := fun j => pj (j : Nat)) (E := (-1 : Int32)) (fun t u hu => by
    have ht := (List.getElem?_eq_some_iff.1 hu).1
    obtain ⟨u1, u2, u3⟩ := pz_words_sp (List.mem_of_getElem? hu)
    have hst := hW t u hu
    obtain ⟨q1, q2⟩ := pc_length (w := w) hst (by omega)
    have hix : zs_ix 22 (pj (t : Nat)) = some t := by rw [pj_ix (by omega) (by omega), Int.toNat_natCast]
    have hinner : ∀ (n j f : Nat), k + j + n = e → n + 1 < f → u.length = e - k → zs_loop f (g_X2_word_L36 (pj e) (pj (t : Nat)) c M w (pj k)) (1, pj ((k + j : Nat) : Int)) = some (if (u.drop j == (pz_sl b k e).drop j) = true then 1 else 0) := by
      intro n
      induction n with
      | zero =>
        intro j f hj hf hul
        obtain ⟨f, rfl⟩ : ∃ g, f = g + 1 := ⟨f - 1, by omega⟩
        have hbody : g_X2_word_L36 (pj e) (pj (t : Nat)) c M w (pj k) (1, pj ((k + j : Nat) : Int)) = some (Sum.inr 1) := by
          unfold g_X2_word_L36
          dsimp only
          rw [if_neg (by rw [pj_lt (by omega) (by omega)]; omega)]
        show ((g_X2_word_L36 (pj e) (pj (t : Nat)) c M w (pj k) (1, pj ((k + j : Nat) : Int))).bind fun s => Sum.elim (fun t' => zs_loop f (g_X2_word_L36 (pj e) (pj (t : Nat)) c M w (pj k)) t') some s) = _
        rw [hbody, List.drop_eq_nil_of_le (by omega), List.drop_eq_nil_of_le (by rw [pz_sl_len]; omega)]; rfl
      | succ n ih =>
        intro j f hj hf hul
        obtain ⟨f, rfl⟩ : ∃ g, f = g + 1 := ⟨f - 1, by omega⟩
        have hju : j < u.length := by omega
        have hjs : j < (pz_sl b k e).length := by rw [pz_sl_len]; omega
        have hch := pc_charAt (w := w) (c := c) (M := M) hst (by omega) (fun x hx => by have := u3 x hx; omega) hju
        have htp := (h.2.2 (k + j) (by omega)).1
        have hs2 : (pz_sl b k e)[j]? = some (b (k + j)).toNat := by
          unfold pz_sl
          rw [List.getElem?_map, List.getElem?_range (by omega)]; rfl
        have hsl : (pz_sl b k e)[j] = (b (k + j)).toNat := by
          have := List.getElem?_eq_getElem hjs
          rw [hs2] at this
          injection this with this
          exact this.symm
        have hbk := hl (k + j) (by omega) (by omega)
        have hsub : pj ((k + j : Nat) : Int) - pj (k : Nat) = pj (j : Nat) := by rw [pj_sub]; congr 1; omega
        have hbody : g_X2_word_L36 (pj e) (pj (t : Nat)) c M w (pj k) (1, pj ((k + j : Nat) : Int)) = some (Sum.inl (if pj ((u[j] : Nat) : Int) = pj (b (k + j)) then 1 else 0, pj ((k + (j + 1) : Nat) : Int))) := by
          unfold g_X2_word_L36
          dsimp only
          rw [if_pos ((pj_lt (by omega) (by omega)).2 (by omega)), if_neg (by decide), hix, Option.bind_some, q2, Option.bind_some, hsub, hch, Option.bind_some, pj_ald (by omega) (by omega), Int.toNat_natCast, htp, Option.bind_some, pj_1, pj_add]
          by_cases cc : pj ((u[j] : Nat) : Int) = pj (b (k + j))
          · rw [if_pos cc, if_pos cc]; rfl
          · rw [if_neg cc, if_neg cc]; rfl
        show ((g_X2_word_L36 (pj e) (pj (t : Nat)) c M w (pj k) (1, pj ((k + j : Nat) : Int))).bind fun s => Sum.elim (fun t' => zs_loop f (g_X2_word_L36 (pj e) (pj (t : Nat)) c M w (pj k)) t') some s) = _
        rw [hbody, Option.bind_some, Sum.elim_inl, List.drop_eq_getElem_cons hju, List.drop_eq_getElem_cons hjs, List.cons_beq_cons, hsl]
        have hu128 := u3 _ (List.getElem_mem hju)
        by_cases cc : u[j] = (b (k + j)).toNat
        · have c2 : pj ((u[j] : Nat) : Int) = pj (b (k + j)) := by congr 1; omega
          rw [if_pos c2, ih (j + 1) f (by omega) (by omega) hul, cc, beq_self_eq_true, Bool.true_and]
        · have c2 : ¬ pj ((u[j] : Nat) : Int) = pj (b (k + j)) := by
            have := (h.2.2 (k + j) (by omega)).2
            rw [pj_eq (by omega) (by omega)]; omega
          have c3 : (u[j] == (b (k + j)).toNat) = false := by simpa using cc
          rw [if_neg c2, c3, Bool.false_and, if_neg (by decide)]
          obtain ⟨f, rfl⟩ : ∃ g, f = g + 1 := ⟨f - 1, by omega⟩
          have hb0 : g_X2_word_L36 (pj e) (pj (t : Nat)) c M w (pj k) (0, pj ((k + (j + 1) : Nat) : Int)) = some (Sum.inr 0) := by
            unfold g_X2_word_L36
            dsimp only
            rw [if_pos rfl]
            split <;> rfl
          show ((g_X2_word_L36 (pj e) (pj (t : Nat)) c M w (pj k) (0, pj ((k + (j + 1) : Nat) : Int))).bind fun s => Sum.elim (fun t' => zs_loop f (g_X2_word_L36 (pj e) (pj (t : Nat)) c M w (pj k)) t') some s) = _
          rw [hb0]; rfl
    have hin : zs_loop 5000 (g_X2_word_L36 (pj e) (pj (t : Nat)) c M w (pj k)) (if pj (u.length : Nat) = pj (e : Nat) - pj (k : Nat) then 1 else 0, pj (k : Nat)) = some (if (u == pz_sl b k e) = true then 1 else 0) := by
      by_cases hul : u.length = e - k
      · rw [if_pos (by rw [pj_sub]; congr 1; omega)]
        exact hinner (e - k) 0 5000 (by omega) (by omega) hul
      · rw [if_neg (by rw [pj_sub, pj_eq (by omega) (by omega)]; omega)]
        have hb0 : g_X2_word_L36 (pj e) (pj (t : Nat)) c M w (pj k) (0, pj (k : Nat)) = some (Sum.inr 0) := by
          unfold g_X2_word_L36
          dsimp only
          rw [if_pos rfl]
          split <;> rfl
        have hne : (u == pz_sl b k e) = false := by
          rw [beq_eq_false_iff_ne]
          intro q
          have := congrArg List.length q
          rw [pz_sl_len] at this
          omega
        show ((g_X2_word_L36 (pj e) (pj (t : Nat)) c M w (pj k) (0, pj (k : Nat))).bind fun s => Sum.elim (fun t' => zs_loop 4999 (g_X2_word_L36 (pj e) (pj (t : Nat)) c M w (pj k)) t') some s) = _
        rw [hb0, hne]; rfl
    unfold g_X2_word_L2
    have hif : (if pj (u.length : Nat) = pj (e : Nat) - pj (k : Nat) then some (1 : Int32) else some 0) = some (if pj (u.length : Nat) = pj (e : Nat) - pj (k : Nat) then 1 else 0) := by split <;> rfl
    rw [show (22 : Int32) = pj 22 from rfl, if_pos ((pj_lt (by omega) (by omega)).2 (by omega)), hix, Option.bind_some, q2, Option.bind_some, q1, Option.bind_some, hif, Option.bind_some, hin, Option.bind_some]
    by_cases cc : (u == pz_sl b k e) = true
    · rw [if_pos cc, if_neg (by decide), if_pos cc]
    · rw [if_neg cc, if_pos rfl, if_neg cc, pj_1, pj_add]; rfl) (by
    unfold g_X2_word_L2
    rw [show (22 : Int32) = pj 22 from rfl, if_neg (by rw [pj_lt (by omega) (by omega)]; omega)]) (by omega)
  unfold gp_X2_word
  rw [e1, hloop]
  unfold pz_wd
  cases pr_words.findIdx? (fun x => x == pz_sl b k e) <;> rfl
end CB
/-! the tokens by the component: all -/
theorem pj_sh : ∀ v, v < 2048 → vp_nar .short (zs_i16 (pj (v : Nat))) = pj (v : Nat) := by decide +kernel
theorem pj_s8 : ∀ v, v < 8 → vp_nar .byte (zs_i8 (pj (v : Nat))) = pj (v : Nat) := by decide +kernel
def pc_cu (M M' : ps_S) : Prop := M'.2 = M.2 ∧ (∀ o f, ¬ (o = 2 ∧ f = 7) → M'.1.1 o f = M.1.1 o f) ∧ ∀ o f, ¬ (o = 2 ∧ 3 ≤ f ∧ f ≤ 6) → M'.1.2 o f = M.1.2 o f
theorem pc_cu_rfl (M : ps_S) : pc_cu M M := ⟨rfl, fun _ _ _ => rfl, fun _ _ _ => rfl⟩
theorem pc_cu_trans {A B C : ps_S} (h : pc_cu A B) (g : pc_cu B C) : pc_cu A C := ⟨g.1.trans h.1, fun o f q => (g.2.1 o f q).trans (h.2.1 o f q), fun o f q => (g.2.2 o f q).trans (h.2.2 o f q)⟩
theorem pc_by_cu {b : Nat → Int} {p : Nat} {M M' : ps_S} (h : pc_cu M M') (g : pc_by b p M) : pc_by b p M' := ⟨g.1, (h.2.1 2 2 (by omega)).trans g.2.1, fun k hk => by rw [h.2.2 2 1 (by omega)]; exact g.2.2 k hk⟩
theorem ps_sA1 (M : ps_S) (o k : Nat) (i x : Int32) : (ps_sA M o k i x).1.1 = M.1.1 := rfl
theorem ps_sA2 (M : ps_S) (o k : Nat) (i x : Int32) (p q : Nat) : (ps_sA M o k i x).1.2 p q = if p = o ∧ q = k then upd (M.1.2 o k) i.toNatClampNeg x else M.1.2 p q := rfl
theorem pc_add {w : Nat → Nat} {c n s f t : Nat} {M : ps_S} (hn : n < 2001) (h7 : M.1.1 2 7 = pj n) (hs : s < 8) (hf : f < 2048 ∧ t < 2048) (v : Int32) :
    ∃ M', gp_X2_add w c M (pj s) (pj f) (pj t) v = some M' ∧ pc_cu M M' ∧ M'.1.1 2 7 = pj ((n + 1 : Nat) : Int) ∧ ∀ j, M'.1.2 2 3 j = (if j = n then pj (s : Nat) else M.1.2 2 3 j) ∧ M'.1.2 2 4 j = (if j = n then pj (f : Nat) else M.1.2 2 4 j) ∧ M'.1.2 2 5 j = (if j = n then pj (t : Nat) else M.1.2 2 5 j) ∧ M'.1.2 2 6 j = (if j = n then vp_nar .short (zs_i16 v) else M.1.2 2 6 j) := by
  have hnat : (pj (n : Nat)).toNatClampNeg = n := by rw [pj_nat (by omega), Int.toNat_natCast]
  unfold gp_X2_add
  rw [h7, pj_ast (by omega) (by omega), Option.bind_some, ps_sA1, h7, pj_ast (by omega) (by omega), Option.bind_some, ps_sA1, ps_sA1, h7, pj_ast (by omega) (by omega), Option.bind_some, ps_sA1, ps_sA1, ps_sA1, h7, pj_ast (by omega) (by omega), Option.bind_some, ps_sA1, ps_sA1, ps_sA1, ps_sA1, h7, Option.bind_some, pj_1, pj_add, pj_s8 s hs, pj_sh f hf.1, pj_sh t hf.2]
  have key : ∀ o k, (ps_sA (ps_sA (ps_sA (ps_sA M 2 3 (pj (n : Nat)) (pj (s : Nat))) 2 4 (pj (n : Nat)) (pj (f : Nat))) 2 5 (pj (n : Nat)) (pj (t : Nat))) 2 6 (pj (n : Nat)) (vp_nar .short (zs_i16 v))).1.2 o k = if o = 2 ∧ k = 6 then upd (M.1.2 2 6) n (vp_nar .short (zs_i16 v)) else if o = 2 ∧ k = 5 then upd (M.1.2 2 5) n (pj (t : Nat)) else if o = 2 ∧ k = 4 then upd (M.1.2 2 4) n (pj (f : Nat)) else if o = 2 ∧ k = 3 then upd (M.1.2 2 3) n (pj (s : Nat)) else M.1.2 o k := fun o k => by
    simp only [ps_sA2, hnat]
    rfl
  refine ⟨_, rfl, ⟨rfl, fun o k q => ps_sF1n q, fun o k q => ?_⟩, ps_sF1s _ _ _ _, fun j => ⟨?_, ?_, ?_, ?_⟩⟩
  · refine (key o k).trans ?_
    rw [if_neg (by omega), if_neg (by omega), if_neg (by omega), if_neg (by omega)]
  · refine (congrFun (key 2 3) j).trans ?_
    rw [if_neg (by omega), if_neg (by omega), if_neg (by omega), if_pos (by omega), pj_upd]
  · refine (congrFun (key 2 4) j).trans ?_
    rw [if_neg (by omega), if_neg (by omega), if_pos (by omega), pj_upd]
  · refine (congrFun (key 2 5) j).trans ?_
    rw [if_neg (by omega), if_pos (by omega), pj_upd]
  · refine (congrFun (key 2 6) j).trans ?_
    rw [if_pos (by omega), pj_upd]
/-- a token, as the component has it -/
def pc_mt (M : ps_S) (j : Nat) (q : pz_T) : Prop := M.1.2 2 3 j = pj (pc_st q.1 : Nat) ∧ M.1.2 2 4 j = pj q.2.1 ∧ M.1.2 2 5 j = pj q.2.2.1 ∧ (4 ≤ q.1 → M.1.2 2 6 j = pj (pc_wh q.1 : Nat))
def pc_J (b : Nat → Int) (p : Nat) (M0 : ps_S) (i n : Nat) (good : Int32) (M : ps_S) : Prop := i ≤ p ∧ n ≤ i ∧ pc_cu M0 M ∧ M.1.1 2 7 = pj n ∧ ((good = 1 ∧ ∃ pre f, pz_K b p = pre ++ pz_toks b p f i ∧ pre.length = n ∧ p + 1 ≤ i + f ∧ ∀ (j : Nat) q, pre[j]? = some q → pc_mt M j q) ∨ (good = 0 ∧ (pz_K b p).length = n ∧ ∀ (j : Nat) q, (pz_K b p)[j]? = some q → pc_mt M j q))
theorem pc_sg_w (k : Int) (h : -128 ≤ k ∧ k < 128) : pc_st (pz_sg k) = (if pz_sg k = 3 then 5 else 2) ∧ (pz_sg k ≠ 3 → (pc_wh (pz_sg k) : Int) = k) := by
  constructor
  · have := pz_sg_bd k
    unfold pc_st; repeat' split
    all_goals omega
  · intro hne
    by_cases c1 : k = 59
    · subst c1; decide
    by_cases c2 : k = 61
    · subst c2; decide
    by_cases c3 : k = 40
    · subst c3; decide
    by_cases c4 : k = 41
    · subst c4; decide
    by_cases c5 : k = 43
    · subst c5; decide
    by_cases c6 : k = 45
    · subst c6; decide
    by_cases c7 : k = 42
    · subst c7; decide
    by_cases c8 : k = 47
    · subst c8; decide
    by_cases c9 : k = 60
    · subst c9; decide
    exact absurd (by unfold pz_sg; rw [if_neg c1, if_neg c2, if_neg c3, if_neg c4, if_neg c5, if_neg c6, if_neg c7, if_neg c8, if_neg c9]) hne
section CR
variable {b : Nat → Int} {p : Nat} {w : Nat → Nat} {c : Nat} {M0 M : ps_S}
theorem pc_sign (h : pc_by b p M) {k : Nat} (hk : k ≤ 3000) : gp_X2_sign w c M (pj k) = some (if pz_sg (pz_c b p k) = 3 then 0 else pj (pz_c b p k)) := by
  have hb := pc_c_bd h k
  have hcmp : ∀ v : Int, -128 ≤ v ∧ v < 128 → (pj (pz_c b p k) = pj v ↔ pz_c b p k = v) := fun v hv => pj_eq (by omega) (by omega)
  unfold gp_X2_sign
  rw [pc_byAt h hk, Option.bind_some]
  generalize pz_c b p k = z at hb hcmp
  have t : ∀ v : Int, (-128 ≤ v ∧ v < 128) → z = v → pz_sg v ≠ 3 → (if pz_sg z = 3 then (0 : Int32) else pj z) = pj z := fun v hv e hn => by rw [if_neg (by rw [e]; exact hn)]
  rw [show (40 : Int32) = pj 40 from rfl, show (41 : Int32) = pj 41 from rfl, show (42 : Int32) = pj 42 from rfl, show (43 : Int32) = pj 43 from rfl, show (45 : Int32) = pj 45 from rfl, show (47 : Int32) = pj 47 from rfl, show (59 : Int32) = pj 59 from rfl, show (60 : Int32) = pj 60 from rfl, show (61 : Int32) = pj 61 from rfl]
  by_cases c3 : z = 40
  · rw [if_pos ((hcmp 40 (by omega)).2 c3), t 40 (by omega) c3 (by decide)]
  by_cases c4 : z = 41
  · rw [if_neg (fun q => c3 ((hcmp 40 (by omega)).1 q)), if_pos ((hcmp 41 (by omega)).2 c4), t 41 (by omega) c4 (by decide)]
  by_cases c7 : z = 42
  · rw [if_neg (fun q => c3 ((hcmp 40 (by omega)).1 q)), if_neg (fun q => c4 ((hcmp 41 (by omega)).1 q)), if_pos ((hcmp 42 (by omega)).2 c7), t 42 (by omega) c7 (by decide)]
  by_cases c5 : z = 43
  · rw [if_neg (fun q => c3 ((hcmp 40 (by omega)).1 q)), if_neg (fun q => c4 ((hcmp 41 (by omega)).1 q)), if_neg (fun q => c7 ((hcmp 42 (by omega)).1 q)), if_pos ((hcmp 43 (by omega)).2 c5), t 43 (by omega) c5 (by decide)]
  by_cases c6 : z = 45
  · rw [if_neg (fun q => c3 ((hcmp 40 (by omega)).1 q)), if_neg (fun q => c4 ((hcmp 41 (by omega)).1 q)), if_neg (fun q => c7 ((hcmp 42 (by omega)).1 q)), if_neg (fun q => c5 ((hcmp 43 (by omega)).1 q)), if_pos ((hcmp 45 (by omega)).2 c6), t 45 (by omega) c6 (by decide)]
  by_cases c8 : z = 47
  · rw [if_neg (fun q => c3 ((hcmp 40 (by omega)).1 q)), if_neg (fun q => c4 ((hcmp 41 (by omega)).1 q)), if_neg (fun q => c7 ((hcmp 42 (by omega)).1 q)), if_neg (fun q => c5 ((hcmp 43 (by omega)).1 q)), if_neg (fun q => c6 ((hcmp 45 (by omega)).1 q)), if_pos ((hcmp 47 (by omega)).2 c8), t 47 (by omega) c8 (by decide)]
  by_cases c1 : z = 59
  · rw [if_neg (fun q => c3 ((hcmp 40 (by omega)).1 q)), if_neg (fun q => c4 ((hcmp 41 (by omega)).1 q)), if_neg (fun q => c7 ((hcmp 42 (by omega)).1 q)), if_neg (fun q => c5 ((hcmp 43 (by omega)).1 q)), if_neg (fun q => c6 ((hcmp 45 (by omega)).1 q)), if_neg (fun q => c8 ((hcmp 47 (by omega)).1 q)), if_pos ((hcmp 59 (by omega)).2 c1), t 59 (by omega) c1 (by decide)]
  by_cases c9 : z = 60
  · rw [if_neg (fun q => c3 ((hcmp 40 (by omega)).1 q)), if_neg (fun q => c4 ((hcmp 41 (by omega)).1 q)), if_neg (fun q => c7 ((hcmp 42 (by omega)).1 q)), if_neg (fun q => c5 ((hcmp 43 (by omega)).1 q)), if_neg (fun q => c6 ((hcmp 45 (by omega)).1 q)), if_neg (fun q => c8 ((hcmp 47 (by omega)).1 q)), if_neg (fun q => c1 ((hcmp 59 (by omega)).1 q)), if_pos ((hcmp 60 (by omega)).2 c9), t 60 (by omega) c9 (by decide)]
  by_cases c2 : z = 61
  · rw [if_neg (fun q => c3 ((hcmp 40 (by omega)).1 q)), if_neg (fun q => c4 ((hcmp 41 (by omega)).1 q)), if_neg (fun q => c7 ((hcmp 42 (by omega)).1 q)), if_neg (fun q => c5 ((hcmp 43 (by omega)).1 q)), if_neg (fun q => c6 ((hcmp 45 (by omega)).1 q)), if_neg (fun q => c8 ((hcmp 47 (by omega)).1 q)), if_neg (fun q => c1 ((hcmp 59 (by omega)).1 q)), if_neg (fun q => c9 ((hcmp 60 (by omega)).1 q)), if_pos ((hcmp 61 (by omega)).2 c2), t 61 (by omega) c2 (by decide)]
  rw [if_neg (fun q => c3 ((hcmp 40 (by omega)).1 q)), if_neg (fun q => c4 ((hcmp 41 (by omega)).1 q)), if_neg (fun q => c7 ((hcmp 42 (by omega)).1 q)), if_neg (fun q => c5 ((hcmp 43 (by omega)).1 q)), if_neg (fun q => c6 ((hcmp 45 (by omega)).1 q)), if_neg (fun q => c8 ((hcmp 47 (by omega)).1 q)), if_neg (fun q => c1 ((hcmp 59 (by omega)).1 q)), if_neg (fun q => c9 ((hcmp 60 (by omega)).1 q)), if_neg (fun q => c2 ((hcmp 61 (by omega)).1 q)), if_pos]
  unfold pz_sg
  rw [if_neg c1, if_neg c2, if_neg c3, if_neg c4, if_neg c5, if_neg c6, if_neg c7, if_neg c8, if_neg c9]
/-- a token is laid -/
theorem pc_J_tok {i n : Nat} {v : Int32} (h : pc_J b p M0 i n 1 M) (hby : pc_by b p M) (hi : i < p) (hbl : pz_blk b p i = false) (hv : 4 ≤ (pz_tok b p i).1 → vp_nar .short (zs_i16 v) = pj (pc_wh (pz_tok b p i).1 : Nat)) :
    ∃ M', gp_X2_add w c M (pj (pc_st (pz_tok b p i).1 : Nat)) (pj (i : Nat)) (pj ((pz_tok b p i).2.2.1 : Nat)) v = some M' ∧ pc_J b p M0 (pz_tok b p i).2.2.1 (n + 1) (if (pz_tok b p i).1 = 3 then 0 else 1) M' := by
  obtain ⟨g1, g2, g3, g4, g5⟩ := h
  have hp := hby.1
  obtain ⟨s1, s2, s3⟩ := pz_tok_sp (b := b) hi
  have hst := pc_st_bd (pz_tok b p i).1
  obtain ⟨M', a1, a2, a3, a4⟩ := pc_add (w := w) (c := c) (M := M) (n := n) (s := pc_st (pz_tok b p i).1) (f := i) (t := (pz_tok b p i).2.2.1) (by omega) g4 (by omega) (by omega) v
  refine ⟨M', a1, s3, by omega, pc_cu_trans g3 a2, a3, ?_⟩
  rcases g5 with ⟨-, pre, f, e1, e2, e3, e4⟩ | ⟨q, -⟩
  · have hold : ∀ j q, j ≠ n → pc_mt M j q → pc_mt M' j q := fun j q hj hq => by
      obtain ⟨c1, c2, c3, c4⟩ := a4 j
      rw [if_neg hj] at c1 c2 c3 c4
      exact ⟨c1.trans hq.1, c2.trans hq.2.1, c3.trans hq.2.2.1, fun e => c4.trans (hq.2.2.2 e)⟩
    have hnew : pc_mt M' n (pz_tok b p i) := by
      obtain ⟨c1, c2, c3, c4⟩ := a4 n
      rw [if_pos rfl] at c1 c2 c3 c4
      exact ⟨c1, c2.trans (by rw [s1]), c3, fun e => c4.trans (hv e)⟩
    have hall : ∀ (j : Nat) q, (pre ++ [pz_tok b p i])[j]? = some q → pc_mt M' j q := fun j q hj => by
      rcases pz_app_get hj with ⟨q1, q2⟩ | ⟨q1, q2⟩
      · exact hold j q (by omega) (e4 j q q2)
      · rw [q2, q1, e2]; exact hnew
    obtain ⟨f, rfl⟩ : ∃ g, f = g + 1 := ⟨f - 1, by omega⟩
    have e5 : pz_toks b p (f + 1) i = if (pz_tok b p i).1 = 3 then [pz_tok b p i] else pz_tok b p i :: pz_toks b p f (pz_tok b p i).2.2.1 := by
      show (if p ≤ i then _ else if pz_blk b p i = true then _ else if (pz_tok b p i).1 = 3 then [pz_tok b p i] else pz_tok b p i :: pz_toks b p f (pz_tok b p i).2.2.1) = _
      rw [if_neg (by omega), if_neg (by rw [hbl]; decide)]
    by_cases cc : (pz_tok b p i).1 = 3
    · rw [if_pos cc] at e5 ⊢
      rw [e5] at e1
      exact Or.inr ⟨rfl, by rw [e1, List.length_append, e2]; rfl, fun j q hj => hall j q (by rw [← e1]; exact hj)⟩
    · rw [if_neg cc] at e5 ⊢
      rw [e5] at e1
      exact Or.inl ⟨rfl, pre ++ [pz_tok b p i], f, by rw [e1, List.append_assoc]; rfl, by rw [List.length_append, e2]; rfl, by omega, hall⟩
  · cases q
theorem pc_read (h : pc_by b p M) (hW : ∀ (j : Nat) u, pr_words[j]? = some u → pk_st (ps_at c M) (w j) u) : ∃ M', gp_X2_read w c M = some M' ∧ pc_cu M M' ∧ pk_tok b p (pz_K b p) M'.1.2 := by
  have hp := h.1
  obtain ⟨hK1, hK2⟩ := pz_K_e (b := b) (p := p)
  have hcu0 : pc_cu M (ps_sF M 2 7 0) := ⟨rfl, fun o f q => ps_sF1n q, fun _ _ _ => rfl⟩
  have hdone : ∀ M' : ps_S, pc_cu M M' → (∀ (j : Nat) q, (pz_K b p)[j]? = some q → pc_mt M' j q) → pk_tok b p (pz_K b p) M'.1.2 := fun M' hc hm => by
    refine ⟨⟨hp, by omega⟩, pz_K_ok hp, fun j hj => ?_, fun a ha => hm a _ (pz_getD ha), hK2⟩
    rw [hc.2.2 2 1 (by omega)]; exact h.2.2 j hj
  have hatt : ∀ M' : ps_S, pc_cu M M' → ps_at c M' = ps_at c M := fun M' hc => by unfold ps_at; rw [hc.1]
  unfold gp_X2_read
  rw [Option.bind_some]
  have hloop : pw (zs_loop 5000 (g_X2_read_L9 w c) (0, 1, ps_sF M 2 7 0)) (fun r => ∃ i n, r.1 = pj (i : Nat) ∧ pc_J b p M i n r.2.1 r.2.2 ∧ (r.2.1 = 1 → i = p)) := by
    refine pw_meas (fun t : Int32 × Int32 × ps_S => ∃ i n, t.1 = pj (i : Nat) ∧ pc_J b p M i n t.2.1 t.2.2) (fun t => p - t.1.toNatClampNeg) ?_ 5000 _ ⟨0, 0, rfl, Nat.zero_le _, Nat.le_refl _, hcu0, ps_sF1s _ _ _ _, Or.inl ⟨rfl, [], p + 1, rfl, rfl, by omega, fun j q hj => (by cases hj)⟩⟩ (by dsimp only; omega)
    rintro ⟨t1, good, M1⟩ ⟨i, n, ht, hJ⟩
    dsimp only at ht hJ
    subst ht
    obtain ⟨g1, g2, g3, g4, g5⟩ := id hJ
    have hby := pc_by_cu g3 h
    have hmu : ∀ i' : Nat, i < i' → i' ≤ p → p - (pj (i' : Nat)).toNatClampNeg < p - (pj (i : Nat)).toNatClampNeg := fun i' h1 h2 => by
      rw [pj_nat (by omega), pj_nat (by omega), Int.toNat_natCast, Int.toNat_natCast]; omega
    unfold g_X2_read_L9
    dsimp only
    rw [hby.2.1]
    by_cases hip : i < p
    rotate_left
    · rw [if_neg (by rw [pj_lt (by omega) (by omega)]; omega), pw_some]
      exact ⟨i, n, rfl, hJ, fun _ => by omega⟩
    rw [if_pos ((pj_lt (by omega) (by omega)).2 (by omega))]
    rcases g5 with ⟨rfl, pre, f, e1, e2, e3, e4⟩ | ⟨rfl, hz⟩
    rotate_left
    · rw [if_pos rfl, pw_some]
      exact ⟨i, n, rfl, hJ, fun q => by cases q⟩
    rw [if_neg (by decide), pj_ald (by omega) (by omega), Int.toNat_natCast, (hby.2.2 i hip).1, Option.bind_some, Option.bind_some, pw_let, pj_1, pj_add]
    have hci : pz_c b p i = b i := if_pos hip
    have hbi := (hby.2.2 i hip).2
    have hblk : pz_blk b p i = true → pc_J b p M (i + 1) n 1 M1 := fun q => by
      refine ⟨hip, by omega, g3, g4, Or.inl ⟨rfl, pre, f - 1, ?_, e2, by omega, e4⟩⟩
      obtain ⟨f, rfl⟩ : ∃ g, f = g + 1 := ⟨f - 1, by omega⟩
      rw [e1]
      congr 1
      show (if p ≤ i then _ else if pz_blk b p i = true then pz_toks b p f (i + 1) else _) = pz_toks b p (f + 1 - 1) (i + 1)
      rw [if_neg (by omega), if_pos q]; rfl
    have hblkP : pz_blk b p i = true ↔ (b i = 32 ∨ b i = 9 ∨ b i = 10 ∨ b i = 13) := by
      unfold pz_blk
      rw [decide_eq_true_eq, hci]
    have hcmp : ∀ v : Int, -128 ≤ v ∧ v < 128 → (pj (b i) = pj v ↔ b i = v) := fun v hv => pj_eq (by omega) (by omega)
    have hJb : pz_blk b p i = true → pw ((some M1).bind fun M5 => some (Sum.inl (pj ((i : Nat) + 1 : Int), (1 : Int32), M5))) (Sum.elim (fun t' : Int32 × Int32 × ps_S => (∃ i n, t'.1 = pj (i : Nat) ∧ pc_J b p M i n t'.2.1 t'.2.2) ∧ p - t'.1.toNatClampNeg < p - (pj (i : Nat)).toNatClampNeg) (fun r : Int32 × Int32 × ps_S => ∃ i n, r.1 = pj (i : Nat) ∧ pc_J b p M i n r.2.1 r.2.2 ∧ (r.2.1 = 1 → i = p))) := fun q => by
      rw [Option.bind_some, pw_some]
      exact ⟨⟨i + 1, n, rfl, hblk q⟩, hmu (i + 1) (by omega) (by omega)⟩
    rw [show (32 : Int32) = pj 32 from rfl, show (9 : Int32) = pj 9 from rfl, show (10 : Int32) = pj 10 from rfl, show (13 : Int32) = pj 13 from rfl]
    by_cases d1 : b i = 32
    · rw [if_pos ((hcmp 32 (by omega)).2 d1)]; exact hJb (hblkP.2 (Or.inl d1))
    rw [if_neg (fun q => d1 ((hcmp 32 (by omega)).1 q))]
    by_cases d2 : b i = 9
    · rw [if_pos ((hcmp 9 (by omega)).2 d2)]; exact hJb (hblkP.2 (Or.inr (Or.inl d2)))
    rw [if_neg (fun q => d2 ((hcmp 9 (by omega)).1 q))]
    by_cases d3 : b i = 10
    · rw [if_pos ((hcmp 10 (by omega)).2 d3)]; exact hJb (hblkP.2 (Or.inr (Or.inr (Or.inl d3))))
    rw [if_neg (fun q => d3 ((hcmp 10 (by omega)).1 q))]
    by_cases d4 : b i = 13
    · rw [if_pos ((hcmp 13 (by omega)).2 d4)]; exact hJb (hblkP.2 (Or.inr (Or.inr (Or.inr d4))))
    rw [if_neg (fun q => d4 ((hcmp 13 (by omega)).1 q))]
    have hnb : pz_blk b p i = false := by
      cases q : pz_blk b p i with
      | false => rfl
      | true => have := hblkP.1 q; omega
    obtain ⟨s1, s2, s3⟩ := pz_tok_sp (b := b) hip
    -- behind the cut
    have hend : ∀ (e s : Nat) (v : Int32), e = (pz_tok b p i).2.2.1 → s = pc_st (pz_tok b p i).1 → (4 ≤ (pz_tok b p i).1 → vp_nar .short (zs_i16 v) = pj (pc_wh (pz_tok b p i).1 : Nat)) → pw ((gp_X2_add w c M1 (pj (s : Nat)) (pj (i : Nat)) (pj (e : Nat)) v).bind fun M8 => (if pj (s : Nat) = 5 then (some 0) else (some 1)).bind fun (p9 : Int32) => some (Sum.inl (pj (e : Nat), p9, M8))) (Sum.elim (fun t' : Int32 × Int32 × ps_S => (∃ i n, t'.1 = pj (i : Nat) ∧ pc_J b p M i n t'.2.1 t'.2.2) ∧ p - t'.1.toNatClampNeg < p - (pj (i : Nat)).toNatClampNeg) (fun r : Int32 × Int32 × ps_S => ∃ i n, r.1 = pj (i : Nat) ∧ pc_J b p M i n r.2.1 r.2.2 ∧ (r.2.1 = 1 → i = p))) := by
      intro e s v he hs hv
      subst he hs
      obtain ⟨M', a1, a2⟩ := pc_J_tok (w := w) (c := c) (v := v) hJ hby hip hnb hv
      have hst := pc_st_bd (pz_tok b p i).1
      rw [a1, Option.bind_some]
      have hif : (if pj (pc_st (pz_tok b p i).1 : Nat) = 5 then (some (0 : Int32)) else (some 1)) = some (if (pz_tok b p i).1 = 3 then 0 else 1) := by
        by_cases cc : (pz_tok b p i).1 = 3
        · rw [if_pos (by rw [show (5 : Int32) = pj ((5 : Nat) : Int) from rfl, pj_eqN (by omega), pc_st5]; exact cc), if_pos cc]
        · rw [if_neg (by rw [show (5 : Int32) = pj ((5 : Nat) : Int) from rfl, pj_eqN (by omega), pc_st5]; exact cc), if_neg cc]
      rw [hif, Option.bind_some, pw_some]
      exact ⟨⟨_, n + 1, rfl, a2⟩, hmu _ s2 s3⟩
    rw [pc_isLetter hby (by omega), Option.bind_some]
    by_cases hl : pz_ltr b p i = true
    · obtain ⟨l1, l2, l3, l4⟩ := pz_le_sp hl
      have htok : pz_tok b p i = (pz_wk b i (pz_le b p i), i, pz_le b p i, 0) := by unfold pz_tok; rw [if_pos hl]
      rw [if_pos hl, pc_letters hby hl, Option.bind_some, pc_word (w := w) (c := c) hby (by rw [hatt M1 g3]; exact hW) ⟨l1, l2⟩ (fun j h1 h2 => by have := pz_ltr_c (l3 j h1 h2); omega), Option.bind_some]
      rw [htok] at hend
      cases hd : pz_wd (pz_sl b i (pz_le b p i)) with
      | some j =>
        have hj := (List.getElem?_eq_some_iff.1 (pz_wd_some hd)).1
        have h22 : pr_words.length = 22 := rfl
        have hwk : pz_wk b i (pz_le b p i) = 20 + j := by unfold pz_wk; rw [hd]
        rw [if_neg (show ¬ pj (pz_oi (some j)) < 0 by rw [py_lt0 (by show -1 ≤ ((j : Nat) : Int) ∧ ((j : Nat) : Int) < 1000; omega)]; show ¬ ((j : Nat) : Int) < 0; omega), Option.bind_some, Option.bind_some]
        refine hend (pz_le b p i) 3 (pj (j : Nat)) rfl ?_ (fun _ => ?_)
        · show 3 = pc_st (pz_wk b i (pz_le b p i)); rw [hwk, pc_st3.2 (by omega)]
        · show _ = pj (pc_wh (pz_wk b i (pz_le b p i)) : Nat)
          have : pc_wh (20 + j) = j := by
            unfold pc_wh; repeat' split
            all_goals omega
          rw [hwk, this, pj_sh j (by omega)]
      | none =>
        have hwk : pz_wk b i (pz_le b p i) = if 8 < pz_le b p i - i then 3 else 1 := by unfold pz_wk; rw [hd]
        rw [if_pos (by decide), pj_sub]
        by_cases h8 : 8 < pz_le b p i - i
        · rw [if_pos (by rw [show (8 : Int32) = pj 8 from rfl, pj_lt (by omega) (by omega)]; omega), Option.bind_some, Option.bind_some]
          rw [if_pos h8] at hwk
          refine hend (pz_le b p i) 5 _ rfl ?_ (fun q => ?_)
          · show 5 = pc_st (pz_wk b i (pz_le b p i)); rw [hwk]; rfl
          · have q : 4 ≤ pz_wk b i (pz_le b p i) := q; omega
        · rw [if_neg (by rw [show (8 : Int32) = pj 8 from rfl, pj_lt (by omega) (by omega)]; omega), Option.bind_some, Option.bind_some]
          rw [if_neg h8] at hwk
          refine hend (pz_le b p i) 0 _ rfl ?_ (fun q => ?_)
          · show 0 = pc_st (pz_wk b i (pz_le b p i)); rw [hwk]; rfl
          · have q : 4 ≤ pz_wk b i (pz_le b p i) := q; omega
    rw [if_neg hl, pc_isDigit hby (by omega), Option.bind_some]
    by_cases hdg : pz_dig b p i = true
    · obtain ⟨l1, l2, l3, l4⟩ := pz_de_sp hdg
      have htok : pz_tok b p i = (if 4 < pz_de b p i - i then 3 else 2, i, pz_de b p i, pz_num b i (pz_de b p i - i)) := by unfold pz_tok; rw [if_neg hl, if_pos hdg]
      rw [if_pos hdg, pc_digits hby hdg, Option.bind_some, pj_sub]
      rw [htok] at hend
      by_cases h4 : 4 < pz_de b p i - i
      · rw [if_pos (by rw [show (4 : Int32) = pj 4 from rfl, pj_lt (by omega) (by omega)]; omega), Option.bind_some, Option.bind_some]
        refine hend (pz_de b p i) 5 _ rfl ?_ (fun q => ?_)
        · show 5 = pc_st (if 4 < pz_de b p i - i then 3 else 2); rw [if_pos h4]; rfl
        · have q : 4 ≤ (if 4 < pz_de b p i - i then 3 else 2) := q
          rw [if_pos h4] at q; omega
      · rw [if_neg (by rw [show (4 : Int32) = pj 4 from rfl, pj_lt (by omega) (by omega)]; omega), Option.bind_some, Option.bind_some]
        refine hend (pz_de b p i) 1 _ rfl ?_ (fun q => ?_)
        · show 1 = pc_st (if 4 < pz_de b p i - i then 3 else 2); rw [if_neg h4]; rfl
        · have q : 4 ≤ (if 4 < pz_de b p i - i then 3 else 2) := q
          rw [if_neg h4] at q; omega
    · have htok : pz_tok b p i = (pz_sg (pz_c b p i), i, i + 1, 0) := by unfold pz_tok; rw [if_neg hl, if_neg hdg]
      rw [if_neg hdg, pc_sign hby (by omega), Option.bind_some]
      rw [htok] at hend
      have hcb := pc_c_bd hby i
      obtain ⟨w1, w2⟩ := pc_sg_w (pz_c b p i) hcb
      by_cases h3 : pz_sg (pz_c b p i) = 3
      · rw [if_pos h3, if_pos rfl, Option.bind_some, Option.bind_some]
        refine hend (i + 1) 5 _ rfl ?_ (fun q => ?_)
        · show 5 = pc_st (pz_sg (pz_c b p i)); rw [w1, if_pos h3]
        · have q : 4 ≤ pz_sg (pz_c b p i) := q; omega
      · have w2 := w2 h3
        have hwb := pc_wh_bd (k := pz_sg (pz_c b p i)) (by have := pz_sg_bd (pz_c b p i); omega)
        have hne : ¬ pj (pz_c b p i) = 0 := by
          rw [pj_0, pj_eq (by omega) (by omega), ← w2]
          have := pz_sg_bd (pz_c b p i)
          intro q
          have h0 : pc_wh (pz_sg (pz_c b p i)) = 0 := by omega
          rw [h0] at w2
          rw [← w2] at h3
          exact h3 (by decide)
        rw [if_neg h3, if_neg hne, Option.bind_some, Option.bind_some]
        refine hend (i + 1) 2 _ rfl ?_ (fun q => ?_)
        · show 2 = pc_st (pz_sg (pz_c b p i)); rw [w1, if_neg h3]
        · show vp_nar .short (zs_i16 (pj (pz_c b p i))) = pj (pc_wh (pz_sg (pz_c b p i)) : Nat)
          have e9 : pj (pz_c b p i) = pj ((pc_wh (pz_sg (pz_c b p i)) : Nat) : Int) := by rw [w2]
          rw [e9, pj_sh _ (by omega)]
  obtain ⟨⟨rk, rg, rM⟩, l1, i, n, l2, l3, l4⟩ := hloop
  rw [l1, Option.bind_some]
  dsimp only at l2 l3 l4 ⊢
  obtain ⟨g1, g2, g3, g4, g5⟩ := l3
  rcases g5 with ⟨rfl, pre, f, e1, e2, e3, e4⟩ | ⟨rfl, hz1, hz2⟩
  · rw [if_neg (by decide), l2]
    have hip := l4 rfl
    subst hip
    obtain ⟨f, rfl⟩ : ∃ g, f = g + 1 := ⟨f - 1, by omega⟩
    have e5 : pz_toks b i (f + 1) i = [(0, i, i, 0)] := by
      show (if i ≤ i then [(0, i, i, 0)] else _) = _
      rw [if_pos (Nat.le_refl _)]
    rw [e5] at e1
    obtain ⟨M', a1, a2, a3, a4⟩ := pc_add (w := w) (c := c) (M := rM) (n := n) (s := 4) (f := i) (t := i) (by omega) g4 (by omega) (by omega) 0
    have a1 : gp_X2_add w c rM 4 (pj (i : Nat)) (pj (i : Nat)) 0 = some M' := a1
    rw [a1]
    refine ⟨M', rfl, pc_cu_trans g3 a2, hdone M' (pc_cu_trans g3 a2) (fun j q hj => ?_)⟩
    obtain ⟨c1, c2, c3, c4⟩ := a4 j
    rw [e1] at hj
    rcases pz_app_get hj with ⟨q1, q2⟩ | ⟨q1, q2⟩
    · have hq := e4 j q q2
      rw [if_neg (by omega)] at c1 c2 c3 c4
      exact ⟨c1.trans hq.1, c2.trans hq.2.1, c3.trans hq.2.2.1, fun e => c4.trans (hq.2.2.2 e)⟩
    · rw [if_pos (by omega)] at c1 c2 c3 c4
      subst q2
      exact ⟨c1, c2, c3, fun e => absurd e (by show ¬ 4 ≤ 0; omega)⟩
  · rw [if_pos rfl]
    exact ⟨rM, rfl, g3, hdone rM g3 hz2⟩
end CR
