/-! the law's state: text, component, model; contracts lifted into it -/
set_option maxRecDepth 100000
abbrev ls_S : Type := zt_T × ps_S × zm_S
def ls_h0 (m : Nat) (s : ls_S) : zs_AH := zm_h s.2.1.2.1 m s.2.2
def ls_M (m : Nat) (s : ls_S) : ps_S := (s.2.1.1, ls_h0 m s, s.2.1.2.2)
def ls_R (w : Nat → Nat) (P : Nat → Bool) (c m b L : Nat) (xs : Nat → Int32) : ls_S → zs_AH → Prop := fun s h => ps_R (w, s.1, .null) c (ls_M m s) h ∧ zt_at (cs_rs P s.2.1.2.1) s.1 ∧ s.2.1.2.1.1 ≤ m ∧ s.2.1.2.1.2.2 b = some (64, L, fun j => .int (xs j))
def ls_bd : ls_S → Nat × Nat := fun s => ps_bd s.2.1
def ls_uC (s : ls_S) (S : cs_S) : ls_S := (s.1, (S, s.2.1.2), s.2.2)
def ls_uM (s : ls_S) (Z : zm_S) : ls_S := (s.1, s.2.1, Z)
theorem ls_rs {P : Nat → Bool} {m : Nat} (hPm : ∀ a, m ≤ a → a < m + 49 → P a = true) (h : zs_AH) (Z : zm_S) : cs_rs P (zm_h h m Z) = cs_rs P h := by
  funext a
  unfold cs_rs
  cases hp : P a with
  | true => rfl
  | false =>
    show (if m ≤ a ∧ a < m + 49 then some (zm_cell m Z (a - m)) else h.2.2 a) = h.2.2 a
    rw [if_neg (fun z => by rw [hPm a z.1 z.2] at hp; cases hp)]
theorem ls_swap {W : cs_W} {c m : Nat} (hd : m + 49 ≤ c ∨ c + 561 ≤ m) (h : zs_AH) (S : cs_S) (Z : zm_S) : cs_h W (zm_h h m Z) c S = zm_h (cs_h W h c S) m Z := by
  refine Prod.ext rfl (Prod.ext rfl (funext fun a => ?_))
  show (if c ≤ a ∧ a < c + 561 ∧ ¬ (c + 10 ≤ a ∧ a < c + 20) then some (cs_cell W c S (a - c)) else if m ≤ a ∧ a < m + 49 then some (zm_cell m Z (a - m)) else h.2.2 a) = if m ≤ a ∧ a < m + 49 then some (zm_cell m Z (a - m)) else if c ≤ a ∧ a < c + 561 ∧ ¬ (c + 10 ≤ a ∧ a < c + 20) then some (cs_cell W c S (a - c)) else h.2.2 a
  by_cases h1 : c ≤ a ∧ a < c + 561 ∧ ¬ (c + 10 ≤ a ∧ a < c + 20)
  · rw [if_pos h1, if_neg (by omega), if_pos h1]
  · rw [if_neg h1, if_neg h1]
section LS
variable {α : Type} {D : zs_D} {w : Nat → Nat} {P : Nat → Bool} {c m b L : Nat} {xs : Nat → Int32} {enc : α → Option Value} {y : MethodName} {cc : ByteArray} {nL : Nat} {rt : Option FieldType} {d : Nat} {av : List Value} {s : ls_S}
theorem ls_liftC (hP : ∀ a, cs_dom c a → P a = true) (hPm : ∀ a, m ≤ a → a < m + 49 → P a = true) {o : Option (α × cs_S)} (hC : zs_Con D (cs_R (w, s.1, s.2.1.2.2.1) P (ls_h0 m s) c) cs_bd enc y cc nL rt d av s.2.1.1 o) : zs_Con D (ls_R w P c m b L xs) ls_bd enc y cc nL rt d av s (o.map fun z => (z.1, ls_uC s z.2)) := by
  refine zs_lift (ls_uC s) hC (fun r M1 _ => ⟨⟨Nat.le_refl _, Nat.le_refl _⟩, Nat.sub_self _, Nat.sub_self _⟩) (fun h H hR hZ => ⟨h, rfl, ?_, hZ⟩) (fun r M1 g H hp Hp _ hRp _ hg hZ => ⟨g, rfl, ?_, hZ⟩)
  · obtain ⟨⟨r1, r2, r3⟩, r4, r5, r6⟩ := hR
    exact ⟨r1, hP, r3, by unfold ls_h0; rw [ls_rs hPm]; exact r4⟩
  · obtain ⟨⟨r1, r2, r3⟩, r4, r5, r6⟩ := hRp
    exact ⟨⟨r1, r2, hg.2.2.1⟩, r4, r5, r6⟩
theorem ls_liftM (hdis : m + 49 ≤ c ∨ c + 561 ≤ m) {o : Option (α × zm_S)} (hC : zs_Con D (zm_R (cs_h (w, s.1, s.2.1.2.2.1) s.2.1.2.1 c s.2.1.1) m) zm_bd enc y cc nL rt d av s.2.2 o) : zs_Con D (ls_R w P c m b L xs) ls_bd enc y cc nL rt d av s (o.map fun z => (z.1, ls_uM s z.2)) := by
  refine zs_lift (ls_uM s) hC (fun r M1 _ => ⟨⟨Nat.le_refl _, Nat.le_refl _⟩, Nat.sub_self _, Nat.sub_self _⟩) (fun h H hR hZ => ⟨h, rfl, ?_, hZ⟩) (fun r M1 g H hp Hp _ hRp _ hg hZ => ⟨g, rfl, ?_, hZ⟩)
  · obtain ⟨⟨r1, r2, r3⟩, r4, r5, r6⟩ := hR
    exact ⟨r5, r3.trans (ls_swap hdis _ _ _)⟩
  · obtain ⟨⟨r1, r2, r3⟩, r4, r5, r6⟩ := hRp
    exact ⟨⟨r1, r2, hg.2.trans (ls_swap hdis _ _ _).symm⟩, r4, r5, r6⟩
theorem ls_rcvC {s : ls_S} : ∀ h, ls_R w P c m b L xs s h → ∃ k f, h.2.2 (c + 0) = some (0, k, f) := fun h hR => ⟨_, _, ps_cellO (o := 0) ⟨⟨by decide, by decide⟩, rfl⟩ hR.1⟩
theorem ls_rcvM (hdis : m + 49 ≤ c ∨ c + 561 ≤ m) {s : ls_S} : ∀ h, ls_R w P c m b L xs s h → ∃ k f, h.2.2 m = some (10, k, f) := fun h hR => by
  obtain ⟨⟨r1, r2, r3⟩, r4, r5, r6⟩ := hR
  have e := r3.trans (ls_swap (W := ps_W (w, s.1, .null) (ls_M m s)) hdis s.2.1.2.1 s.2.1.1 s.2.2)
  exact zm_recv (h0 := cs_h (ps_W (w, s.1, .null) (ls_M m s)) s.2.1.2.1 c s.2.1.1) h ⟨r5, e⟩
theorem ls_scr (hdis : ¬ (m ≤ b ∧ b < m + 49) ∧ ¬ (c ≤ b ∧ b < c + 561)) {s : ls_S} : ∀ h, ls_R w P c m b L xs s h → h.2.2 b = some (64, L, fun j => .int (xs j)) := fun h hR => by
  obtain ⟨⟨r1, r2, r3⟩, r4, r5, r6⟩ := hR
  rw [r3]
  show (if c ≤ b ∧ b < c + 561 ∧ ¬ (c + 10 ≤ b ∧ b < c + 20) then _ else if m ≤ b ∧ b < m + 49 then _ else s.2.1.2.1.2.2 b) = _
  rw [if_neg (fun z => hdis.2 ⟨z.1, z.2.1⟩), if_neg hdis.1]
  exact r6
end LS
