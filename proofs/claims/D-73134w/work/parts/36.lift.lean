/-! a contract over one relation taken into another; cells that differ where nobody looks -/
set_option maxRecDepth 100000
section LF
variable {σ σ' α : Type} {D : zs_D} {Rl : σ → zs_AH → Prop} {Rl' : σ' → zs_AH → Prop} {bd : σ → Nat × Nat} {bd' : σ' → Nat × Nat} {enc : α → Option Value} {y : MethodName} {cc : ByteArray} {nL : Nat} {rt : Option FieldType} {d : Nat} {av : List Value} {M : σ} {M' : σ'}
theorem zs_lift {o : Option (α × σ)} (up : σ → σ') (hC : zs_Con D Rl bd enc y cc nL rt d av M o)
    (hb : ∀ r M1, o = some (r, M1) → ((bd' (up M1)).1 ≤ (bd' M').1 ∧ (bd' (up M1)).2 ≤ (bd' M').2) ∧ (bd' M').1 - (bd' (up M1)).1 = (bd M).1 - (bd M1).1 ∧ (bd' M').2 - (bd' (up M1)).2 = (bd M).2 - (bd M1).2)
    (h1 : ∀ h H, Rl' M' h → zs_R D h H → ∃ g, g.1 = h.1 ∧ Rl M g ∧ zs_R D g H)
    (h2 : ∀ r M1 g H hp Hp, o = some (r, M1) → Rl' M' hp → zs_R D hp Hp → Rl M1 g → zs_R D g H → ∃ h, h.1 = g.1 ∧ Rl' (up M1) h ∧ zs_R D h H) : zs_Con D Rl' bd' enc y cc nL rt d av M' (o.map fun z => (z.1, up z.2)) := by
  intro r M2 e
  cases ho : o with
  | none => rw [ho] at e; cases e
  | some z =>
    rw [ho] at e
    obtain ⟨rfl, rfl⟩ : z.1 = r ∧ up z.2 = M2 := ⟨congrArg (fun z => z.1) (Option.some.inj e), congrArg (fun z => z.2) (Option.some.inj e)⟩
    obtain ⟨-, hM⟩ := hC z.1 z.2 ho
    obtain ⟨b1, b2, b3⟩ := hb z.1 z.2 ho
    refine ⟨b1, fun l base hfl => ?_⟩
    have hM := hM l base hfl
    rw [b2, b3]
    refine MetFree.mono hM ?_ (fun _ _ _ _ _ h => h) ?_
    · intro a s hp
      obtain ⟨p1, p2, p3, h, p4, p5, p6⟩ := hp
      obtain ⟨g, g1, g2, g3⟩ := h1 h _ p5 p6
      exact ⟨p1, p2, p3, g, g1.trans p4, g2, g3⟩
    · intro a s oc t hp hq
      obtain ⟨-, -, -, h9, -, p5, p6⟩ := hp
      obtain ⟨⟨q1, ⟨g, g1, g2, g3⟩, q3⟩, q4⟩ := hq
      obtain ⟨h, k1, k2, k3⟩ := h2 z.1 z.2 g _ h9 _ ho p5 p6 g2 g3
      exact ⟨⟨q1, ⟨h, k1.trans g1, k2, k3⟩, q3⟩, q4⟩
theorem zx_lift {ex : Nat} {o : Option (Option α × σ)} (up : σ → σ') (hC : zx_Con D Rl bd enc y cc nL rt d av M ex o)
    (hb : ∀ r M1, o = some (r, M1) → ((bd' (up M1)).1 ≤ (bd' M').1 ∧ (bd' (up M1)).2 ≤ (bd' M').2) ∧ (bd' M').1 - (bd' (up M1)).1 = (bd M).1 - (bd M1).1 ∧ (bd' M').2 - (bd' (up M1)).2 = (bd M).2 - (bd M1).2)
    (h1 : ∀ h H, Rl' M' h → zs_R D h H → ∃ g, g.1 = h.1 ∧ Rl M g ∧ zs_R D g H)
    (h2 : ∀ r M1 g H hp Hp, o = some (r, M1) → Rl' M' hp → zs_R D hp Hp → Rl M1 g → zs_R D g H → ∃ h, h.1 = g.1 ∧ Rl' (up M1) h ∧ zs_R D h H) : zx_Con D Rl' bd' enc y cc nL rt d av M' ex (o.map fun z => (z.1, up z.2)) := by
  intro r M2 e
  cases ho : o with
  | none => rw [ho] at e; cases e
  | some z =>
    rw [ho] at e
    obtain ⟨v, M1⟩ := z
    obtain ⟨rfl, rfl⟩ : v = r ∧ up M1 = M2 := ⟨congrArg (fun z => z.1) (Option.some.inj e), congrArg (fun z => z.2) (Option.some.inj e)⟩
    obtain ⟨-, hM⟩ := hC v M1 ho
    obtain ⟨b1, b2, b3⟩ := hb v M1 ho
    refine ⟨b1, fun l base hfl => ?_⟩
    have hM := hM l base hfl
    rw [b2, b3]
    refine MetFree.mono hM ?_ (fun _ _ _ _ _ h => h) ?_
    · intro a s hp
      obtain ⟨p1, p2, p3, h, p4, p5, p6⟩ := hp
      obtain ⟨g, g1, g2, g3⟩ := h1 h _ p5 p6
      exact ⟨p1, p2, p3, g, g1.trans p4, g2, g3⟩
    · intro a s oc t hp hq
      obtain ⟨-, -, -, h9, -, p5, p6⟩ := hp
      cases v with
      | some w =>
        rcases hq with ⟨⟨q1, ⟨g, g1, g2, g3⟩, q3⟩, q4⟩ | ⟨q, rfl, E, ce, L, hx, -⟩
        · obtain ⟨h, k1, k2, k3⟩ := h2 (some w) M1 g _ h9 _ ho p5 p6 g2 g3
          exact Or.inl ⟨⟨q1, ⟨h, k1.trans g1, k2, k3⟩, q3⟩, q4⟩
        · exact hx.elim
      | none =>
        rcases hq with ⟨q1, -⟩ | ⟨q, rfl, E, ce, L, ⟨x1, x2, ⟨g, g1, g2, g3⟩, x3⟩, hr⟩
        · exact q1.elim
        · obtain ⟨h, k1, k2, k3⟩ := h2 none M1 g _ h9 _ ho p5 p6 g2 g3
          exact Or.inr ⟨q, rfl, E, ce, L, ⟨x1, x2, ⟨h, k1.trans g1, k2, k3⟩, x3⟩, hr⟩
end LF
/-- a cell seen otherwise where nobody looks -/
theorem zs_A_pt {D : zs_D} {a : Nat} {x y : zs_HC} {H : Heap} (h : zs_A D a x H) (e1 : x.1 = y.1) (e2 : x.2.1 = y.2.1) (e3 : ∀ k, k < x.2.1 → x.2.2 k = y.2.2 k) : zs_A D a y H := by
  rcases h with ⟨q, r, h1, h2, h3⟩ | ⟨q, h⟩
  · refine Or.inl ⟨e1 ▸ q, r, e1 ▸ h1, h2.trans e2, ?_⟩
    rw [← e1, ← e2]
    exact h3.to e3
  · refine Or.inr ⟨e1 ▸ q, ?_⟩
    rw [h, ← e1, ← e2]
    unfold arrV
    refine congrArg some ?_
    congr 1
    apply Array.ext
    · simp
    · intro i g1 g2
      simp at g1 ⊢
      exact e3 i g1
theorem zs_R_pt {D : zs_D} {h g : zs_AH} {H : Heap} (hZ : zs_R D h H) (e0 : g.2.1 = h.2.1) (e1 : ∀ a y, g.2.2 a = some y → ∃ x, h.2.2 a = some x ∧ x.1 = y.1 ∧ x.2.1 = y.2.1 ∧ ∀ k, k < x.2.1 → x.2.2 k = y.2.2 k) : zs_R D g H := by
  refine ⟨e0.trans hZ.1, fun a y hy => ?_⟩
  obtain ⟨x, x1, x2, x3, x4⟩ := e1 a y hy
  exact zs_A_pt (hZ.2 a x x1) x2 x3 x4
