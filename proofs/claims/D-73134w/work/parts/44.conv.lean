/-! the state seen otherwise from here on -/
set_option maxRecDepth 100000
theorem zs_Wq {p : Program} {l : Launch} {e : Env} {R : Room} {s : State} {m : MethodId} {args : Array Value} {below : List Frame} {meth : Method} {c : Code} {H : Heap} {locs : List Loc} {cells slots : Nat} {Q Q' : State → Prop} {g : JFrame} (h : ∀ t, Q t → Q' t) (k : W p l e R s m args below meth c H locs cells slots Q g) : W p l e R s m args below meth c H locs cells slots Q' g := fun T hT X => by
  obtain ⟨t, a, b⟩ := k T hT X
  exact ⟨t, a, h t b⟩
theorem zs_conv {σ σ' α β : Type} {D : zs_D} {Rl : σ → zs_AH → Prop} {Rl' : σ' → zs_AH → Prop} {bd : σ → Nat × Nat} {bd' : σ' → Nat × Nat} {enc : α → Option Value} {own : String} {cc : ByteArray} {nL : Nat} {rt : Option FieldType} {nm : String} {d : Nat} {M : σ} {M' : σ'} {pc : Nat} {lv : List (Nat × Value)} {st : List Value} {o : Option β} {K : β → Option (α × σ)} {K' : β → Option (α × σ')} (up : σ' → σ)
    (h1 : ∀ h H, Rl M h → zs_R D h H → ∃ g, g.1 = h.1 ∧ Rl' M' g ∧ zs_R D g H) (h2 : ∀ M2 g H, Rl' M2 g → zs_R D g H → ∃ h, h.1 = g.1 ∧ Rl (up M2) h ∧ zs_R D h H) (hb : ∀ M2, (bd M).1 + (bd' M2).1 = (bd' M').1 + (bd (up M2)).1 ∧ (bd M).2 + (bd' M2).2 = (bd' M').2 + (bd (up M2)).2) (hK : ∀ b, K b = (K' b).map fun z => (z.1, up z.2))
    (k : zs_Sim D Rl' bd' (zs_Fn D Rl' enc) own cc nL rt nm d M' pc lv st o K') : zs_Sim D Rl bd (zs_Fn D Rl enc) own cc nL rt nm d M pc lv st o K := by
  intro r M1 ee
  have e2 : ∃ M2, o.bind K' = some (r, M2) ∧ up M2 = M1 := by
    cases ho : o with
    | none => rw [ho] at ee; cases ee
    | some b =>
      rw [ho] at ee
      have ee' : K b = some (r, M1) := ee
      rw [hK] at ee'
      cases hk : K' b with
      | none => rw [hk] at ee'; cases ee'
      | some z =>
        rw [hk] at ee'
        obtain ⟨rfl, rfl⟩ : z.1 = r ∧ up z.2 = M1 := ⟨congrArg (fun z => z.1) (Option.some.inj ee'), congrArg (fun z => z.2) (Option.some.inj ee')⟩
        exact ⟨z.2, by show K' b = _; rw [hk], rfl⟩
  obtain ⟨M2, e2, rfl⟩ := e2
  obtain ⟨hm, k⟩ := k r M2 e2
  obtain ⟨hb1, hb2⟩ := hb M2
  refine ⟨⟨by omega, by omega⟩, fun p l e R s m args below meth c H locs cells slots h ls C g1 g2 g3 g4 hR hZ hS hl => ?_⟩
  obtain ⟨g, q1, q2, q3⟩ := h1 h H hR hZ
  have := k p l e R s m args below meth c H locs cells slots g ls (by rw [q1]; exact C) g1 g2 (by omega) (by omega) q2 q3 (by rw [q1]; exact hS) hl
  refine zs_Wq (fun t ht => ?_) this
  obtain ⟨oc, a1, a2, ⟨a3, ⟨h', b1, b2, b3⟩, a4⟩, a5⟩ := ht
  obtain ⟨h9, d1, d2, d3⟩ := h2 M2 h' _ b2 b3
  rw [q1] at b1 a4 a5
  exact ⟨oc, a1, a2, ⟨a3, ⟨h9, d1.trans b1, d2, d3⟩, a4⟩, a5⟩
