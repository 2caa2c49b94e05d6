/-! HairRope.read called -/
set_option maxRecDepth 100000
def zs_mVW (C : String) (y : MethodName) (cc : ByteArray) (nL : Nat) (rt : Option FieldType) (hh : List (Nat × Nat × Nat × Nat)) (n : Nat) : Prop :=
  Cond.instanceMethod y ∈ lw_all ∧ Cond.selects C y y ∈ lw_all ∧ Cond.initialized C ∈ lw_all ∧ Cond.codeWith y cc nL rt hh ∈ lw_all ∧ nL ≤ 45 ∧ (y.cls = C ∧ y.cls ≠ "java/lang/invoke/MethodHandle" ∧ y.cls ≠ "java/lang/invoke/VarHandle" ∧ (parseMethodDescriptor y.desc).map (fun d => d.parameters.length) = some n)
section ZW
variable {σ α β τ : Type} {D : zs_D} {Rl : σ → zs_AH → Prop} {bd : σ → Nat × Nat} {Fn : zs_Q σ α} {own : String} {cc : ByteArray} {nL : Nat} {rt : Option FieldType} {nm : String} {d : Nat} {M : σ} {pc : Nat} {lv : List (Nat × Value)} {st : List Value} {o : Option β} {K : β → Option (α × σ)}
theorem zs_callW0 {y : MethodName} {cc' : ByteArray} {nL' d' n i ci : Nat} {rt' : Option FieldType} {hh : List (Nat × Nat × Nat × Nat)} {enc : τ → Option Value} {b : Nat} {g : Option (τ × σ)} {f : τ × σ → Option β} {C : String} {T : u_T} {N : Nat} {ty : Nat → FieldType} {st0 : List Value} (As rest : List Value)
    (hC : zs_ConW D Rl bd enc y cc' nL' rt' hh d' (.ref b :: As) M g) (hm : zs_mVW C y cc' nL' rt' hh n) (hl : Cond.methodLink own i y ∈ lw_all) (hc : zs_cls ci C T N ty) (hb : ∀ h, Rl M h → ∃ k f, h.2.2 b = some (ci, k, f)) (hd : decode cc pc = .ok (.invokevirtual i, 3)) (hst : st0 = As.reverse ++ .ref b :: rest) (hn : As.length = n) (hdd : d' + 1 ≤ d) (hw : (rest.map fun v => v.category).sum ≤ 8)
    (k : ∀ (r : τ) (M1 : σ), g = some (r, M1) → zs_Sim D Rl bd Fn own cc nL rt nm d M1 (pc + 3) lv ((enc r).toList ++ rest) (f (r, M1)) K) : zs_Sim D Rl bd Fn own cc nL rt nm d M pc lv st0 (g.bind f) K := by
  intro r M' ee
  cases hg : g with
  | none => rw [hg] at ee; cases ee
  | some x =>
    obtain ⟨v, M1⟩ := x
    rw [hg] at ee
    obtain ⟨hm1, hM⟩ := hC v M1 hg
    obtain ⟨hm2, k⟩ := k v M1 hg r M' ee
    refine ⟨⟨Nat.le_trans hm2.1 hm1.1, Nat.le_trans hm2.2 hm1.2⟩, fun p l e R s m args below meth c H locs cells slots h ls Cx h1 h2 h3 h4 hR hZ hS hl9 => ?_⟩
    have Cx0 := Cx
    obtain ⟨c1, c2, c3, c4, c5, c6, c7, c8, c9, c10⟩ := Cx
    obtain ⟨m1, m2, m3, m4, m5, m6⟩ := hm
    obtain ⟨kb, fb, eb⟩ := hb h hR
    obtain ⟨rr, q1, q2, cell, q3, q4, q5, -⟩ := zs_obj hZ eb hc.1
    have hcl : s.vm.findClass C = some cell.cls := by rw [q4]; exact (c8.1 ci (C, T, N) hc.2.1).2.1
    refine zs_after (zx_runVW (As := As) (rest := rest) (free := fun q => h.1 ≤ q) (n := n) (index := i) (C := C) (b := b) (bytes := cc') (maxL := nL') (ret := rt') (hh := hh) (ws := wsW_ y cc' nL' rt' hh) ⟨c1, c2, c5, c6, c7⟩ (hM l h.1 c10) (zx_cwVW n c7 (lw_VW hl m1 m2 m3 m4) rfl rfl rfl m6 ⟨by show d' + 1 ≤ R.frames; omega, by show 8 + (nL' + 11) + 64 * d' ≤ R.locals; omega⟩)
      ⟨zs_Pc_blind, ⟨cell, q3, by rw [q5]; rfl, hcl⟩, fun U hU hW => ⟨rfl, zs_K_next hW (fun a ha hb => by rw [hU]; exact hS.2.2.1 a ha hb) c8, by rw [hU]; exact Nat.le_trans hS.1 hS.2.1, h, rfl, hR, by rw [hU]; exact hZ⟩⟩ rfl hn hl9.1 hst (lv_room hw) hd ⟨by omega, by omega⟩) hS ?_
    intro h9 H1 locs1 e1 e2 e3 e4
    refine e1 ▸ k p l e R s m args below meth c H1 locs1 _ _ h9 ls ?_ h1 h2 (by omega) (by omega) e2 e3 (e1 ▸ e4) hl9
    rw [e1]; exact Cx0
end ZW
theorem wh_read : zs_mVW RX0 yX0_read cX0_read 3 (some .int) [(7, 59, 62, 14)] 0 := ⟨q625, q626, q134, q627, by decide, by decide +kernel⟩
section LR
variable {D : zs_D} {w : Nat → Nat} {P : Nat → Bool} {c m b L : Nat} {xs : Nat → Int32} {s : ls_S}
/-- what lay there before lies there still -/
def ls_rok (P : Nat → Bool) (m b L : Nat) (xs : Nat → Int32) (Z : zm_S) (z : rd_S) : Prop := zm_h z.2.2.1 m Z = z.2.2.1 ∧ z.2.2.1.2.2 b = some (64, L, fun j => .int (xs j)) ∧ z.2.2.1.1 ≤ m ∧ zt_at (cs_rs P z.2.2.1) z.1
noncomputable def ls_read (w : Nat → Nat) (P : Nat → Bool) (c m b L : Nat) (xs : Nat → Int32) (s : ls_S) : Option (Int32 × ls_S) := (gh_read w P c s.1 (ls_M m s)).bind fun z => @ite _ (ls_rok P m b L xs s.2.2 z.2) (Classical.propDecidable _) (some (z.1, (z.2.1, z.2.2, s.2.2))) none
theorem kl_read (hE : D.2.2.2 1 = .ref (w 100)) (hF : D.2.2.2 4 = hp_v (w 101)) (hP : ∀ a, cs_dom c a → P a = true) : zs_ConW D (ls_R w P c m b L xs) ls_bd zs_eI yX0_read cX0_read 3 (some .int) [(7, 59, 62, 14)] 60 [.ref (c + 0)] s (ls_read w P c m b L xs s) := by
  intro r s' e
  unfold ls_read at e
  obtain ⟨z, hz, e⟩ := zs_bsome e
  by_cases hok : ls_rok P m b L xs s.2.2 z.2
  · rw [if_pos hok] at e
    obtain ⟨rfl, rfl⟩ : z.1 = r ∧ (z.2.1, z.2.2, s.2.2) = s' := ⟨congrArg (fun z => z.1) (Option.some.inj e), congrArg (fun z => z.2) (Option.some.inj e)⟩
    obtain ⟨hm, hM⟩ := kh_read (D := D) (w := w) (P := P) (c := c) (T := s.1) (M := ls_M m s) hE hF hP z.1 z.2 hz
    refine ⟨hm, fun l base hfl => ?_⟩
    refine MetFree.mono (hM l base hfl) ?_ (fun _ _ _ _ _ h => h) ?_
    · intro a t hp
      obtain ⟨p1, p2, p3, h, p4, p5, p6⟩ := hp
      exact ⟨p1, p2, p3, h, p4, p5.1, p6⟩
    · intro a t oc t2 _ hq
      obtain ⟨⟨q1, ⟨h, q4, q5, q6⟩, q3⟩, q7⟩ := hq
      refine ⟨⟨q1, ⟨h, q4, ⟨?_, hok.2.2.2, hok.2.2.1, hok.2.1⟩, q6⟩, q3⟩, q7⟩
      obtain ⟨r1, r2, r3⟩ := q5
      refine ⟨r1, r2, r3.trans ?_⟩
      show cs_h (w, z.2.1, z.2.2.2.2.1) z.2.2.2.1 c z.2.2.1 = cs_h (w, z.2.1, z.2.2.2.2.1) (zm_h z.2.2.2.1 m s.2.2) c z.2.2.1
      rw [hok.1]
  · rw [if_neg hok] at e; cases e
end LR
