/-! HairRopeModel.<init>: from its made cells to the model's state -/
set_option maxRecDepth 100000
def zm_S0 : zm_S := (fun k => if k = 17 then -1 else 0, fun _ _ => 0, fun _ _ => 0)
def hm_ok (M : ps_S) (m : Nat) : Prop := M.2.1.1 ≤ m ∧ ∀ j, j < 49 → ∃ x, M.2.1.2.2 (m + j) = some x ∧ x.1 = (zm_cell m zm_S0 j).1 ∧ x.2.1 = (zm_cell m zm_S0 j).2.1 ∧ ∀ k, k < x.2.1 → x.2.2 k = (zm_cell m zm_S0 j).2.2 k
def hm_fin (M : ps_S) (m : Nat) (Z : zm_S) : ps_S := (M.1, zm_h M.2.1 m Z, M.2.2)
noncomputable def hm_end (M : ps_S) (m : Nat) : Option ps_S := @ite _ (hm_ok M m) (Classical.propDecidable _) ((gm_initT zm_S0).map (hm_fin M m)) none
theorem hm_end_eq {M : ps_S} {m : Nat} (h : hm_ok M m) : hm_end M m = (gm_initT zm_S0).map (hm_fin M m) := by
  unfold hm_end
  rw [if_pos h]
theorem hm_end_no {M : ps_S} {m : Nat} (h : ¬ hm_ok M m) : hm_end M m = none := by
  unfold hm_end
  rw [if_neg h]
theorem kq_mend (D : zs_D) (M : ps_S) (a0 : Nat) : zs_Sim D hp_R ps_bd (zs_Fn D hp_R zs_eV) RX10 cX10_init 1 none "<init>" 2 M 401 [(0, .ref a0)] [] (hm_end M a0) (fun x => some ((), x)) := by
  by_cases hok : hm_ok M a0
  · rw [hm_end_eq hok]
    refine zs_eqo (o2 := (gm_initT zm_S0).bind fun Z => some (hm_fin M a0 Z)) (by cases gm_initT zm_S0 <;> rfl) ?_
    refine zs_bindK ?_
    refine zs_conv (Rl' := zm_R M.2.1 a0) (bd' := zm_bd) (M' := zm_S0) (K' := fun Z => some ((), Z)) (hm_fin M a0) ?_ ?_ (fun M2 => ⟨by show M.2.2.2.1 + 0 = 0 + M.2.2.2.1; omega, by show M.2.2.2.2 + 0 = 0 + M.2.2.2.2; omega⟩) (fun b => rfl) ?_
    · intro h H hR hZ
      refine ⟨zm_h M.2.1 a0 zm_S0, by rw [show h = M.2.1 from hR]; rfl, ⟨hok.1, rfl⟩, ?_⟩
      refine zs_R_pt hZ (by rw [show h = M.2.1 from hR]; rfl) (fun a y hy => ?_)
      rw [show h = M.2.1 from hR]
      have hy' : (if a0 ≤ a ∧ a < a0 + 49 then some (zm_cell a0 zm_S0 (a - a0)) else M.2.1.2.2 a) = some y := hy
      by_cases hq : a0 ≤ a ∧ a < a0 + 49
      · rw [if_pos hq] at hy'
        obtain ⟨x, x1, x2, x3, x4⟩ := hok.2 (a - a0) (by omega)
        rw [show a0 + (a - a0) = a by omega] at x1
        rw [← Option.some.inj hy']
        exact ⟨x, x1, x2, x3, x4⟩
      · rw [if_neg hq] at hy'
        exact ⟨y, hy', rfl, rfl, fun _ _ => rfl⟩
    · intro M2 g H hg hZ
      exact ⟨g, rfl, hg.2, hZ⟩
    · exact km_initT D M.2.1 a0 zm_S0
  · rw [hm_end_no hok]
    exact zs_none
