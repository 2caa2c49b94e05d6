/-! the law from its entry -/
set_option maxRecDepth 100000
def ls_P (c m a : Nat) : Bool := decide ((c ≤ a ∧ a < c + 561 ∧ ¬ (c + 10 ≤ a ∧ a < c + 20)) ∨ (m ≤ a ∧ a < m + 49))
theorem ls_Pc {c m a : Nat} (h : cs_dom c a) : ls_P c m a = true := decide_eq_true (Or.inl h)
theorem ls_Pm {c m a : Nat} (h1 : m ≤ a) (h2 : a < m + 49) : ls_P c m a = true := decide_eq_true (Or.inr ⟨h1, h2⟩)
def ls_up (w : Nat → Nat) (c m : Nat) (s : ls_S) : ps_S := (s.2.1.1, cs_h (w, s.1, s.2.1.2.2.1) (ls_h0 m s) c s.2.1.1, s.2.1.2.2)
def ls_sok (w : Nat → Nat) (b L : Nat) (xs : Nat → Int32) (c m : Nat) (M : ps_S) (Z : zm_S) : Prop := cs_h (w, zt_T0 c, M.2.2.1) (zm_h M.2.1 m Z) c M.1 = M.2.1 ∧ M.2.1.1 ≤ c ∧ c + 561 ≤ M.2.1.2.1 ∧ zt_at (cs_rs (ls_P c m) M.2.1) (zt_T0 c) ∧ M.2.1.1 ≤ m ∧ M.2.1.2.2 b = some (64, L, fun j => .int (xs j)) ∧ (m + 49 ≤ c ∨ c + 561 ≤ m) ∧ (¬ (m ≤ b ∧ b < m + 49) ∧ ¬ (c ≤ b ∧ b < c + 561))
noncomputable def gl_lawS (w : Nat → Nat) (b L : Nat) (xs : Nat → Int32) (c m : Nat) (M : ps_S) : Option (Bool × ps_S) := (gm_initT zm_S0).bind fun Z => @ite _ (ls_sok w b L xs c m M Z) (Classical.propDecidable _) ((gl_lawT w (ls_P c m) c m b L xs (zt_T0 c, M, Z)).map fun z => (z.1, ls_up w c m z.2)) none
noncomputable def gl_law0 (w : Nat → Nat) (b L : Nat) (xs : Nat → Int32) (M : ps_S) : Option (Bool × ps_S) :=
  (ps_nw M (0, 27, fun k => defaultValue (tyX0 k)) 27).bind fun z1 => (gq_X0_init w z1.2 z1.1).bind fun M1 => (ps_nw M1 (10, 71, fun k => defaultValue (tyX10 k)) 71).bind fun z2 => (gq_X10_init w z2.2 z2.1).bind fun M2 => gl_lawS w b L xs z1.1 z2.1 M2
theorem kl_lawS (D : zs_D) (w : Nat → Nat) (b L : Nat) (xs : Nat → Int32) (hE : D.2.2.2 1 = .ref (w 100)) (hF : D.2.2.2 4 = hp_v (w 101)) (c m : Nat) (M : ps_S) : zs_Sim D hp_R ps_bd (zs_Fn D hp_R zs_eB) "HairRopeLaw" cL_law 4 (some .boolean) "law" 428 M 16 [(0, .ref b), (1, .ref c), (2, .ref m)] [] (gl_lawS w b L xs c m M) some := by
  unfold gl_lawS
  cases hZ0 : gm_initT zm_S0 with
  | none => exact zs_none
  | some Z =>
    by_cases hok : ls_sok w b L xs c m M Z
    · refine zs_eqo (o2 := (gl_lawT w (ls_P c m) c m b L xs (zt_T0 c, M, Z)).bind fun z => some (z.1, ls_up w c m z.2)) ?_ ?_
      · show @ite _ (ls_sok w b L xs c m M Z) (Classical.propDecidable _) _ none = _
        rw [if_pos hok]
        cases gl_lawT w (ls_P c m) c m b L xs (zt_T0 c, M, Z) <;> rfl
      · obtain ⟨k1, k2, k3, k4, k5, k6, k7, k8⟩ := hok
        refine zs_bindK ?_
        refine zs_conv (Rl' := ls_R w (ls_P c m) c m b L xs) (bd' := ls_bd) (M' := (zt_T0 c, M, Z)) (K' := some) (ls_up w c m) ?_ ?_ (fun M2 => ⟨rfl, rfl⟩) (fun b => rfl) ?_
        · intro h H hR hZ
          refine ⟨h, rfl, ⟨⟨k2, k3, ?_⟩, k4, k5, k6⟩, hZ⟩
          rw [show h = M.2.1 from hR]
          exact k1.symm
        · intro M2 g H hg hZ
          exact ⟨g, rfl, hg.1.2.2, hZ⟩
        · exact kl_lawT D w (ls_P c m) c m b L xs hE hF (fun a h => ls_Pc h) (fun a h1 h2 => ls_Pm h1 h2) k7 k8 _
    · refine zs_eqo (o2 := none) ?_ zs_none
      show @ite _ (ls_sok w b L xs c m M Z) (Classical.propDecidable _) _ none = _
      rw [if_neg hok]
theorem kl_law0 (D : zs_D) (w : Nat → Nat) (b L : Nat) (xs : Nat → Int32) (hE : D.2.2.2 1 = .ref (w 100)) (hF : D.2.2.2 4 = hp_v (w 101)) (hU : D.2.2.2 2 = hp_v (w 102)) (hV : D.2.2.2 3 = hp_v (w 103)) (hG : (∀ k, k < 22 → D.2.2.1 (11 + 2 * k) = w k) ∧ D.2.2.1 1 = w 22) (M : ps_S) : zs_Sim D hp_R ps_bd (zs_Fn D hp_R zs_eB) "HairRopeLaw" cL_law 4 (some .boolean) "law" 428 M 0 [(0, .ref b)] [] (gl_law0 w b L xs M) some := by
  unfold gl_law0
  refine hp_new (pc := 0) zc_X0 q169 q170 q134 dL_law_0 (fun z1 => ?_)
  refine zs_dup (pc := 3) dL_law_3 rfl ?_
  refine zs_callI0 (pc := 4) [] [.ref z1.1] (kq_X0_init D w hE hF hU hV hG z1.2 z1.1) wp_X0_init q171 dL_law_4 rfl rfl (Nat.le_of_ble_eq_true rfl) (Nat.le_of_ble_eq_true rfl) (fun M1 _ => ?_)
  refine zs_astore_n (pc := 7) (lv' := [(0, .ref b), (1, .ref z1.1)]) [1, 0] dL_law_7 rfl (by decide) rfl ?_
  refine hp_new (pc := 8) zc_X10 q1509 q1510 q152 dL_law_8 (fun z2 => ?_)
  refine zs_dup (pc := 11) dL_law_11 rfl ?_
  refine zs_callI0 (pc := 12) [] [.ref z2.1] (kq_X10_init D w hE hF hU hV hG z2.2 z2.1) wp_X10_init q1511 dL_law_12 rfl rfl (Nat.le_of_ble_eq_true rfl) (Nat.le_of_ble_eq_true rfl) (fun M2 _ => ?_)
  refine zs_astore_n (pc := 15) (lv' := [(0, .ref b), (1, .ref z1.1), (2, .ref z2.1)]) [1, 2, 0] dL_law_15 rfl (by decide) rfl ?_
  exact kl_lawS D w b L xs hE hF z1.1 z2.1 M2
