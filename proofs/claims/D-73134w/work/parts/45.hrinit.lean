/-! HairRope.<init>: its last steps over the component's cells -/
set_option maxRecDepth 100000
def cs_S0 : cs_S := (fun o k => if o = 0 ∧ k = 4 then -1 else 0, fun _ _ _ => 0)
/-- the first text -/
def zt_T0 (c : Nat) : zt_T := (fun j => c + (if j = 0 then 10 else if j = 1 then 11 else if j = 3 then 12 else if j = 4 then 13 else if 5 ≤ j then 14 + (j - 5) else 0), 0, 0, fun _ => 0, fun _ _ => 0, fun _ _ => 5, fun k => if k = 4 then 20 else if k = 5 then 10 else 0, fun _ => none)
def hp_P (c : Nat) (a : Nat) : Bool := decide (c ≤ a ∧ a < c + 561 ∧ ¬ (c + 10 ≤ a ∧ a < c + 20))
theorem hp_Pd (c a : Nat) (h : cs_dom c a) : hp_P c a = true := decide_eq_true h
/-- the component's cells are there, as they are at the start -/
def hp_ok (w : Nat → Nat) (M : ps_S) (c : Nat) : Prop := M.2.1.1 ≤ c ∧ (∀ j, cs_in j → ∃ x, M.2.1.2.2 (c + j) = some x ∧ x.1 = (cs_cell (w, zt_T0 c, .null) c cs_S0 j).1 ∧ x.2.1 = (cs_cell (w, zt_T0 c, .null) c cs_S0 j).2.1 ∧ ∀ k, k < x.2.1 → x.2.2 k = (cs_cell (w, zt_T0 c, .null) c cs_S0 j).2.2 k) ∧ zt_at (cs_rs (hp_P c) M.2.1) (zt_T0 c)
def hp_fin (w : Nat → Nat) (M : ps_S) (c : Nat) (S : cs_S) : ps_S := (S, cs_h (w, zt_T0 c, .null) M.2.1 c S, M.2.2)
noncomputable def hp_end (w : Nat → Nat) (M : ps_S) (c : Nat) : Option ps_S := @ite _ (hp_ok w M c) (Classical.propDecidable _) ((gv_begins (zt_T0 c) cs_S0 0).map (hp_fin w M c)) none
theorem hp_end_eq {w : Nat → Nat} {M : ps_S} {c : Nat} (h : hp_ok w M c) : hp_end w M c = (gv_begins (zt_T0 c) cs_S0 0).map (hp_fin w M c) := by
  unfold hp_end
  rw [if_pos h]
theorem hp_end_no {w : Nat → Nat} {M : ps_S} {c : Nat} (h : ¬ hp_ok w M c) : hp_end w M c = none := by
  unfold hp_end
  rw [if_neg h]
theorem hp_shape {w : Nat → Nat} {M : ps_S} {c : Nat} (h : hp_ok w M c) : cs_R (w, zt_T0 c, .null) (hp_P c) M.2.1 c cs_S0 (cs_h (w, zt_T0 c, .null) M.2.1 c cs_S0) := ⟨h.1, hp_Pd c, rfl, h.2.2⟩
set_option maxHeartbeats 4000000 in
theorem kq_end (D : zs_D) (w : Nat → Nat) (hE : D.2.2.2 1 = .ref (w 100)) (hF : D.2.2.2 4 = hp_v (w 101)) (hU : D.2.2.2 2 = hp_v (w 102)) (hV : D.2.2.2 3 = hp_v (w 103)) (hG : (∀ k, k < 22 → D.2.2.1 (11 + 2 * k) = w k) ∧ D.2.2.1 1 = w 22) (M : ps_S) (a0 : Nat) {d : Nat} (hd : 5 ≤ d) : zs_Sim D hp_R ps_bd (zs_Fn D hp_R zs_eV) RX0 cX0_init 2 none "<init>" d M 278 [(0, .ref a0)] [] (hp_end w M a0) (fun x => some ((), x)) := by
  by_cases hok : hp_ok w M a0
  · rw [hp_end_eq hok]
    refine zs_eqo (o2 := (gv_begins (zt_T0 a0) cs_S0 0).bind fun S => some (hp_fin w M a0 S)) (by cases gv_begins (zt_T0 a0) cs_S0 0 <;> rfl) ?_
    refine zs_bindK ?_
    refine zs_conv (Rl' := cs_R (w, zt_T0 a0, .null) (hp_P a0) M.2.1 a0) (bd' := cs_bd) (M' := cs_S0) (K' := fun S => some ((), S)) (hp_fin w M a0) ?_ ?_ (fun M2 => ⟨by show M.2.2.2.1 + 0 = 0 + M.2.2.2.1; omega, by show M.2.2.2.2 + 0 = 0 + M.2.2.2.2; omega⟩) (fun b => rfl) ?_
    · intro h H hR hZ
      refine ⟨cs_h (w, zt_T0 a0, .null) M.2.1 a0 cs_S0, by rw [show h = M.2.1 from hR]; rfl, hp_shape hok, ?_⟩
      refine zs_R_pt hZ (by rw [show h = M.2.1 from hR]; rfl) (fun a y hy => ?_)
      rw [show h = M.2.1 from hR]
      have hy' : (if a0 ≤ a ∧ a < a0 + 561 ∧ ¬ (a0 + 10 ≤ a ∧ a < a0 + 20) then some (cs_cell (w, zt_T0 a0, .null) a0 cs_S0 (a - a0)) else M.2.1.2.2 a) = some y := hy
      by_cases hq : a0 ≤ a ∧ a < a0 + 561 ∧ ¬ (a0 + 10 ≤ a ∧ a < a0 + 20)
      · rw [if_pos hq] at hy'
        obtain ⟨x, x1, x2, x3, x4⟩ := hok.2.1 (a - a0) ⟨by omega, by omega⟩
        rw [show a0 + (a - a0) = a by omega] at x1
        rw [← Option.some.inj hy']
        exact ⟨x, x1, x2, x3, x4⟩
      · rw [if_neg hq] at hy'
        exact ⟨y, hy', rfl, rfl, fun _ _ => rfl⟩
    · intro M2 g H hg hZ
      exact ⟨g, rfl, hg.2.2.1, hZ⟩
    · refine zs_aload_n (pc := 278) 0 dX0_init_278 rfl rfl ?_
      refine zs_lv (lv' := [(0, .ref (a0 + 0))]) rfl ?_
      refine cs_getr (pc := 279) 0 0 7 (v := .ref (a0 + cs_va 0)) ⟨⟨by decide, by decide⟩, rfl⟩ zc_X0 ⟨rfl, rfl⟩ (by decide) rfl rfl q536 dX0_init_279 ?_
      refine zs_aload_n (pc := 282) 0 dX0_init_282 rfl rfl ?_
      refine cs_getr (pc := 283) 0 0 3 (v := .ref (zt_ad (zt_T0 a0) 0)) ⟨⟨by decide, by decide⟩, rfl⟩ zc_X0 ⟨rfl, rfl⟩ (by decide) rfl rfl q532 dX0_init_283 ?_
      refine zs_eqo (o2 := (gv_begins (zt_T0 a0) cs_S0 0).bind fun S => some S) (by cases gv_begins (zt_T0 a0) cs_S0 0 <;> rfl) ?_
      refine zs_callVv (pc := 286) [.ref (zt_ad (zt_T0 a0) 0)] [] (kv_xbegins D (w, zt_T0 a0, .null) (hp_P a0) M.2.1 a0 cs_S0 0 (by decide)) wv_begins q506 zc_X5 (cs_rcvv (by decide)) dX0_init_286 rfl rfl (by omega) (Nat.le_of_ble_eq_true rfl) (fun M1 => ?_)
      exact zs_vret (pc := 289) dX0_init_289 rfl rfl
  · rw [hp_end_no hok]
    exact zs_none
