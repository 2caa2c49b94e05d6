/-! fields by another name, private statics, an index checked -/
set_option maxRecDepth 100000
theorem zs_Sv1 {D : zs_D} {e : Nat} (h : D.2.2.2 1 = .ref e) : zs_Sv D 1 = some ("java/util/ArrayList", "DEFAULTCAPACITY_EMPTY_ELEMENTDATA", "[Ljava/lang/Object;", .ref e) := by
  show some (_, _, _, D.2.2.2 1) = _
  rw [h]
/-- null or a reference -/
def hp_v : Nat → Value
  | 0 => .null
  | n + 1 => .ref n
theorem hv_n {ty : FieldType} (h : ty.isReference = true) (n : Nat) : narrow ty (hp_v n) = hp_v n := by
  cases ty <;> cases n <;> first | rfl | cases h
theorem hv_f {ty : FieldType} (h : ty.isReference = true) (n : Nat) : fits ty (hp_v n) = true := by
  cases ty <;> cases n <;> first | rfl | cases h
theorem zs_Sv4 {D : zs_D} {e : Nat} (h : D.2.2.2 4 = hp_v e) : zs_Sv D 4 = some ("jdk/internal/util/Preconditions", "SIOOBE_FORMATTER", "Ljava/util/function/BiFunction;", hp_v e) := by
  show some (_, _, _, D.2.2.2 4) = _
  rw [h]
theorem kp_J7_checkIndexR {σ : Type} (D : zs_D) (Rl : σ → zs_AH → Prop) (bd : σ → Nat × Nat) (M : σ) (a n : Int32) (e : Nat) : zs_Con D Rl bd zs_eI yJ7_checkIndex cJ7_checkIndex 3 (some .int) 1 [.int a, .int n, .ref e] M ((g_ckix a n).map fun x => (x, M)) := by
  unfold g_ckix
  refine zs_conR (own := RJ7) (nm := "checkIndex") pl_J7 rfl rfl (Nat.le_of_ble_eq_true rfl) ?_
  refine zs_lv (lv' := [(0, .int a), (1, .int n), (2, .ref e)]) rfl ?_
  refine zs_iload_n (pc := 0) 0 dJ7_checkIndex_0 rfl rfl ?_
  refine zs_if_lt (pc := 1) (tgt := 9) dJ7_checkIndex_1 (by decide) zs_none ?_
  refine zs_iload_n (pc := 4) 0 dJ7_checkIndex_4 rfl rfl ?_
  refine zs_iload_n (pc := 5) 1 dJ7_checkIndex_5 rfl rfl ?_
  refine zs_icmp_lt (pc := 6) (tgt := 16) dJ7_checkIndex_6 (by decide) ?_ zs_none
  refine zs_iload_n (pc := 16) 0 dJ7_checkIndex_16 rfl rfl ?_
  exact zs_iret (pc := 17) dJ7_checkIndex_17 rfl rfl rfl
theorem kp_J7_checkIndex {σ : Type} (D : zs_D) (Rl : σ → zs_AH → Prop) (bd : σ → Nat × Nat) (M : σ) (a n : Int32) (e : Nat) : zs_Con D Rl bd zs_eI yJ7_checkIndex cJ7_checkIndex 3 (some .int) 1 [.int a, .int n, hp_v e] M ((g_ckix a n).map fun x => (x, M)) := by
  cases e with
  | zero => exact k_J7_checkIndex D Rl bd M a n
  | succ e => exact kp_J7_checkIndexR D Rl bd M a n e
section ZS
variable {σ α β τ : Type} {D : zs_D} {Rl : σ → zs_AH → Prop} {bd : σ → Nat × Nat} {Fn : zs_Q σ α} {own : String} {cc : ByteArray} {nL : Nat} {rt : Option FieldType} {nm : String} {d : Nat} {M : σ} {pc : Nat} {lv : List (Nat × Value)} {st : List Value} {o : Option β} {K : β → Option (α × σ)}
theorem zs_getfS {ci N i a : Nat} {C ref : String} {T : u_T} {ty : Nat → FieldType} {v : Value} (k0 : Nat) (hc : zs_cls ci C T N ty) (hk0 : k0 < N) (hq : Cond.fieldLink own i ref (T k0).2.1 (T k0).2.2.1 ∈ lw_all) (hs : Cond.sameField ref (T k0).1 (T k0).2.1 (T k0).2.2.1 ∈ lw_all) (hL : ∀ h, Rl M h → ∃ f, h.2.2 a = some (ci, N, f) ∧ f k0 = v) (hd : decode cc pc = .ok (.getfield i, 3)) (k : zs_Sim D Rl bd Fn own cc nL rt nm d M (pc + 3) lv (v :: st) o K) : zs_Sim D Rl bd Fn own cc nL rt nm d M pc lv (.ref a :: st) o K := by
  refine zs_hmap ?_ k
  intro p l e R s m args below meth c H locs cells slots Q h ls hx hb ho hw hK hR hZ kk
  obtain ⟨h0, h1, h2, -, -⟩ := hc
  obtain ⟨f, e1, e2⟩ := hL h hR
  obtain ⟨r, q1, q2, cell, q3, q4, q5, q6⟩ := zs_obj hZ e1 h0
  obtain ⟨hS, hfc, kC, hkC, hkind⟩ := hK.1 ci _ h1
  obtain ⟨cf, kf, fi, fd, hi, hsl⟩ := hS k0 hk0
  refine W.getf hx hb ho (hw _ hq) (u_same (hw _ hs) _ hi) (u_facts hfc hkC (u_lays hw h2 hk0) hi).1 q3 (by rw [q5]; exact fun z => by cases z) (v := v) ?_ rfl rfl hd kk
  rw [hsl, q6 k0 hk0, e2]
theorem zs_putfS {M1 : σ} {ci N i a : Nat} {C ref : String} {T : u_T} {ty : Nat → FieldType} {v : Value} {F : Nat → Value} (k0 : Nat) (hc : zs_cls ci C T N ty) (hk0 : k0 < N) (hq : Cond.fieldLink own i ref (T k0).2.1 (T k0).2.2.1 ∈ lw_all) (hsm : Cond.sameField ref (T k0).1 (T k0).2.1 (T k0).2.2.1 ∈ lw_all) (hfin : (T k0).2.2.2 = false) (hn : narrow (ty k0) v = v) (hfit : fits (ty k0) v = true) (hbd : bd M1 = bd M) (hL : ∀ h, Rl M h → h.2.2 a = some (ci, N, F) ∧ h.1 ≤ a ∧ Rl M1 (zs_up h a (ci, N, updV F k0 v))) (hd : decode cc pc = .ok (.putfield i, 3)) (k : zs_Sim D Rl bd Fn own cc nL rt nm d M1 (pc + 3) lv st o K) : zs_Sim D Rl bd Fn own cc nL rt nm d M pc lv (v :: .ref a :: st) o K := by
  refine zs_hput (i := 0) hbd (ci, N, updV F k0 v) (fun h hR => (hL h hR).2) ?_ k
  intro p l e R s m args below meth c H locs cells slots Q h ls Cx hR hZ kk
  have hap := zs_apart hc Cx.2.2.2.2.2.2.1 Cx.2.2.2.2.2.2.2.1
  obtain ⟨hx, hb, -, -, -, ho, hw, hK, -⟩ := Cx
  obtain ⟨h0, h1, h2, h3, h4⟩ := hc
  obtain ⟨r, q1, q2, cell, q3, q4, q5, q6⟩ := zs_obj hZ (hL h hR).1 h0
  obtain ⟨hS, hfc, kC, hkC, hkind⟩ := hK.1 ci _ h1
  obtain ⟨cf, kf, fi, fd, hi, hsl⟩ := hS k0 hk0
  have hlay := hw _ (h2 _ (u_in_lay hk0))
  unfold u_lay at hlay
  rw [if_neg (by rw [hfin]; decide)] at hlay
  have hst := (u_facts hfc hkC (u_lays hw h2 hk0) hi).1
  have h6 := u_store hfc hkC hkind hlay hi (h3 k0 hk0) hn hfit
  refine W.putK hx hb (f := fd) ⟨ho, hw _ hq, ⟨_, _, _, u_same (hw _ hsm) _ hi⟩, hst⟩ (by rw [q4]; exact h6) q3 q5 (by rw [hsl]; exact k2_hasslot (q6 k0 hk0)) rfl rfl hd fun H' e1 e2 e3 => ?_
  rw [hsl] at e1 ⊢
  exact kk H' _ (Or.inl ⟨h0, r, q1, q2, _, e1, q4, q5, t_set q6 hap hk0 v⟩) e2 e3
end ZS
section PU
variable {α β : Type} {D : zs_D} {Wd : cs_W} {c : Nat} {Fn : zs_Q ps_S α} {own : String} {cc : ByteArray} {nL : Nat} {rt : Option FieldType} {nm : String} {d : Nat} {M : ps_S} {pc : Nat} {lv : List (Nat × Value)} {st : List Value} {o : Option β} {K : β → Option (α × ps_S)}
theorem ps_gI_inv {a ci N k : Nat} {x : Int32} (hg : ps_gI c M a ci N k = some x) : ∃ F, ps_at c M a = some (ci, N, F) ∧ F k = .int x := by
  unfold ps_gI at hg
  cases hx : ps_at c M a with
  | none => rw [hx] at hg; cases hg
  | some y =>
    obtain ⟨t, n, F⟩ := y
    rw [hx] at hg
    by_cases hq2 : t = ci ∧ n = N
    · obtain ⟨rfl, rfl⟩ := hq2
      simp only [and_self, if_true] at hg
      cases hF : F k with
      | int z => rw [hF] at hg; cases hg; exact ⟨F, rfl, hF⟩
      | _ => rw [hF] at hg; cases hg
    · simp only [if_neg hq2] at hg; cases hg
theorem ps_dIS {a ci N k i : Nat} {C ref : String} {T : u_T} {ty : Nat → FieldType} {f : Int32 → Option β} (hc : zs_cls ci C T N ty) (hk : k < N) (hq : Cond.fieldLink own i ref (T k).2.1 (T k).2.2.1 ∈ lw_all) (hs : Cond.sameField ref (T k).1 (T k).2.1 (T k).2.2.1 ∈ lw_all) (hd : decode cc pc = .ok (.getfield i, 3)) (kk : ∀ x, zs_Sim D (ps_R Wd c) ps_bd Fn own cc nL rt nm d M (pc + 3) lv (.int x :: st) (f x) K) : zs_Sim D (ps_R Wd c) ps_bd Fn own cc nL rt nm d M pc lv (.ref a :: st) ((ps_gI c M a ci N k).bind f) K := by
  cases hg : ps_gI c M a ci N k with
  | none => exact zs_none
  | some x =>
    obtain ⟨F, e1, e2⟩ := ps_gI_inv hg
    exact zs_getfS k hc hk hq hs (fun h hR => ⟨F, ps_dyn hR e1, e2⟩) hd (kk x)
theorem ps_putS {a ci N k i : Nat} {C ref : String} {T : u_T} {ty : Nat → FieldType} {v : Value} {f : ps_S → Option β} (hc : zs_cls ci C T N ty) (hk : k < N) (hq : Cond.fieldLink own i ref (T k).2.1 (T k).2.2.1 ∈ lw_all) (hs : Cond.sameField ref (T k).1 (T k).2.1 (T k).2.2.1 ∈ lw_all) (hfin : (T k).2.2.2 = false) (hn : narrow (ty k) v = v) (hfit : fits (ty k) v = true) (hd : decode cc pc = .ok (.putfield i, 3)) (kk : ∀ M1, zs_Sim D (ps_R Wd c) ps_bd Fn own cc nL rt nm d M1 (pc + 3) lv st (f M1) K) : zs_Sim D (ps_R Wd c) ps_bd Fn own cc nL rt nm d M pc lv (v :: .ref a :: st) ((ps_pV c M a ci N k v).bind f) K := by
  cases hg : ps_pV c M a ci N k v with
  | none => exact zs_none
  | some M1 =>
    obtain ⟨F, e1, e2, e3⟩ := ps_pV_inv hg
    subst e3
    exact zs_putfS (M1 := ps_up M a (ci, N, updV F k v)) k hc hk hq hs hfin hn hfit rfl (fun h hR => ⟨ps_dyn hR e1, by rw [ps_base hR]; exact e2, ps_dput _ hR e1⟩) hd (kk _)
end PU
