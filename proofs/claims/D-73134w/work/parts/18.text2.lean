/-! the text's cells read from the component -/
set_option maxRecDepth 100000
section ZI
variable {σ α β τ : Type} {D : zs_D} {Rl : σ → zs_AH → Prop} {bd : σ → Nat × Nat} {Fn : zs_Q σ α} {own : String} {cc : ByteArray} {nL : Nat} {rt : Option FieldType} {nm : String} {d : Nat} {M : σ} {pc : Nat} {lv : List (Nat × Value)} {st : List Value} {o : Option β} {K : β → Option (α × σ)}
/-- a call of a nest mate's private method without an object -/
theorem zs_callSN0 {y : MethodName} {cc' : ByteArray} {nL' d' n i : Nat} {rt' : Option FieldType} {host : String} {enc : τ → Option Value} {g : Option (τ × σ)} {f : τ × σ → Option β} {st0 : List Value} (As rest : List Value)
    (hC : zs_Con D Rl bd enc y cc' nL' rt' d' As M g) (hm : zs_mS y cc' nL' rt' n) (hl : Cond.methodLinkNest own i y host ∈ lw_tbl) (hd : decode cc pc = .ok (.invokestatic i, 3)) (hst : st0 = As.reverse ++ rest) (hn : As.length = n) (hdd : d' + 1 ≤ d) (hw : (rest.map fun v => v.category).sum ≤ 8)
    (k : ∀ (r : τ) (M1 : σ), g = some (r, M1) → zs_Sim D Rl bd Fn own cc nL rt nm d M1 (pc + 3) lv ((enc r).toList ++ rest) (f (r, M1)) K) : zs_Sim D Rl bd Fn own cc nL rt nm d M pc lv st0 (g.bind f) K := by
  intro r M' ee
  cases hg : g with
  | none => rw [hg] at ee; cases ee
  | some x =>
    obtain ⟨v, M1⟩ := x
    rw [hg] at ee
    obtain ⟨hm1, hM⟩ := hC v M1 hg
    obtain ⟨hm2, k⟩ := k v M1 hg r M' ee
    refine ⟨⟨Nat.le_trans hm2.1 hm1.1, Nat.le_trans hm2.2 hm1.2⟩, fun p l e R s m args below meth c H locs cells slots h ls Cx h1 h2 h3 h4 hR hZ hS hl9 => ?_⟩
    have Cx0 := Cx
    obtain ⟨c1, c2, c3, c4, c5, c6, c7, c8, c9, c10⟩ := Cx
    obtain ⟨m1, m2, m3, m5, m6⟩ := hm
    refine zs_after (va_runSN (As := As) (rest := rest) (free := fun q => h.1 ≤ q) (n := n) (index := i) (bytes := cc') (maxL := nL') (ret := rt') (ws := ws_ y cc' nL' rt') (host := host) ⟨c1, c2, c5, c6, c7⟩ (hM l h.1 c10) ⟨va_cnB n c7 (lw_meth m3) rfl rfl rfl (c8.2.2.1.2.1 _ _ _ _ hl) (c7 _ m2) m6 ⟨by show d' + 1 ≤ R.frames; omega, by show 8 + (nL' + 11) + 64 * d' ≤ R.locals; omega⟩, c7 _ m1, trivial⟩
      ⟨zs_Pc_blind, fun U hU hW => ⟨rfl, zs_K_next hW (fun a ha hb => by rw [hU]; exact hS.2.2.1 a ha hb) c8, by rw [hU]; exact Nat.le_trans hS.1 hS.2.1, h, rfl, hR, by rw [hU]; exact hZ⟩⟩ rfl hn hl9.1 hst (lv_room hw) hd ⟨by omega, by omega⟩) hS ?_
    intro h9 H1 locs1 e1 e2 e3 e4
    refine e1 ▸ k p l e R s m args below meth c H1 locs1 _ _ h9 ls ?_ h1 h2 (by omega) (by omega) e2 e3 (e1 ▸ e4) hl9
    rw [e1]; exact Cx0
/-- an element of an array of ints, whose cells are known one by one -/
theorem zs_ialdP {n a : Nat} {F : Nat → Int32} {i : Int32} {f : Int32 → Option β} (hL : ∀ h, Rl M h → ∃ g, h.2.2 a = some (64, n, g) ∧ ∀ j, j < n → g j = .int (F j)) (hd : decode cc pc = .ok (.iaload, 1)) (k : ∀ x, zs_Sim D Rl bd Fn own cc nL rt nm d M (pc + 1) lv (.int x :: st) (f x) K) : zs_Sim D Rl bd Fn own cc nL rt nm d M pc lv (.int i :: .ref a :: st) ((zs_ald n F i).bind f) K :=
  zs_hald (v := fun x => .int x) (fun hin p l e R s m args below meth c H locs cells slots Q h ls hx hb hK hR hZ kk => by
    obtain ⟨g, e1, e2⟩ := hL h hR
    exact W.iald (v := .int (F i.toNatClampNeg)) hx hb (zs_arr (t := 0) hZ e1) ((hK.2.1 0 .int rfl).1 n _) (fun q => by cases q) (by rw [arrV_size]; exact zs_in_not hin) (by rw [arrV_read _ _ (zs_in_lt hin), e2 _ (zs_in_lt hin)]) rfl rfl hd kk) k
end ZI
section CT
variable {α β : Type} {D : zs_D} {W : cs_W} {P : Nat → Bool} {h0 : zs_AH} {c : Nat} {Fn : zs_Q cs_S α} {own : String} {cc : ByteArray} {nL : Nat} {rt : Option FieldType} {nm : String} {d : Nat} {M : cs_S} {pc : Nat} {lv : List (Nat × Value)} {st : List Value} {o o1 o2 : Option β} {K : β → Option (α × cs_S)}
theorem cs_know (k : (∃ h, cs_R W P h0 c M h) → zs_Sim D (cs_R W P h0 c) cs_bd Fn own cc nL rt nm d M pc lv st o K) : zs_Sim D (cs_R W P h0 c) cs_bd Fn own cc nL rt nm d M pc lv st o K := by
  intro r M' ee
  refine ⟨⟨Nat.le_refl _, Nat.le_refl _⟩, fun p l e R s m args below meth c H locs cells slots h ls C h1 h2 h3 h4 hR hZ hS hl => ?_⟩
  exact (k ⟨h, hR⟩ r M' ee).2 p l e R s m args below meth c H locs cells slots h ls C h1 h2 h3 h4 hR hZ hS hl
theorem ct_num (k : Nat) {i : Nat} (hk : 3 ≤ k ∧ k < 8) (hq : Cond.fieldLink own i (TX4 k).1 (TX4 k).2.1 (TX4 k).2.2.1 ∈ lw_all) (hd : decode cc pc = .ok (.getfield i, 3)) (kk : zs_Sim D (cs_R W P h0 c) cs_bd Fn own cc nL rt nm d M (pc + 3) lv (.int (zt_f W.2.1 k) :: st) o K) : zs_Sim D (cs_R W P h0 c) cs_bd Fn own cc nL rt nm d M pc lv (.ref (zt_ad W.2.1 0) :: st) o K :=
  zs_getf k zc_X4 hk.2 hq (fun h hR => by obtain ⟨f, e1, -, -, -, e5⟩ := hR.2.2.2.1; exact ⟨f, cs_out hR e1, e5 k hk.1 hk.2⟩) hd kk
theorem ct_houses {i : Nat} (hq : Cond.fieldLink own i (TX4 0).1 (TX4 0).2.1 (TX4 0).2.2.1 ∈ lw_all) (hd : decode cc pc = .ok (.getfield i, 3)) (kk : zs_Sim D (cs_R W P h0 c) cs_bd Fn own cc nL rt nm d M (pc + 3) lv (.ref (zt_ad W.2.1 1) :: st) o K) : zs_Sim D (cs_R W P h0 c) cs_bd Fn own cc nL rt nm d M pc lv (.ref (zt_ad W.2.1 0) :: st) o K :=
  zs_getf 0 zc_X4 (by decide) hq (fun h hR => by obtain ⟨f, e1, e2, -, -, e5⟩ := hR.2.2.2.1; exact ⟨f, cs_out hR e1, e2⟩) hd kk
theorem ct_laws {i : Nat} (hq : Cond.fieldLink own i (TX4 1).1 (TX4 1).2.1 (TX4 1).2.2.1 ∈ lw_all) (hd : decode cc pc = .ok (.getfield i, 3)) (kk : zs_Sim D (cs_R W P h0 c) cs_bd Fn own cc nL rt nm d M (pc + 3) lv (.ref (zt_ad W.2.1 3) :: st) o K) : zs_Sim D (cs_R W P h0 c) cs_bd Fn own cc nL rt nm d M pc lv (.ref (zt_ad W.2.1 0) :: st) o K :=
  zs_getf 1 zc_X4 (by decide) hq (fun h hR => by obtain ⟨f, e1, e2, e3, -, e5⟩ := hR.2.2.2.1; exact ⟨f, cs_out hR e1, e3⟩) hd kk
theorem ct_like {i : Nat} (hq : Cond.fieldLink own i (TX4 2).1 (TX4 2).2.1 (TX4 2).2.2.1 ∈ lw_all) (hd : decode cc pc = .ok (.getfield i, 3)) (kk : zs_Sim D (cs_R W P h0 c) cs_bd Fn own cc nL rt nm d M (pc + 3) lv (.ref (zt_ad W.2.1 4) :: st) o K) : zs_Sim D (cs_R W P h0 c) cs_bd Fn own cc nL rt nm d M pc lv (.ref (zt_ad W.2.1 0) :: st) o K :=
  zs_getf 2 zc_X4 (by decide) hq (fun h hR => by obtain ⟨f, e1, e2, e3, e4, e5⟩ := hR.2.2.2.1; exact ⟨f, cs_out hR e1, e4⟩) hd kk
theorem ct_size {i : Nat} (hl : Cond.methodLink own i yJ5_size ∈ lw_all) (hd : decode cc pc = .ok (.invokevirtual i, 3)) (hdd : 0 + 1 ≤ d) (hw : (st.map fun v => v.category).sum ≤ 8) (kk : zs_Sim D (cs_R W P h0 c) cs_bd Fn own cc nL rt nm d M (pc + 3) lv (.int (nI (zt_n W.2.1)) :: st) o K) : zs_Sim D (cs_R W P h0 c) cs_bd Fn own cc nL rt nm d M pc lv (.ref (zt_ad W.2.1 1) :: st) o K := by
  refine zs_eqo (o2 := ((some (nI (zt_n W.2.1))).map fun x => (x, M)).bind fun _ => o) rfl ?_
  refine zs_callV0 [] st (k_J5_size D _ _ M (zt_ad W.2.1 1) (nI (zt_n W.2.1)) (fun h hR => by obtain ⟨-, ⟨f, e1, e2, -⟩, -⟩ := hR.2.2.2; exact ⟨f, cs_out hR e1, e2⟩)) kv_J5_size hl zc_J5 (fun h hR => by obtain ⟨-, ⟨f, e1, e2, -⟩, -⟩ := hR.2.2.2; exact ⟨3, f, cs_out hR e1⟩) hd rfl rfl hdd hw (fun r M1 e => ?_)
  obtain ⟨rfl, rfl⟩ : nI (zt_n W.2.1) = r ∧ M = M1 := ⟨congrArg (fun z => z.1) (Option.some.inj e), congrArg (fun z => z.2) (Option.some.inj e)⟩
  exact kk
/-- houses.get(i) -/
theorem ct_get {ix : Nat} {i : Int32} {f : Nat → Option β} (hl : Cond.methodLink own ix yJ5_get ∈ lw_all) (hd : decode cc pc = .ok (.invokevirtual ix, 3)) (hdd : 3 + 1 ≤ d) (hw : (st.map fun v => v.category).sum ≤ 8) (kk : ∀ k, k < zt_n W.2.1 → zs_Sim D (cs_R W P h0 c) cs_bd Fn own cc nL rt nm d M (pc + 3) lv (.ref (zt_ha W.2.1 k) :: st) (f k) K) : zs_Sim D (cs_R W P h0 c) cs_bd Fn own cc nL rt nm d M pc lv (.int i :: .ref (zt_ad W.2.1 1) :: st) ((zs_ix (zt_n W.2.1) i).bind f) K := by
  refine zs_hix fun k hin hk hlt => ?_
  refine cs_know fun hex => ?_
  obtain ⟨h9, hR9⟩ := hex
  obtain ⟨-, -, t3, t4, -⟩ := hR9.2.2.2
  obtain ⟨f4, -, t5, t6, -⟩ := t4 (by omega)
  have hg : (((zs_ix (zt_n W.2.1) i).map (zt_ha W.2.1)).map fun x => (x, M)) = some (zt_ha W.2.1 k, M) := by unfold zs_ix; rw [if_pos hin, hk]; rfl
  refine zs_eqo (o2 := (((zs_ix (zt_n W.2.1) i).map (zt_ha W.2.1)).map fun x => (x, M)).bind fun _ => f k) (by rw [hg]; rfl) ?_
  refine zs_callV0 [.int i] st (k_J5_get D _ _ M (zt_ad W.2.1 1) (zt_ad W.2.1 2) (zt_cap W.2.1) (zt_n W.2.1) i (zt_ha W.2.1) t5 t6 (fun h hR => by obtain ⟨-, ⟨f, e1, e2, e3⟩, -⟩ := hR.2.2.2; exact ⟨f, cs_out hR e1, e3 (by omega), e2⟩) (fun h hR => by obtain ⟨-, -, -, t4, -⟩ := hR.2.2.2; obtain ⟨G, e1, -, -, e4⟩ := t4 (by omega); exact ⟨G, cs_out hR e1, e4⟩)) kv_J5_get hl zc_J5 (fun h hR => by obtain ⟨-, ⟨f, e1, e2, -⟩, -⟩ := hR.2.2.2; exact ⟨3, f, cs_out hR e1⟩) hd rfl rfl hdd hw (fun r M1 e => ?_)
  rw [hg] at e
  obtain ⟨rfl, rfl⟩ : zt_ha W.2.1 k = r ∧ M = M1 := ⟨congrArg (fun z => z.1) (Option.some.inj e), congrArg (fun z => z.2) (Option.some.inj e)⟩
  exact kk k hlt
theorem ct_cast {k i : Nat} (hk : k < zt_n W.2.1) (hq : Cond.classLink own i RX16 ∈ lw_all) (hd : decode cc pc = .ok (.checkcast i, 3)) (kk : zs_Sim D (cs_R W P h0 c) cs_bd Fn own cc nL rt nm d M (pc + 3) lv (.ref (zt_ha W.2.1 k) :: st) o K) : zs_Sim D (cs_R W P h0 c) cs_bd Fn own cc nL rt nm d M pc lv (.ref (zt_ha W.2.1 k) :: st) o K :=
  zs_castS zc_X16 hq (fun h hR => by obtain ⟨-, -, -, -, t5, -⟩ := hR.2.2.2; obtain ⟨f, e1, -⟩ := t5 k hk; exact ⟨3, f, cs_out hR e1⟩) hd kk
theorem ct_hair {k i : Nat} (hk : k < zt_n W.2.1) (hq : Cond.fieldLink own i (TX16 1).1 (TX16 1).2.1 (TX16 1).2.2.1 ∈ lw_all) (hd : decode cc pc = .ok (.getfield i, 3)) (kk : zs_Sim D (cs_R W P h0 c) cs_bd Fn own cc nL rt nm d M (pc + 3) lv (.int (zt_hi W.2.1 k 1) :: st) o K) : zs_Sim D (cs_R W P h0 c) cs_bd Fn own cc nL rt nm d M pc lv (.ref (zt_ha W.2.1 k) :: st) o K :=
  zs_getf 1 zc_X16 (by decide) hq (fun h hR => by obtain ⟨-, -, -, -, t5, -⟩ := hR.2.2.2; obtain ⟨f, e1, e2, e3⟩ := t5 k hk; exact ⟨f, cs_out hR e1, e2⟩) hd kk
theorem ct_strong {k i : Nat} (hk : k < zt_n W.2.1) (hq : Cond.fieldLink own i (TX16 2).1 (TX16 2).2.1 (TX16 2).2.2.1 ∈ lw_all) (hd : decode cc pc = .ok (.getfield i, 3)) (kk : zs_Sim D (cs_R W P h0 c) cs_bd Fn own cc nL rt nm d M (pc + 3) lv (.int (zt_hi W.2.1 k 2) :: st) o K) : zs_Sim D (cs_R W P h0 c) cs_bd Fn own cc nL rt nm d M pc lv (.ref (zt_ha W.2.1 k) :: st) o K :=
  zs_getf 2 zc_X16 (by decide) hq (fun h hR => by obtain ⟨-, -, -, -, t5, -⟩ := hR.2.2.2; obtain ⟨f, e1, e2, e3⟩ := t5 k hk; exact ⟨f, cs_out hR e1, e3⟩) hd kk
theorem ct_lawv {i : Int32} {f : Nat → Option β} (hd : decode cc pc = .ok (.aaload, 1)) (kk : ∀ k, k < 4 → zs_Sim D (cs_R W P h0 c) cs_bd Fn own cc nL rt nm d M (pc + 1) lv (zt_lv W.2.1 k :: st) (f k) K) : zs_Sim D (cs_R W P h0 c) cs_bd Fn own cc nL rt nm d M pc lv (.int i :: .ref (zt_ad W.2.1 3) :: st) ((zs_ix 4 i).bind f) K :=
  zs_aald (t := 5) (F := fun k => zt_lv W.2.1 k) rfl rfl (fun h hR => by
    obtain ⟨-, -, -, -, -, ⟨G, e1, e2⟩, -⟩ := hR.2.2.2
    refine ⟨G, cs_out hR e1, fun k hk => ?_⟩
    obtain ⟨a1, a2⟩ := e2 k hk
    unfold zt_lv
    cases hw : zt_lw W.2.1 k with
    | none => exact a1 hw
    | some L => exact (a2 L hw).1) hd kk
theorem ct_ifnn {k : Nat} {off : Int} {tgt : Nat} (hd : decode cc pc = .ok (.ifnonnull off, 3)) (ht : (pc : Int) + off = (tgt : Int)) (k1 : zs_Sim D (cs_R W P h0 c) cs_bd Fn own cc nL rt nm d M tgt lv st o1 K) (k2 : zs_Sim D (cs_R W P h0 c) cs_bd Fn own cc nL rt nm d M (pc + 3) lv st o2 K) : zs_Sim D (cs_R W P h0 c) cs_bd Fn own cc nL rt nm d M pc lv (zt_lv W.2.1 k :: st) (if (zt_lw W.2.1 k).isSome = true then o1 else o2) K := by
  unfold zt_lv
  cases hw : zt_lw W.2.1 k with
  | none => exact zs_eqo (if_neg (by decide)) (zs_ifnonnullN hd k2)
  | some L => exact zs_eqo (if_pos rfl) (zs_ifnonnull hd ht k1)
theorem ct_lkrow {i : Int32} {f : Nat → Option β} (hd : decode cc pc = .ok (.aaload, 1)) (kk : ∀ k, k < 6 → zs_Sim D (cs_R W P h0 c) cs_bd Fn own cc nL rt nm d M (pc + 1) lv (.ref (zt_ad W.2.1 (5 + k)) :: st) (f k) K) : zs_Sim D (cs_R W P h0 c) cs_bd Fn own cc nL rt nm d M pc lv (.int i :: .ref (zt_ad W.2.1 4) :: st) ((zs_ix 6 i).bind f) K :=
  zs_aald (t := 10) (F := fun k => .ref (zt_ad W.2.1 (5 + k))) rfl rfl (fun h hR => by
    obtain ⟨-, -, -, -, -, -, ⟨G, e1, e2⟩, -⟩ := hR.2.2.2
    exact ⟨G, cs_out hR e1, e2⟩) hd kk
theorem ct_lkald {r : Nat} {i : Int32} {f : Int32 → Option β} (hr : r < 6) (hd : decode cc pc = .ok (.iaload, 1)) (kk : ∀ x, zs_Sim D (cs_R W P h0 c) cs_bd Fn own cc nL rt nm d M (pc + 1) lv (.int x :: st) (f x) K) : zs_Sim D (cs_R W P h0 c) cs_bd Fn own cc nL rt nm d M pc lv (.int i :: .ref (zt_ad W.2.1 (5 + r)) :: st) ((zs_ald 6 (zt_lk W.2.1 r) i).bind f) K :=
  zs_ialdP (fun h hR => by obtain ⟨-, -, -, -, -, -, -, e⟩ := hR.2.2.2; obtain ⟨g, e1, e2⟩ := e r hr; exact ⟨g, cs_out hR e1, e2⟩) hd kk
/-- the arrays of references of the component: past, slots, the rows of ways, join, often -/
theorem cs_cellR {h : zs_AH} {S : cs_S} (j : Nat) (hj : cs_in j) (hk : cs_key j = none) (ho : cs_ob j = none) (hR : cs_R W P h0 c S h) : h.2.2 (c + j) = some (cs_ra W c j) := by
  rw [hR.2.2.1, cs_at j hj]
  unfold cs_cell
  rw [hk, ho]
theorem cs_past {i : Int32} {f : Nat → Option β} (hd : decode cc pc = .ok (.aaload, 1)) (kk : ∀ k, k < 40 → zs_Sim D (cs_R W P h0 c) cs_bd Fn own cc nL rt nm d M (pc + 1) lv (.ref (c + cs_va (2 + k)) :: st) (f k) K) : zs_Sim D (cs_R W P h0 c) cs_bd Fn own cc nL rt nm d M pc lv (.int i :: .ref (c + 40) :: st) ((zs_ix 40 i).bind f) K :=
  zs_aald (t := 7) (F := fun k => .ref (c + cs_va (2 + k))) rfl rfl (fun h hR => ⟨_, cs_cellR 40 ⟨by decide, by decide⟩ rfl rfl hR, fun _ _ => rfl⟩) hd kk
theorem cs_slots {i : Int32} {f : Nat → Option β} (hd : decode cc pc = .ok (.aaload, 1)) (kk : ∀ k, k < 3 → zs_Sim D (cs_R W P h0 c) cs_bd Fn own cc nL rt nm d M (pc + 1) lv (.ref (c + cs_va (42 + k)) :: st) (f k) K) : zs_Sim D (cs_R W P h0 c) cs_bd Fn own cc nL rt nm d M pc lv (.int i :: .ref (c + 41) :: st) ((zs_ix 3 i).bind f) K :=
  zs_aald (t := 7) (F := fun k => .ref (c + cs_va (42 + k))) rfl rfl (fun h hR => ⟨_, cs_cellR 41 ⟨by decide, by decide⟩ rfl rfl hR, fun _ _ => rfl⟩) hd kk
theorem cs_ways {i : Int32} {f : Nat → Option β} (hd : decode cc pc = .ok (.aaload, 1)) (kk : ∀ k, k < 64 → zs_Sim D (cs_R W P h0 c) cs_bd Fn own cc nL rt nm d M (pc + 1) lv (.ref (c + (76 + k)) :: st) (f k) K) : zs_Sim D (cs_R W P h0 c) cs_bd Fn own cc nL rt nm d M pc lv (.int i :: .ref (c + 75) :: st) ((zs_ix 64 i).bind f) K :=
  zs_aald (t := 10) (F := fun k => .ref (c + (76 + k))) rfl rfl (fun h hR => ⟨_, cs_cellR 75 ⟨by decide, by decide⟩ rfl rfl hR, fun _ _ => rfl⟩) hd kk
theorem cs_join {i : Int32} {f : Nat → Option β} (hd : decode cc pc = .ok (.aaload, 1)) (kk : ∀ k, k < 6 → zs_Sim D (cs_R W P h0 c) cs_bd Fn own cc nL rt nm d M (pc + 1) lv (.ref (c + (141 + k)) :: st) (f k) K) : zs_Sim D (cs_R W P h0 c) cs_bd Fn own cc nL rt nm d M pc lv (.int i :: .ref (c + 140) :: st) ((zs_ix 6 i).bind f) K :=
  zs_aald (t := 10) (F := fun k => .ref (c + (141 + k))) rfl rfl (fun h hR => ⟨_, cs_cellR 140 ⟨by decide, by decide⟩ rfl rfl hR, fun _ _ => rfl⟩) hd kk
theorem cs_often {i : Int32} {f : Nat → Option β} (hd : decode cc pc = .ok (.aaload, 1)) (kk : ∀ k, k < 6 → zs_Sim D (cs_R W P h0 c) cs_bd Fn own cc nL rt nm d M (pc + 1) lv (.ref (c + (155 + k)) :: st) (f k) K) : zs_Sim D (cs_R W P h0 c) cs_bd Fn own cc nL rt nm d M pc lv (.int i :: .ref (c + 154) :: st) ((zs_ix 6 i).bind f) K :=
  zs_aald (t := 10) (F := fun k => .ref (c + (155 + k))) rfl rfl (fun h hR => ⟨_, cs_cellR 154 ⟨by decide, by decide⟩ rfl rfl hR, fun _ _ => rfl⟩) hd kk
end CT
theorem cs_pw : ∀ r, r < 64 → cs_key (76 + r) = some (60, r) := by decide +kernel
theorem cs_pj : ∀ r, r < 6 → cs_key (141 + r) = some (61, r) ∧ cs_key (155 + r) = some (62, r) := by decide +kernel
theorem cs_pways {r : Nat} (h : r < 64) : cs_pa (76 + r) 60 r 64 6 := ⟨⟨by omega, by omega⟩, cs_pw r h, rfl, rfl⟩
theorem cs_pjoin {r : Nat} (h : r < 6) : cs_pa (141 + r) 61 r 64 6 := ⟨⟨by omega, by omega⟩, (cs_pj r h).1, rfl, rfl⟩
theorem cs_poften {r : Nat} (h : r < 6) : cs_pa (155 + r) 62 r 64 6 := ⟨⟨by omega, by omega⟩, (cs_pj r h).2, rfl, rfl⟩
theorem cs_vcl {i : Nat} (hi : i < 45) : cs_cl (10 + i) = 5 ∧ cs_nf (10 + i) = 12 := by
  unfold cs_cl cs_nf
  exact ⟨by rw [if_neg (by omega), if_pos (by omega)], by rw [if_neg (by omega), if_neg (by omega), if_neg (by omega), if_pos (by omega)]⟩
theorem cs_qcl {i : Nat} (hi : i < 45) : cs_cl (110 + i) = 6 ∧ cs_nf (110 + i) = 2 := by
  unfold cs_cl cs_nf
  exact ⟨by rw [if_neg (by omega), if_neg (by omega), if_pos (by omega)], by rw [if_neg (by omega), if_neg (by omega), if_neg (by omega), if_neg (by omega), if_pos (by omega)]⟩
theorem cs_vsc {i : Nat} (hi : i < 45) (k : Nat) (b : Bool) (h : decide (5 ≤ k ∧ k ≤ 8) = b) : cs_sc (10 + i) k = b := by
  unfold cs_sc
  rw [if_neg (by omega), if_neg (by omega), if_neg (by omega), if_neg (by omega), if_pos (by omega)]
  exact h
theorem cs_qsc {i : Nat} (hi : i < 45) (k : Nat) (b : Bool) (h : decide (k = 1) = b) : cs_sc (110 + i) k = b := by
  unfold cs_sc
  rw [if_neg (by omega), if_neg (by omega), if_neg (by omega), if_neg (by omega), if_neg (by omega)]
  exact h
theorem cs_vcv {W : cs_W} {c : Nat} {i : Nat} (hi : i < 45) (k s : Nat) (h : (if k < 5 then k + 1 else k - 3) = s) : cs_cv W c (10 + i) k = .ref (c + (cs_va i + s)) := by
  unfold cs_cv
  rw [if_neg (by omega), if_neg (by omega), if_neg (by omega), if_neg (by omega), if_pos (by omega), show 10 + i - 10 = i by omega, h]
theorem cs_qcv {W : cs_W} {c : Nat} {i : Nat} (hi : i < 45) : cs_cv W c (110 + i) 0 = .ref (c + (cs_va i + 9)) := by
  unfold cs_cv
  rw [if_neg (by omega), if_neg (by omega), if_neg (by omega), if_neg (by omega), if_neg (by omega), show 110 + i - 110 = i by omega]
