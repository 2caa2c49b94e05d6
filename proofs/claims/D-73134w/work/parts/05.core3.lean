/-! CORE 3: calls and the heap -/
set_option maxRecDepth 100000
/-- what a call of an object's method asks of the tables, but its own link -/
def zs_mV (C : String) (y : MethodName) (cc : ByteArray) (nL : Nat) (rt : Option FieldType) (n : Nat) : Prop :=
  Cond.instanceMethod y ∈ lw_all ∧ Cond.selects C y y ∈ lw_all ∧ Cond.initialized C ∈ lw_all ∧ Cond.code y cc nL rt ∈ lw_all ∧ nL ≤ 45 ∧ (y.cls = C ∧ y.cls ≠ "java/lang/invoke/MethodHandle" ∧ y.cls ≠ "java/lang/invoke/VarHandle" ∧ (parseMethodDescriptor y.desc).map (fun d => d.parameters.length) = some n)
def zs_mS (y : MethodName) (cc : ByteArray) (nL : Nat) (rt : Option FieldType) (n : Nat) : Prop :=
  Cond.static y ∈ lw_all ∧ Cond.initialized y.cls ∈ lw_all ∧ Cond.code y cc nL rt ∈ lw_all ∧ nL ≤ 45 ∧ (y.cls ≠ "java/lang/invoke/MethodHandle" ∧ y.cls ≠ "java/lang/invoke/VarHandle" ∧ (parseMethodDescriptor y.desc).map (fun d => d.parameters.length) = some n)
theorem zs_Pc_blind {σ : Type} {D : zs_D} {Rl : σ → zs_AH → Prop} {av : List Value} {M : σ} {base : Nat} : FrameBlind (zs_Pc D Rl av M base) := by
  intro a U g mk q
  obtain ⟨q0, q1, q2, q3⟩ := q
  exact ⟨q0, zs_K_same (s := U) rfl rfl q1, q2, q3⟩
theorem zs_S_call {base : Nat} {H0 H H1 : Heap} {locs L : List Loc} (hS : zs_S base H0 H locs) (hsz : H.size ≤ H1.size) (hk : ∀ q : Nat, q < H.size → ¬ base ≤ q → H1[q]? = H[q]?) (hL : ∀ q ∈ L, base ≤ q.base) : zs_S base H0 H1 (locs ++ L) := by
  obtain ⟨h0, h1, h2, h3⟩ := hS
  refine ⟨h0, Nat.le_trans h1 hsz, fun q hq hb => (hk q (Nat.lt_of_lt_of_le hq h1) hb).trans (h2 q hq hb), fun l hl => ?_⟩
  rcases List.mem_append.mp hl with q | q
  · exact h3 l q
  · exact hL l q
theorem zs_arr {D : zs_D} {h : zs_AH} {H : Heap} (hZ : zs_R D h H) {a t n : Nat} {f : Nat → Value} (e : h.2.2 a = some (64 + t, n, f)) : H[a]? = some (arrV (D.2.1 t) n f) := by
  rcases hZ.2 a _ e with ⟨q, -⟩ | ⟨-, q⟩
  · exact absurd q (by simp)
  · rwa [Nat.add_sub_cancel_left] at q
theorem zs_obj {D : zs_D} {h : zs_AH} {H : Heap} (hZ : zs_R D h H) {a t n : Nat} {f : Nat → Value} (e : h.2.2 a = some (t, n, f)) (ht : t < 64) : ∃ r, zs_C[t]? = some r ∧ r.2.2 = n ∧ t_OB a (D.1.1 t) n (D.1.2 t) H f := by
  rcases hZ.2 a _ e with ⟨-, q⟩ | ⟨q, -⟩
  · exact q
  · exact absurd ht (Nat.not_lt.mpr q)
theorem zs_A_kept {D : zs_D} {a : Nat} {x : zs_HC} {H H1 : Heap} (h : zs_A D a x H) (e : H1[a]? = H[a]?) : zs_A D a x H1 := by
  rcases h with ⟨q, r, h1, h2, h3⟩ | ⟨q, h⟩
  · exact Or.inl ⟨q, r, h1, h2, h3.kept e⟩
  · exact Or.inr ⟨q, e.trans h⟩
def zs_up (h : zs_AH) (a : Nat) (x : zs_HC) : zs_AH := (h.1, h.2.1, fun q => if q = a then some x else h.2.2 q)
theorem zs_R_up {D : zs_D} {h : zs_AH} {H H1 : Heap} {a : Nat} {x : zs_HC} (hZ : zs_R D h H) (e1 : H1.size = H.size) (e2 : ∀ q, q ≠ a → H1[q]? = H[q]?) (hx : zs_A D a x H1) : zs_R D (zs_up h a x) H1 := by
  refine ⟨hZ.1.trans e1.symm, fun q y hy => ?_⟩
  by_cases hq : q = a
  · subst hq
    have : some x = some y := by rw [← hy]; show some x = if q = q then some x else h.2.2 q; rw [if_pos rfl]
    rw [← Option.some.inj this]; exact hx
  · have h1 : h.2.2 q = some y := by rw [← hy]; show h.2.2 q = if q = a then some x else h.2.2 q; rw [if_neg hq]
    exact zs_A_kept (hZ.2 q y h1) (e2 q hq)
theorem zs_S_put {base : Nat} {H0 H H1 : Heap} {locs : List Loc} {a i : Nat} (hS : zs_S base H0 H locs) (e1 : H1.size = H.size) (e2 : ∀ q, q ≠ a → H1[q]? = H[q]?) (ha : base ≤ a) : zs_S base H0 H1 (locs ++ [⟨a, i⟩]) :=
  zs_S_call hS (Nat.le_of_eq e1.symm) (fun q _ hb => e2 q (fun z => hb (z ▸ ha))) (fun q hq => by rw [List.mem_singleton.mp hq]; exact ha)
/-- what the tables say of a class: its place, its words, its fields' types, that they are apart -/
def zs_cls (ci : Nat) (C : String) (T : u_T) (N : Nat) (ty : Nat → FieldType) : Prop := ci < 64 ∧ zs_C[ci]? = some (C, T, N) ∧ (∀ w ∈ u_ws C T N, w ∈ lw_all) ∧ (∀ k, k < N → parseFieldDescriptor (T k).2.2.1 = some (ty k)) ∧ (∀ a, a < N → ∀ b, b < N → a ≠ b → (T a).2.1 ≠ (T b).2.1)
section ZD
variable {σ α β τ : Type} {D : zs_D} {Rl : σ → zs_AH → Prop} {bd : σ → Nat × Nat} {Fn : zs_Q σ α} {own : String} {cc : ByteArray} {nL : Nat} {rt : Option FieldType} {nm : String} {d : Nat} {M : σ} {pc : Nat} {lv : List (Nat × Value)} {st : List Value} {o : Option β} {K : β → Option (α × σ)}
/-- behind a call -/
theorem zs_after {p : Program} {l : Launch} {e : Env} {R : Room} {s : State} {m : MethodId} {args : Array Value} {below : List Frame} {meth : Method} {c : Code} {H : Heap} {locs : List Loc} {cells slots mc ms base : Nat} {Q : State → Prop} {ls : Array Slot} {st0 rest : List Value} {enc : τ → Option Value} {r : τ} {M1 : σ} {a : Array Value}
    (hr : va_Run p l e R s m args below meth c H locs cells slots mc ms (F0 m pc ls st0) rest (zs_Qc D Rl enc r M1 base a) (fun q => base ≤ q)) (hS : zs_S base s.heap H locs)
    (kk : ∀ (h1 : zs_AH) (H1 : Heap) (locs1 : List Loc), h1.1 = base → Rl M1 h1 → zs_R D h1 H1 → zs_S base s.heap H1 locs1 → W p l e R s m args below meth c H1 locs1 (cells + mc) (slots + ms) Q (F0 m (pc + 3) ls ((enc r).toList ++ rest))) : W p l e R s m args below meth c H locs cells slots Q (F0 m pc ls st0) := by
  intro T hT X
  obtain ⟨v, s0, t, T', L, h0, X', hL, e1, e2, ⟨hv, ⟨h', hb, hR, hZ⟩, hz, hk⟩, step⟩ := hr T hT X
  cases hv
  subst h0
  obtain ⟨t2, a1, b1⟩ := kk h' T'.heap (locs ++ L) hb hR (by rw [e1]; exact hZ) (zs_S_call hS (by rw [e1]; exact hz) (fun q h1 h2 => by rw [e1]; exact hk q h1 h2) hL) T' rfl X'
  exact ⟨t2, step t2 a1, b1⟩
/-- a call of an object's method -/
theorem zs_callV0 {y : MethodName} {cc' : ByteArray} {nL' d' n i ci : Nat} {rt' : Option FieldType} {enc : τ → Option Value} {b : Nat} {g : Option (τ × σ)} {f : τ × σ → Option β} {C : String} {T : u_T} {N : Nat} {ty : Nat → FieldType} {st0 : List Value} (As rest : List Value)
    (hC : zs_Con D Rl bd enc y cc' nL' rt' d' (.ref b :: As) M g) (hm : zs_mV C y cc' nL' rt' n) (hl : Cond.methodLink own i y ∈ lw_all) (hc : zs_cls ci C T N ty) (hb : ∀ h, Rl M h → ∃ k f, h.2.2 b = some (ci, k, f)) (hd : decode cc pc = .ok (.invokevirtual i, 3)) (hst : st0 = As.reverse ++ .ref b :: rest) (hn : As.length = n) (hdd : d' + 1 ≤ d) (hw : (rest.map fun v => v.category).sum ≤ 8)
    (k : ∀ (r : τ) (M1 : σ), g = some (r, M1) → zs_Sim D Rl bd Fn own cc nL rt nm d M1 (pc + 3) lv ((enc r).toList ++ rest) (f (r, M1)) K) : zs_Sim D Rl bd Fn own cc nL rt nm d M pc lv st0 (g.bind f) K := by
  intro r M' ee
  cases hg : g with
  | none => rw [hg] at ee; cases ee
  | some x =>
    obtain ⟨v, M1⟩ := x
    rw [hg] at ee
    obtain ⟨hm1, hM⟩ := hC v M1 hg
    obtain ⟨hm2, k⟩ := k v M1 hg r M' ee
    refine ⟨⟨Nat.le_trans hm2.1 hm1.1, Nat.le_trans hm2.2 hm1.2⟩, fun p l e R s m args below meth c H locs cells slots h ls Cx h1 h2 h3 h4 hR hZ hS hl9 => ?_⟩
    have Cx0 := Cx
    obtain ⟨c1, c2, c3, c4, c5, c6, c7, c8, c9, c10⟩ := Cx
    obtain ⟨m1, m2, m3, m4, m5, m6⟩ := hm
    obtain ⟨kb, fb, eb⟩ := hb h hR
    obtain ⟨rr, q1, q2, cell, q3, q4, q5, -⟩ := zs_obj hZ eb hc.1
    have hrr : rr = (C, T, N) := Option.some.inj (q1.symm.trans hc.2.1)
    have hcl : s.vm.findClass C = some cell.cls := by rw [q4]; exact (c8.1 ci (C, T, N) hc.2.1).2.1
    refine zs_after (va_runV (As := As) (rest := rest) (free := fun q => h.1 ≤ q) (n := n) (index := i) (C := C) (b := b) (bytes := cc') (maxL := nL') (ret := rt') (ws := ws_ y cc' nL' rt') ⟨c1, c2, c5, c6, c7⟩ (hM l h.1 c10) (cwV n c7 (lw_V hl m1 m2 m3 m4) rfl rfl rfl m6 ⟨by show d' + 1 ≤ R.frames; omega, by show 8 + (nL' + 11) + 64 * d' ≤ R.locals; omega⟩)
      ⟨zs_Pc_blind, ⟨cell, q3, by rw [q5]; rfl, hcl⟩, fun U hU hW => ⟨rfl, zs_K_next hW (fun a ha hb => by rw [hU]; exact hS.2.2.1 a ha hb) c8, by rw [hU]; exact Nat.le_trans hS.1 hS.2.1, h, rfl, hR, by rw [hU]; exact hZ⟩⟩ rfl hn hl9.1 hst (lv_room hw) hd ⟨by omega, by omega⟩) hS ?_
    intro h9 H1 locs1 e1 e2 e3 e4
    refine e1 ▸ k p l e R s m args below meth c H1 locs1 _ _ h9 ls ?_ h1 h2 (by omega) (by omega) e2 e3 (e1 ▸ e4) hl9
    rw [e1]; exact Cx0
/-- a call of a method without an object -/
theorem zs_callS0 {y : MethodName} {cc' : ByteArray} {nL' d' n i : Nat} {rt' : Option FieldType} {enc : τ → Option Value} {g : Option (τ × σ)} {f : τ × σ → Option β} {st0 : List Value} (As rest : List Value)
    (hC : zs_Con D Rl bd enc y cc' nL' rt' d' As M g) (hm : zs_mS y cc' nL' rt' n) (hl : Cond.methodLink own i y ∈ lw_all) (hd : decode cc pc = .ok (.invokestatic i, 3)) (hst : st0 = As.reverse ++ rest) (hn : As.length = n) (hdd : d' + 1 ≤ d) (hw : (rest.map fun v => v.category).sum ≤ 8)
    (k : ∀ (r : τ) (M1 : σ), g = some (r, M1) → zs_Sim D Rl bd Fn own cc nL rt nm d M1 (pc + 3) lv ((enc r).toList ++ rest) (f (r, M1)) K) : zs_Sim D Rl bd Fn own cc nL rt nm d M pc lv st0 (g.bind f) K := by
  intro r M' ee
  cases hg : g with
  | none => rw [hg] at ee; cases ee
  | some x =>
    obtain ⟨v, M1⟩ := x
    rw [hg] at ee
    obtain ⟨hm1, hM⟩ := hC v M1 hg
    obtain ⟨hm2, k⟩ := k v M1 hg r M' ee
    refine ⟨⟨Nat.le_trans hm2.1 hm1.1, Nat.le_trans hm2.2 hm1.2⟩, fun p l e R s m args below meth c H locs cells slots h ls Cx h1 h2 h3 h4 hR hZ hS hl9 => ?_⟩
    have Cx0 := Cx
    obtain ⟨c1, c2, c3, c4, c5, c6, c7, c8, c9, c10⟩ := Cx
    obtain ⟨m1, m2, m3, m5, m6⟩ := hm
    refine zs_after (va_runS (As := As) (rest := rest) (free := fun q => h.1 ≤ q) (n := n) (index := i) (bytes := cc') (maxL := nL') (ret := rt') (ws := ws_ y cc' nL' rt') ⟨c1, c2, c5, c6, c7⟩ (hM l h.1 c10) (va_cwS n c7 (lw_S hl m1 m2 m3) rfl rfl rfl m6 ⟨by show d' + 1 ≤ R.frames; omega, by show 8 + (nL' + 11) + 64 * d' ≤ R.locals; omega⟩)
      ⟨zs_Pc_blind, fun U hU hW => ⟨rfl, zs_K_next hW (fun a ha hb => by rw [hU]; exact hS.2.2.1 a ha hb) c8, by rw [hU]; exact Nat.le_trans hS.1 hS.2.1, h, rfl, hR, by rw [hU]; exact hZ⟩⟩ rfl hn hl9.1 hst (lv_room hw) hd ⟨by omega, by omega⟩) hS ?_
    intro h9 H1 locs1 e1 e2 e3 e4
    refine e1 ▸ k p l e R s m args below meth c H1 locs1 _ _ h9 ls ?_ h1 h2 (by omega) (by omega) e2 e3 (e1 ▸ e4) hl9
    rw [e1]; exact Cx0
theorem zs_mapb {g : Option τ} {f : τ → Option β} {M : σ} : (g.map fun x => (x, M)).bind (fun z => f z.1) = g.bind f := by cases g <;> rfl
theorem zs_mape {g : Option τ} {M M1 : σ} {r : τ} (h : (g.map fun x => (x, M)) = some (r, M1)) : M1 = M := by cases g with
  | none => cases h
  | some x => exact (congrArg (fun z => z.2) (Option.some.inj h)).symm
theorem zs_mapu {g : Option σ} {f : σ → Option β} : (g.map fun x => ((), x)).bind (fun z => f z.2) = g.bind f := by cases g <;> rfl
/-- a call of an object's method: of any, of one that leaves the state alone, of one without an answer -/
theorem zs_callV {y : MethodName} {cc' : ByteArray} {nL' d' n i ci : Nat} {rt' : Option FieldType} {enc : τ → Option Value} {b : Nat} {g : Option (τ × σ)} {f : τ × σ → Option β} {C : String} {T : u_T} {N : Nat} {ty : Nat → FieldType} {st0 : List Value} (As rest : List Value)
    (hC : zs_Con D Rl bd enc y cc' nL' rt' d' (.ref b :: As) M g) (hm : zs_mV C y cc' nL' rt' n) (hl : Cond.methodLink own i y ∈ lw_all) (hc : zs_cls ci C T N ty) (hb : ∀ h, Rl M h → ∃ k f, h.2.2 b = some (ci, k, f)) (hd : decode cc pc = .ok (.invokevirtual i, 3)) (hst : st0 = As.reverse ++ .ref b :: rest) (hn : As.length = n) (hdd : d' + 1 ≤ d) (hw : (rest.map fun v => v.category).sum ≤ 8)
    (k : ∀ (r : τ) (M1 : σ), zs_Sim D Rl bd Fn own cc nL rt nm d M1 (pc + 3) lv ((enc r).toList ++ rest) (f (r, M1)) K) : zs_Sim D Rl bd Fn own cc nL rt nm d M pc lv st0 (g.bind f) K :=
  zs_callV0 As rest hC hm hl hc hb hd hst hn hdd hw (fun r M1 _ => k r M1)
theorem zs_callVr {y : MethodName} {cc' : ByteArray} {nL' d' n i ci : Nat} {rt' : Option FieldType} {enc : τ → Option Value} {b : Nat} {g : Option τ} {f : τ → Option β} {C : String} {T : u_T} {N : Nat} {ty : Nat → FieldType} {st0 : List Value} (As rest : List Value)
    (hC : zs_Con D Rl bd enc y cc' nL' rt' d' (.ref b :: As) M (g.map fun x => (x, M))) (hm : zs_mV C y cc' nL' rt' n) (hl : Cond.methodLink own i y ∈ lw_all) (hc : zs_cls ci C T N ty) (hb : ∀ h, Rl M h → ∃ k f, h.2.2 b = some (ci, k, f)) (hd : decode cc pc = .ok (.invokevirtual i, 3)) (hst : st0 = As.reverse ++ .ref b :: rest) (hn : As.length = n) (hdd : d' + 1 ≤ d) (hw : (rest.map fun v => v.category).sum ≤ 8)
    (k : ∀ r : τ, zs_Sim D Rl bd Fn own cc nL rt nm d M (pc + 3) lv ((enc r).toList ++ rest) (f r) K) : zs_Sim D Rl bd Fn own cc nL rt nm d M pc lv st0 (g.bind f) K :=
  zs_eqo zs_mapb.symm (zs_callV0 As rest hC hm hl hc hb hd hst hn hdd hw (fun r M1 e => by rw [zs_mape e]; exact k r))
theorem zs_callVv {y : MethodName} {cc' : ByteArray} {nL' d' n i ci : Nat} {rt' : Option FieldType} {b : Nat} {g : Option σ} {f : σ → Option β} {C : String} {T : u_T} {N : Nat} {ty : Nat → FieldType} {st0 : List Value} (As rest : List Value)
    (hC : zs_Con D Rl bd zs_eV y cc' nL' rt' d' (.ref b :: As) M (g.map fun x => ((), x))) (hm : zs_mV C y cc' nL' rt' n) (hl : Cond.methodLink own i y ∈ lw_all) (hc : zs_cls ci C T N ty) (hb : ∀ h, Rl M h → ∃ k f, h.2.2 b = some (ci, k, f)) (hd : decode cc pc = .ok (.invokevirtual i, 3)) (hst : st0 = As.reverse ++ .ref b :: rest) (hn : As.length = n) (hdd : d' + 1 ≤ d) (hw : (rest.map fun v => v.category).sum ≤ 8)
    (k : ∀ M1 : σ, zs_Sim D Rl bd Fn own cc nL rt nm d M1 (pc + 3) lv rest (f M1) K) : zs_Sim D Rl bd Fn own cc nL rt nm d M pc lv st0 (g.bind f) K :=
  zs_eqo zs_mapu.symm (zs_callV0 As rest hC hm hl hc hb hd hst hn hdd hw (fun _ M1 _ => k M1))
theorem zs_callS {y : MethodName} {cc' : ByteArray} {nL' d' n i : Nat} {rt' : Option FieldType} {enc : τ → Option Value} {g : Option (τ × σ)} {f : τ × σ → Option β} {st0 : List Value} (As rest : List Value)
    (hC : zs_Con D Rl bd enc y cc' nL' rt' d' As M g) (hm : zs_mS y cc' nL' rt' n) (hl : Cond.methodLink own i y ∈ lw_all) (hd : decode cc pc = .ok (.invokestatic i, 3)) (hst : st0 = As.reverse ++ rest) (hn : As.length = n) (hdd : d' + 1 ≤ d) (hw : (rest.map fun v => v.category).sum ≤ 8)
    (k : ∀ (r : τ) (M1 : σ), zs_Sim D Rl bd Fn own cc nL rt nm d M1 (pc + 3) lv ((enc r).toList ++ rest) (f (r, M1)) K) : zs_Sim D Rl bd Fn own cc nL rt nm d M pc lv st0 (g.bind f) K :=
  zs_callS0 As rest hC hm hl hd hst hn hdd hw (fun r M1 _ => k r M1)
theorem zs_callSr {y : MethodName} {cc' : ByteArray} {nL' d' n i : Nat} {rt' : Option FieldType} {enc : τ → Option Value} {g : Option τ} {f : τ → Option β} {st0 : List Value} (As rest : List Value)
    (hC : zs_Con D Rl bd enc y cc' nL' rt' d' As M (g.map fun x => (x, M))) (hm : zs_mS y cc' nL' rt' n) (hl : Cond.methodLink own i y ∈ lw_all) (hd : decode cc pc = .ok (.invokestatic i, 3)) (hst : st0 = As.reverse ++ rest) (hn : As.length = n) (hdd : d' + 1 ≤ d) (hw : (rest.map fun v => v.category).sum ≤ 8)
    (k : ∀ r : τ, zs_Sim D Rl bd Fn own cc nL rt nm d M (pc + 3) lv ((enc r).toList ++ rest) (f r) K) : zs_Sim D Rl bd Fn own cc nL rt nm d M pc lv st0 (g.bind f) K :=
  zs_eqo zs_mapb.symm (zs_callS0 As rest hC hm hl hd hst hn hdd hw (fun r M1 e => by rw [zs_mape e]; exact k r))
theorem zs_callSv {y : MethodName} {cc' : ByteArray} {nL' d' n i : Nat} {rt' : Option FieldType} {g : Option σ} {f : σ → Option β} {st0 : List Value} (As rest : List Value)
    (hC : zs_Con D Rl bd zs_eV y cc' nL' rt' d' As M (g.map fun x => ((), x))) (hm : zs_mS y cc' nL' rt' n) (hl : Cond.methodLink own i y ∈ lw_all) (hd : decode cc pc = .ok (.invokestatic i, 3)) (hst : st0 = As.reverse ++ rest) (hn : As.length = n) (hdd : d' + 1 ≤ d) (hw : (rest.map fun v => v.category).sum ≤ 8)
    (k : ∀ M1 : σ, zs_Sim D Rl bd Fn own cc nL rt nm d M1 (pc + 3) lv rest (f M1) K) : zs_Sim D Rl bd Fn own cc nL rt nm d M pc lv st0 (g.bind f) K :=
  zs_eqo zs_mapu.symm (zs_callS0 As rest hC hm hl hd hst hn hdd hw (fun _ M1 _ => k M1))
/-- a step over the heap that writes nothing -/
theorem zs_hmap {pc' : Nat} {st' : List Value}
    (f : ∀ (p : Program) (l : Launch) (e : Env) (R : Room) (s : State) (m : MethodId) (args : Array Value) (below : List Frame) (meth : Method) (c : Code) (H : Heap) (locs : List Loc) (cells slots : Nat) (Q : State → Prop) (h : zs_AH) (ls : Array Slot), p.tables.exec = Jvm.exec → c.code = cc → s.vm.findClass own = some m.cls → (∀ w ∈ lw_all, w.before args s = true) → zs_K D h.1 s → Rl M h → zs_R D h H → W p l e R s m args below meth c H locs cells slots Q (F0 m pc' ls st') → W p l e R s m args below meth c H locs cells slots Q (F0 m pc ls st))
    (k : zs_Sim D Rl bd Fn own cc nL rt nm d M pc' lv st' o K) : zs_Sim D Rl bd Fn own cc nL rt nm d M pc lv st o K := by
  intro r M' ee
  obtain ⟨hm, k⟩ := k r M' ee
  refine ⟨hm, fun p l e R s m args below meth c H locs cells slots h ls C h1 h2 h3 h4 hR hZ hS hl => ?_⟩
  have C0 := C
  obtain ⟨c1, c2, -, -, -, c6, c7, c8, -⟩ := C
  exact f p l e R s m args below meth c H locs cells slots _ h ls c1 c2 c6 c7 c8 hR hZ (k p l e R s m args below meth c H locs cells slots h ls C0 h1 h2 h3 h4 hR hZ hS hl)
/-- an element is read -/
theorem zs_hald {n a : Nat} {F : Nat → τ} {i : Int32} {f : τ → Option β} {v : τ → Value}
    (g : zs_in i n = true → ∀ (p : Program) (l : Launch) (e : Env) (R : Room) (s : State) (m : MethodId) (args : Array Value) (below : List Frame) (meth : Method) (c : Code) (H : Heap) (locs : List Loc) (cells slots : Nat) (Q : State → Prop) (h : zs_AH) (ls : Array Slot), p.tables.exec = Jvm.exec → c.code = cc → zs_K D h.1 s → Rl M h → zs_R D h H → W p l e R s m args below meth c H locs cells slots Q (F0 m (pc + 1) ls (v (F i.toNatClampNeg) :: st)) → W p l e R s m args below meth c H locs cells slots Q (F0 m pc ls (.int i :: .ref a :: st)))
    (k : ∀ x, zs_Sim D Rl bd Fn own cc nL rt nm d M (pc + 1) lv (v x :: st) (f x) K) : zs_Sim D Rl bd Fn own cc nL rt nm d M pc lv (.int i :: .ref a :: st) ((zs_ald n F i).bind f) K := by
  by_cases hin : zs_in i n = true
  · refine zs_eqo (o2 := f (F i.toNatClampNeg)) (by unfold zs_ald; rw [if_pos hin]; rfl) ?_
    exact zs_hmap (fun p l e R s m args below meth c H locs cells slots Q h ls hx hb _ _ hK hR hZ kk => g hin p l e R s m args below meth c H locs cells slots Q h ls hx hb hK hR hZ kk) (k _)
  · refine zs_eqo (o2 := none) (by unfold zs_ald; rw [if_neg hin]; rfl) ?_
    intro r M' ee; cases ee
theorem zs_iald {n a : Nat} {F : Nat → Int32} {i : Int32} {f : Int32 → Option β} (hL : ∀ h, Rl M h → h.2.2 a = some (64, n, fun j => .int (F j))) (hd : decode cc pc = .ok (.iaload, 1)) (k : ∀ x, zs_Sim D Rl bd Fn own cc nL rt nm d M (pc + 1) lv (.int x :: st) (f x) K) : zs_Sim D Rl bd Fn own cc nL rt nm d M pc lv (.int i :: .ref a :: st) ((zs_ald n F i).bind f) K :=
  zs_hald (v := fun x => .int x) (fun hin p l e R s m args below meth c H locs cells slots Q h ls hx hb hK hR hZ kk => W.iald (v := .int (F i.toNatClampNeg)) hx hb (zs_arr (t := 0) hZ (hL h hR)) ((hK.2.1 0 .int rfl).1 n _) (fun q => by cases q) (by rw [arrV_size]; exact zs_in_not hin) (arrV_read _ _ (zs_in_lt hin)) rfl rfl hd kk) k
theorem zs_bald {n a : Nat} {F : Nat → Int32} {i : Int32} {f : Int32 → Option β} (hL : ∀ h, Rl M h → h.2.2 a = some (65, n, fun j => .int (F j))) (hd : decode cc pc = .ok (.baload, 1)) (k : ∀ x, zs_Sim D Rl bd Fn own cc nL rt nm d M (pc + 1) lv (.int x :: st) (f x) K) : zs_Sim D Rl bd Fn own cc nL rt nm d M pc lv (.int i :: .ref a :: st) ((zs_ald n F i).bind f) K :=
  zs_hald (v := fun x => .int x) (fun hin p l e R s m args below meth c H locs cells slots Q h ls hx hb hK hR hZ kk => W.bald (v := .int (F i.toNatClampNeg)) hx hb (zs_arr (t := 1) hZ (hL h hR)) ((hK.2.1 1 .byte rfl).1 n _) (fun q => by cases q) (by rw [arrV_size]; exact zs_in_not hin) (arrV_read _ _ (zs_in_lt hin)) rfl rfl hd kk) k
theorem zs_sald {n a : Nat} {F : Nat → Int32} {i : Int32} {f : Int32 → Option β} (hL : ∀ h, Rl M h → h.2.2 a = some (66, n, fun j => .int (F j))) (hd : decode cc pc = .ok (.saload, 1)) (k : ∀ x, zs_Sim D Rl bd Fn own cc nL rt nm d M (pc + 1) lv (.int x :: st) (f x) K) : zs_Sim D Rl bd Fn own cc nL rt nm d M pc lv (.int i :: .ref a :: st) ((zs_ald n F i).bind f) K :=
  zs_hald (v := fun x => .int x) (fun hin p l e R s m args below meth c H locs cells slots Q h ls hx hb hK hR hZ kk => W.sald (v := .int (F i.toNatClampNeg)) hx hb (zs_arr (t := 2) hZ (hL h hR)) ((hK.2.1 2 .short rfl).1 n _) (fun q => by cases q) (by rw [arrV_size]; exact zs_in_not hin) (arrV_read _ _ (zs_in_lt hin)) rfl rfl hd kk) k
theorem zs_zald {n a : Nat} {F : Nat → Int32} {i : Int32} {f : Int32 → Option β} (hL : ∀ h, Rl M h → h.2.2 a = some (67, n, fun j => .int (F j))) (hd : decode cc pc = .ok (.baload, 1)) (k : ∀ x, zs_Sim D Rl bd Fn own cc nL rt nm d M (pc + 1) lv (.int x :: st) (f x) K) : zs_Sim D Rl bd Fn own cc nL rt nm d M pc lv (.int i :: .ref a :: st) ((zs_ald n F i).bind f) K :=
  zs_hald (v := fun x => .int x) (fun hin p l e R s m args below meth c H locs cells slots Q h ls hx hb hK hR hZ kk => W.zald (v := .int (F i.toNatClampNeg)) hx hb (zs_arr (t := 3) hZ (hL h hR)) ((hK.2.1 3 .boolean rfl).1 n _) (fun q => by cases q) (by rw [arrV_size]; exact zs_in_not hin) (arrV_read _ _ (zs_in_lt hin)) rfl rfl hd kk) k
theorem zs_lald {n a : Nat} {F : Nat → Int64} {i : Int32} {f : Int64 → Option β} (hL : ∀ h, Rl M h → h.2.2 a = some (68, n, fun j => .long (F j))) (hd : decode cc pc = .ok (.laload, 1)) (k : ∀ x, zs_Sim D Rl bd Fn own cc nL rt nm d M (pc + 1) lv (.long x :: st) (f x) K) : zs_Sim D Rl bd Fn own cc nL rt nm d M pc lv (.int i :: .ref a :: st) ((zs_ald n F i).bind f) K :=
  zs_hald (v := fun x => .long x) (fun hin p l e R s m args below meth c H locs cells slots Q h ls hx hb hK hR hZ kk => W.lald (v := .long (F i.toNatClampNeg)) hx hb (zs_arr (t := 4) hZ (hL h hR)) ((hK.2.1 4 .long rfl).1 n _) (fun q => by cases q) (by rw [arrV_size]; exact zs_in_not hin) (arrV_read _ _ (zs_in_lt hin)) rfl rfl hd kk) k
/-- a cell is written -/
theorem zs_hput {M1 : σ} {pc' a i : Nat} {st' : List Value} (hbd : bd M1 = bd M) (x : zs_HC)
    (hL : ∀ h, Rl M h → h.1 ≤ a ∧ Rl M1 (zs_up h a x))
    (f : ∀ (p : Program) (l : Launch) (e : Env) (R : Room) (s : State) (m : MethodId) (args : Array Value) (below : List Frame) (meth : Method) (c : Code) (H : Heap) (locs : List Loc) (cells slots : Nat) (Q : State → Prop) (h : zs_AH) (ls : Array Slot), zs_Cx D own cc nL rt nm h.1 p l s m args meth c → Rl M h → zs_R D h H → (∀ (H1 : Heap) (j : Nat), zs_A D a x H1 → H1.size = H.size → (∀ q, q ≠ a → H1[q]? = H[q]?) → W p l e R s m args below meth c H1 (locs ++ [⟨a, j⟩]) cells slots Q (F0 m pc' ls st')) → W p l e R s m args below meth c H locs cells slots Q (F0 m pc ls st))
    (k : zs_Sim D Rl bd Fn own cc nL rt nm d M1 pc' lv st' o K) : zs_Sim D Rl bd Fn own cc nL rt nm d M pc lv st o K := by
  intro r M' ee
  obtain ⟨hm, k⟩ := k r M' ee
  rw [hbd] at hm k
  refine ⟨hm, fun p l e R s m args below meth c H locs cells slots h ls C h1 h2 h3 h4 hR hZ hS hl => ?_⟩
  obtain ⟨hb, hR1⟩ := hL h hR
  exact f p l e R s m args below meth c H locs cells slots _ h ls C hR hZ (fun H1 j e0 e1 e2 => k p l e R s m args below meth c H1 _ cells slots (zs_up h a x) ls C h1 h2 h3 h4 hR1 (zs_R_up hZ e1 e2 e0) (zs_S_put hS e1 e2 hb) hl)
theorem zs_updV (F : Nat → Int32) (k : Nat) (x : Int32) : updV (fun j => .int (F j)) k (.int x) = fun j => .int (upd F k x j) := by
  funext j
  by_cases h : j = k
  · simp [updV, upd, h]
  · simp [updV, upd, h]
theorem zs_updL (F : Nat → Int64) (k : Nat) (x : Int64) : updV (fun j => .long (F j)) k (.long x) = fun j => .long (vp_updL F k x j) := by
  funext j
  by_cases h : j = k
  · simp [updV, vp_updL, h]
  · simp [updV, vp_updL, h]
theorem zs_hast {ρ : Type} {n : Nat} {i : Int32} {x : ρ} {f : ρ → Option β} {st0 : List Value} (k : zs_in i n = true → zs_Sim D Rl bd Fn own cc nL rt nm d M pc lv st0 (f x) K) : zs_Sim D Rl bd Fn own cc nL rt nm d M pc lv st0 ((zs_ast n i x).bind f) K := by
  by_cases hin : zs_in i n = true
  · exact zs_eqo (o2 := f x) (by unfold zs_ast; rw [if_pos hin]; rfl) (k hin)
  · refine zs_eqo (o2 := none) (by unfold zs_ast; rw [if_neg hin]; rfl) ?_
    intro r M' ee; cases ee
theorem zs_iast {M1 : σ} {n a : Nat} {F : Nat → Int32} {i x : Int32} {f : σ → Option β} (hbd : bd M1 = bd M) (hL : ∀ h, Rl M h → h.2.2 a = some (64, n, fun j => .int (F j)) ∧ h.1 ≤ a ∧ Rl M1 (zs_up h a (64, n, fun j => .int (upd F i.toNatClampNeg x j)))) (hd : decode cc pc = .ok (.iastore, 1)) (k : zs_Sim D Rl bd Fn own cc nL rt nm d M1 (pc + 1) lv st (f M1) K) : zs_Sim D Rl bd Fn own cc nL rt nm d M pc lv (.int x :: .int i :: .ref a :: st) ((zs_ast n i M1).bind f) K := by
  refine zs_hast fun hin => ?_
  refine zs_hput (i := 0) hbd (64, n, fun j => .int (upd F i.toNatClampNeg x j)) (fun h hR => (hL h hR).2) ?_ k
  intro p l e R s m args below meth c H locs cells slots Q h ls C hR hZ kk
  have hc := zs_arr (t := 0) hZ (hL h hR).1
  refine W.iast C.1 C.2.1 hc ((C.2.2.2.2.2.2.2.1.2.1 0 .int rfl).1 n _) (fun q => by cases q) (by rw [arrV_size]; exact zs_in_not hin) rfl rfl hd (fun H1 e0 e1 e2 => kk H1 _ (Or.inr ⟨Nat.le_refl 64, ?_⟩) e1 e2)
  rw [e0, arrV_store, zs_updV]
  rfl
theorem zs_bast {M1 : σ} {n a : Nat} {F : Nat → Int32} {i x : Int32} {f : σ → Option β} (hbd : bd M1 = bd M) (hL : ∀ h, Rl M h → h.2.2 a = some (65, n, fun j => .int (F j)) ∧ h.1 ≤ a ∧ Rl M1 (zs_up h a (65, n, fun j => .int (upd F i.toNatClampNeg (vp_nar .byte x) j)))) (hd : decode cc pc = .ok (.bastore, 1)) (k : zs_Sim D Rl bd Fn own cc nL rt nm d M1 (pc + 1) lv st (f M1) K) : zs_Sim D Rl bd Fn own cc nL rt nm d M pc lv (.int x :: .int i :: .ref a :: st) ((zs_ast n i M1).bind f) K := by
  refine zs_hast fun hin => ?_
  refine zs_hput (i := 0) hbd (65, n, fun j => .int (upd F i.toNatClampNeg (vp_nar .byte x) j)) (fun h hR => (hL h hR).2) ?_ k
  intro p l e R s m args below meth c H locs cells slots Q h ls C hR hZ kk
  have hc := zs_arr (t := 1) hZ (hL h hR).1
  refine W.bast C.1 C.2.1 hc ((C.2.2.2.2.2.2.2.1.2.1 1 .byte rfl).1 n _) (fun q => by cases q) (by rw [arrV_size]; exact zs_in_not hin) rfl rfl hd (fun H1 e0 e1 e2 => kk H1 _ (Or.inr ⟨Nat.le_of_ble_eq_true rfl, ?_⟩) e1 e2)
  rw [e0, arrV_store, show narrow .byte (.int x) = .int (vp_nar .byte x) from rfl, zs_updV]
  rfl
theorem zs_sast {M1 : σ} {n a : Nat} {F : Nat → Int32} {i x : Int32} {f : σ → Option β} (hbd : bd M1 = bd M) (hL : ∀ h, Rl M h → h.2.2 a = some (66, n, fun j => .int (F j)) ∧ h.1 ≤ a ∧ Rl M1 (zs_up h a (66, n, fun j => .int (upd F i.toNatClampNeg (vp_nar .short x) j)))) (hd : decode cc pc = .ok (.sastore, 1)) (k : zs_Sim D Rl bd Fn own cc nL rt nm d M1 (pc + 1) lv st (f M1) K) : zs_Sim D Rl bd Fn own cc nL rt nm d M pc lv (.int x :: .int i :: .ref a :: st) ((zs_ast n i M1).bind f) K := by
  refine zs_hast fun hin => ?_
  refine zs_hput (i := 0) hbd (66, n, fun j => .int (upd F i.toNatClampNeg (vp_nar .short x) j)) (fun h hR => (hL h hR).2) ?_ k
  intro p l e R s m args below meth c H locs cells slots Q h ls C hR hZ kk
  have hc := zs_arr (t := 2) hZ (hL h hR).1
  refine W.sast C.1 C.2.1 hc ((C.2.2.2.2.2.2.2.1.2.1 2 .short rfl).1 n _) (fun q => by cases q) (by rw [arrV_size]; exact zs_in_not hin) rfl rfl hd (fun H1 e0 e1 e2 => kk H1 _ (Or.inr ⟨Nat.le_of_ble_eq_true rfl, ?_⟩) e1 e2)
  rw [e0, arrV_store, show narrow .short (.int x) = .int (vp_nar .short x) from rfl, zs_updV]
  rfl
theorem zs_zast {M1 : σ} {n a : Nat} {F : Nat → Int32} {i x : Int32} {f : σ → Option β} (hbd : bd M1 = bd M) (hL : ∀ h, Rl M h → h.2.2 a = some (67, n, fun j => .int (F j)) ∧ h.1 ≤ a ∧ Rl M1 (zs_up h a (67, n, fun j => .int (upd F i.toNatClampNeg (vp_nar .boolean x) j)))) (hd : decode cc pc = .ok (.bastore, 1)) (k : zs_Sim D Rl bd Fn own cc nL rt nm d M1 (pc + 1) lv st (f M1) K) : zs_Sim D Rl bd Fn own cc nL rt nm d M pc lv (.int x :: .int i :: .ref a :: st) ((zs_ast n i M1).bind f) K := by
  refine zs_hast fun hin => ?_
  refine zs_hput (i := 0) hbd (67, n, fun j => .int (upd F i.toNatClampNeg (vp_nar .boolean x) j)) (fun h hR => (hL h hR).2) ?_ k
  intro p l e R s m args below meth c H locs cells slots Q h ls C hR hZ kk
  have hc := zs_arr (t := 3) hZ (hL h hR).1
  refine W.zast C.1 C.2.1 hc ((C.2.2.2.2.2.2.2.1.2.1 3 .boolean rfl).1 n _) (fun q => by cases q) (by rw [arrV_size]; exact zs_in_not hin) rfl rfl hd (fun H1 e0 e1 e2 => kk H1 _ (Or.inr ⟨Nat.le_of_ble_eq_true rfl, ?_⟩) e1 e2)
  rw [e0, arrV_store, show narrow .boolean (.int x) = .int (vp_nar .boolean x) from rfl, zs_updV]
  rfl
theorem zs_last {M1 : σ} {n a : Nat} {F : Nat → Int64} {i : Int32} {x : Int64} {f : σ → Option β} (hbd : bd M1 = bd M) (hL : ∀ h, Rl M h → h.2.2 a = some (68, n, fun j => .long (F j)) ∧ h.1 ≤ a ∧ Rl M1 (zs_up h a (68, n, fun j => .long (vp_updL F i.toNatClampNeg x j)))) (hd : decode cc pc = .ok (.lastore, 1)) (k : zs_Sim D Rl bd Fn own cc nL rt nm d M1 (pc + 1) lv st (f M1) K) : zs_Sim D Rl bd Fn own cc nL rt nm d M pc lv (.long x :: .int i :: .ref a :: st) ((zs_ast n i M1).bind f) K := by
  refine zs_hast fun hin => ?_
  refine zs_hput (i := 0) hbd (68, n, fun j => .long (vp_updL F i.toNatClampNeg x j)) (fun h hR => (hL h hR).2) ?_ k
  intro p l e R s m args below meth c H locs cells slots Q h ls C hR hZ kk
  have hc := zs_arr (t := 4) hZ (hL h hR).1
  refine W.last C.1 C.2.1 hc ((C.2.2.2.2.2.2.2.1.2.1 4 .long rfl).1 n _) (fun q => by cases q) (by rw [arrV_size]; exact zs_in_not hin) rfl rfl hd (fun H1 e0 e1 e2 => kk H1 _ (Or.inr ⟨Nat.le_of_ble_eq_true rfl, ?_⟩) e1 e2)
  rw [e0, arrV_store, zs_updL]
  rfl
/-- a field is read -/
theorem zs_getf {ci N i a : Nat} {C : String} {T : u_T} {ty : Nat → FieldType} {v : Value} (k0 : Nat) (hc : zs_cls ci C T N ty) (hk0 : k0 < N) (hq : Cond.fieldLink own i (T k0).1 (T k0).2.1 (T k0).2.2.1 ∈ lw_all) (hL : ∀ h, Rl M h → ∃ f, h.2.2 a = some (ci, N, f) ∧ f k0 = v) (hd : decode cc pc = .ok (.getfield i, 3)) (k : zs_Sim D Rl bd Fn own cc nL rt nm d M (pc + 3) lv (v :: st) o K) : zs_Sim D Rl bd Fn own cc nL rt nm d M pc lv (.ref a :: st) o K := by
  refine zs_hmap ?_ k
  intro p l e R s m args below meth c H locs cells slots Q h ls hx hb ho hw hK hR hZ kk
  obtain ⟨h0, h1, h2, -, -⟩ := hc
  obtain ⟨f, e1, e2⟩ := hL h hR
  obtain ⟨r, q1, q2, cell, q3, q4, q5, q6⟩ := zs_obj hZ e1 h0
  obtain ⟨hS, hfc, kC, hkC, hkind⟩ := hK.1 ci _ h1
  obtain ⟨cf, kf, fi, fd, hi, hsl⟩ := hS k0 hk0
  refine W.getf hx hb ho (hw _ hq) hi (u_facts hfc hkC (u_lays hw h2 hk0) hi).1 q3 (by rw [q5]; exact fun z => by cases z) (v := v) ?_ rfl rfl hd kk
  rw [hsl, q6 k0 hk0, e2]
theorem zs_apart {ci N : Nat} {C : String} {T : u_T} {ty : Nat → FieldType} {s : State} {args : Array Value} {base : Nat} (hc : zs_cls ci C T N ty) (hw : ∀ w ∈ lw_all, w.before args s = true) (hK : zs_K D base s) : ∀ x y, x < N → y < N → x ≠ y → (D.1.2 ci) x ≠ (D.1.2 ci) y := by
  obtain ⟨h0, h1, h2, h3, h4⟩ := hc
  exact va_apart (own := C) (tys := []) (cl := zs_C) hw h2 ty h3 h4 ⟨hK.1, fun k q hk => by simp at hk⟩ h1
/-- a field is written -/
theorem zs_putf {M1 : σ} {ci N i a : Nat} {C : String} {T : u_T} {ty : Nat → FieldType} {v : Value} {F : Nat → Value} (k0 : Nat) (hc : zs_cls ci C T N ty) (hk0 : k0 < N) (hq : Cond.fieldLink own i (T k0).1 (T k0).2.1 (T k0).2.2.1 ∈ lw_all) (hfin : (T k0).2.2.2 = false) (hn : narrow (ty k0) v = v) (hfit : fits (ty k0) v = true) (hbd : bd M1 = bd M) (hL : ∀ h, Rl M h → h.2.2 a = some (ci, N, F) ∧ h.1 ≤ a ∧ Rl M1 (zs_up h a (ci, N, updV F k0 v))) (hd : decode cc pc = .ok (.putfield i, 3)) (k : zs_Sim D Rl bd Fn own cc nL rt nm d M1 (pc + 3) lv st o K) : zs_Sim D Rl bd Fn own cc nL rt nm d M pc lv (v :: .ref a :: st) o K := by
  refine zs_hput (i := 0) hbd (ci, N, updV F k0 v) (fun h hR => (hL h hR).2) ?_ k
  intro p l e R s m args below meth c H locs cells slots Q h ls Cx hR hZ kk
  have hap := zs_apart hc Cx.2.2.2.2.2.2.1 Cx.2.2.2.2.2.2.2.1
  obtain ⟨hx, hb, -, -, -, ho, hw, hK, -⟩ := Cx
  obtain ⟨h0, h1, h2, h3, h4⟩ := hc
  obtain ⟨r, q1, q2, cell, q3, q4, q5, q6⟩ := zs_obj hZ (hL h hR).1 h0
  obtain ⟨hS, hfc, kC, hkC, hkind⟩ := hK.1 ci _ h1
  obtain ⟨cf, kf, fi, fd, hi, hsl⟩ := hS k0 hk0
  have hlay := hw _ (h2 _ (u_in_lay hk0))
  unfold u_lay at hlay
  rw [if_neg (by rw [hfin]; decide)] at hlay
  have hst := (u_facts hfc hkC (u_lays hw h2 hk0) hi).1
  have h6 := u_store hfc hkC hkind hlay hi (h3 k0 hk0) hn hfit
  refine W.putK hx hb (f := fd) ⟨ho, hw _ hq, ⟨_, _, _, hi⟩, hst⟩ (by rw [q4]; exact h6) q3 q5 (by rw [hsl]; exact k2_hasslot (q6 k0 hk0)) rfl rfl hd fun H' e1 e2 e3 => ?_
  rw [hsl] at e1 ⊢
  exact kk H' _ (Or.inl ⟨h0, r, q1, q2, _, e1, q4, q5, t_set q6 hap hk0 v⟩) e2 e3
end ZD
