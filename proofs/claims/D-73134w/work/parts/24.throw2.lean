/-! methods that answer or throw: their contracts, ends, calls -/
set_option maxRecDepth 100000
def zx_Ql {σ α : Type} (D : zs_D) (Rl : σ → zs_AH → Prop) (enc : α → Option Value) (r : Option α) (M' : σ) (base : Nat) : Array Value → State → Outcome → State → Prop := match r with
  | some v => zs_Qc D Rl enc v M' base
  | none => fun _ _ _ _ => False
def zx_XC {σ α : Type} (D : zs_D) (Rl : σ → zs_AH → Prop) (ex : Nat) (r : Option α) (M' : σ) (base : Nat) : Addr → String → State → State → Prop := match r with
  | some _ => fun _ _ _ _ => False
  | none => fun q E st t => q = ex ∧ E = RX1 ∧ (∃ h', h'.1 = base ∧ Rl M' h' ∧ zs_R D h' t.heap) ∧ va_F (fun q => base ≤ q) st t
def zx_Fn {σ α : Type} (D : zs_D) (Rl : σ → zs_AH → Prop) (enc : α → Option Value) (ex : Nat) : zs_Q σ (Option α) := fun r M' below args s mc ms base => zx_MQ below (zx_Ql D Rl enc r M' base) (zx_XC D Rl ex r M' base) args s mc ms (fun q => base ≤ q)
def zx_Con {σ α : Type} (D : zs_D) (Rl : σ → zs_AH → Prop) (bd : σ → Nat × Nat) (enc : α → Option Value) (y : MethodName) (cc : ByteArray) (nL : Nat) (rt : Option FieldType) (d : Nat) (av : List Value) (M : σ) (ex : Nat) (o : Option (Option α × σ)) : Prop :=
  ∀ (r : Option α) (M' : σ), o = some (r, M') → ((bd M').1 ≤ (bd M).1 ∧ (bd M').2 ≤ (bd M).2) ∧ ∀ (l : Launch) (base : Nat), l.flags = flags0 →
    zx_Met l y (ws_ y cc nL rt) ({ frames := d, cells := (bd M).1 - (bd M').1, slots := (bd M).2 - (bd M').2, locals := 64 * d }) (zs_Pc D Rl av M base) (zx_Ql D Rl enc r M' base) (zx_XC D Rl ex r M' base) ((bd M).1 - (bd M').1) ((bd M).2 - (bd M').2) (fun q => base ≤ q)
/-- what follows an answer, what a throw -/
def zx_sel {σ α β : Type} (th : σ → β) (f : α × σ → Option β) : Option α × σ → Option β := fun z => match z.1 with
  | none => some (th z.2)
  | some v => f (v, z.2)
theorem zx_noTab {own nm : String} (htab : (own == "HairRope" && nm == "read") = false) : zx_tab own nm = [] := by
  unfold zx_tab
  rw [if_neg (by rw [htab]; decide)]
section ZX
variable {σ α β τ : Type} {D : zs_D} {Rl : σ → zs_AH → Prop} {bd : σ → Nat × Nat} {own : String} {cc : ByteArray} {nL : Nat} {rt : Option FieldType} {nm : String} {d ex : Nat} {M : σ} {pc : Nat} {lv : List (Nat × Value)} {st : List Value} {o : Option β} {enc : α → Option Value} {K : β → Option (Option α × σ)}
theorem zx_con {y : MethodName} {av : List Value} {o : Option (Option α × σ)} (hy : plainName y.cls = true) (hnm : y.name = nm) (hown : y.cls = own) (hlen : (lg_sl av).length ≤ nL) (k : zs_Sim D Rl bd (zx_Fn D Rl enc ex) own cc nL rt nm d M 0 (lv_args 0 av) [] o some) (htab : (own == "HairRope" && nm == "read") = false := by decide +kernel) : zx_Con D Rl bd enc y cc nL rt d av M ex o := by
  intro r M' ee
  obtain ⟨hm, k⟩ := k r M' (by rw [zs_bs]; exact ee)
  refine ⟨hm, fun l base hfl => zx_ofW (cc := cc) (maxL := nL) (ret := rt) hy rfl ?_⟩
  intro p e s m args below meth c s₁ B hml htt hv
  obtain ⟨rfl, hK, hbase, h, rfl, hR, hZ⟩ := hv
  have hts := atoms_spec (ws := ws_ y cc nL rt) B.pre
  have hts : ∀ w ∈ lw_all, w.before _ s = true := fun w h => hts w (List.mem_cons_of_mem _ h)
  have ho : s.vm.findClass own = some m.cls := hown ▸ findClass_of_methodNamed B.named
  have hn : meth.name = nm := hnm ▸ (name_of_methodNamed B.named B.method).1
  have htb : c.exceptionTable.toList = zx_tab own nm := by
    rw [zx_noTab htab]
    cases hq : c.exceptionTable.toList with
    | nil => rfl
    | cons x xs => exact (htt x (by rw [hq]; exact List.mem_cons_self)).elim
  have hl := lv_entry av (n := nL) hlen
  rw [lg_entry_eq]
  exact k p l e _ s m _ below meth c s.heap [] 0 0 h _ ⟨B.exec, B.bytes, B.returns, B.notSynchronized, hml, ho, hts, hK, ⟨hn, htb⟩, hfl⟩ (Nat.le_refl _) (Nat.le_refl _) (by show 0 + (bd M).1 = ((bd M).1 - (bd M').1) + (bd M').1; omega) (by show 0 + (bd M).2 = ((bd M).2 - (bd M').2) + (bd M').2; omega) hR hZ ⟨hbase, va_S.rf⟩ hl
theorem zx_iret {b : β} {x : Int32} {v : α} {ty : FieldType} (hd : decode cc pc = .ok (.ireturn, 1)) (hK : K b = some (some v, M)) (he : enc v = some (.int x)) (hn : narrow ty (.int x) = .int x) : zs_Sim D Rl bd (zx_Fn D Rl enc ex) own cc nL (some ty) nm d M pc lv [.int x] (some b) K := by
  intro r M' ee
  obtain ⟨rfl, rfl⟩ : some v = r ∧ M = M' := by have h1 := hK.symm.trans ee; exact ⟨congrArg (fun z => z.1) (Option.some.inj h1), congrArg (fun z => z.2) (Option.some.inj h1)⟩
  refine ⟨⟨Nat.le_refl _, Nat.le_refl _⟩, fun p l e R s m args below meth c H locs cells slots h ls C h1 h2 h3 h4 hR hZ hS hl => ?_⟩
  obtain ⟨c1, c2, c3, c4, -⟩ := C
  rw [← zs_cnt h3, ← zs_cnt h4]
  exact zx_ret (W.zret (ty := ty) (v := x) c1 c2 c3 hn (fun t ht hW => ⟨by rw [he], ⟨h, rfl, hR, by rw [ht]; exact hZ⟩, hS.2.F ht⟩) hS.2.2.2 hd c4)
theorem zx_vret {b : β} {v : α} (hd : decode cc pc = .ok (.return_, 1)) (hK : K b = some (some v, M)) (he : enc v = none) : zs_Sim D Rl bd (zx_Fn D Rl enc ex) own cc nL none nm d M pc lv [] (some b) K := by
  intro r M' ee
  obtain ⟨rfl, rfl⟩ : some v = r ∧ M = M' := by have h1 := hK.symm.trans ee; exact ⟨congrArg (fun z => z.1) (Option.some.inj h1), congrArg (fun z => z.2) (Option.some.inj h1)⟩
  refine ⟨⟨Nat.le_refl _, Nat.le_refl _⟩, fun p l e R s m args below meth c H locs cells slots h ls C h1 h2 h3 h4 hR hZ hS hl => ?_⟩
  obtain ⟨c1, c2, c3, c4, -⟩ := C
  rw [← zs_cnt h3, ← zs_cnt h4]
  exact zx_ret (W.vret c1 c2 c3 (fun t ht hW => ⟨by rw [he], ⟨h, rfl, hR, by rw [ht]; exact hZ⟩, hS.2.F ht⟩) hS.2.2.2 hd c4)
theorem zx_aret {b : β} {x : Value} {v : α} {ty : FieldType} (hd : decode cc pc = .ok (.areturn, 1)) (hK : K b = some (some v, M)) (he : enc v = some x) (hty : (∃ n, ty = .object n) ∨ ∃ t, ty = .array t) (hx : x = .null ∨ ∃ a, x = .ref a) : zs_Sim D Rl bd (zx_Fn D Rl enc ex) own cc nL (some ty) nm d M pc lv [x] (some b) K := by
  intro r M' ee
  obtain ⟨rfl, rfl⟩ : some v = r ∧ M = M' := by have h1 := hK.symm.trans ee; exact ⟨congrArg (fun z => z.1) (Option.some.inj h1), congrArg (fun z => z.2) (Option.some.inj h1)⟩
  refine ⟨⟨Nat.le_refl _, Nat.le_refl _⟩, fun p l e R s m args below meth c H locs cells slots h ls C h1 h2 h3 h4 hR hZ hS hl => ?_⟩
  obtain ⟨c1, c2, c3, c4, -⟩ := C
  rw [← zs_cnt h3, ← zs_cnt h4]
  exact zx_ret (W.aret (v := x) c1 c2 c3 hty hx (fun t ht hW => ⟨by rw [he], ⟨h, rfl, hR, by rw [ht]; exact hZ⟩, hS.2.F ht⟩) hS.2.2.2 hd c4)
/-- the fault is thrown and leaves the method -/
theorem zx_throw {b : β} (hd : decode cc pc = .ok (.athrow, 1)) (hK : K b = some (none, M)) (hx : ∀ h, Rl M h → ∃ f, h.2.2 ex = some (1, 8, f)) (htab : (own == "HairRope" && nm == "read") = false := by decide +kernel) : zs_Sim D Rl bd (zx_Fn D Rl enc ex) own cc nL rt nm d M pc lv (.ref ex :: st) (some b) K := by
  intro r M' ee
  obtain ⟨rfl, rfl⟩ : none = r ∧ M = M' := by have h1 := hK.symm.trans ee; exact ⟨congrArg (fun z => z.1) (Option.some.inj h1), congrArg (fun z => z.2) (Option.some.inj h1)⟩
  refine ⟨⟨Nat.le_refl _, Nat.le_refl _⟩, fun p l e R s m args below meth c H locs cells slots h ls C h1 h2 h3 h4 hR hZ hS hl => ?_⟩
  obtain ⟨c1, c2, c3, c4, c5, c6, c7, c8, ⟨-, c9⟩, -⟩ := C
  obtain ⟨f, eb⟩ := hx h hR
  obtain ⟨rr, q1, q2, cell, q3, q4, q5, -⟩ := zs_obj hZ eb (by decide)
  have hcl : s.vm.findClass RX1 = some cell.cls := by rw [q4]; exact (c8.1 1 _ rfl).2.1
  refine zx_athrow c1 c2 hd ?_
  refine zx_out (by rw [c9, zx_noTab htab]; intro x hx; cases hx) c4 q3 q5 hcl (fun t ht hW => ⟨rfl, rfl, ⟨h, rfl, hR, by rw [ht]; exact hZ⟩, hS.2.F ht⟩) hS.2.2.2 ?_ ?_
  · rw [zs_cnt h3]; exact Nat.le_refl _
  · rw [zs_cnt h4]; exact Nat.le_refl _
/-- behind a call that answers or throws -/
theorem zx_after {p : Program} {l : Launch} {e : Env} {R : Room} {s : State} {m : MethodId} {args : Array Value} {below : List Frame} {meth : Method} {c : Code} {H : Heap} {locs : List Loc} {cells slots mc ms base : Nat} {Q : State → Prop} {ls : Array Slot} {st0 rest : List Value} {enc : τ → Option Value} {v : Option τ} {M1 : σ} {a : Array Value}
    (hr : zx_Run p l e R s m args below meth c H locs cells slots mc ms (F0 m pc ls st0) rest (zx_Ql D Rl enc v M1 base a) (zx_XC D Rl ex v M1 base) (fun q => base ≤ q)) (hS : zs_S base s.heap H locs)
    (kk : ∀ w, v = some w → ∀ (h1 : zs_AH) (H1 : Heap) (locs1 : List Loc), h1.1 = base → Rl M1 h1 → zs_R D h1 H1 → zs_S base s.heap H1 locs1 → W p l e R s m args below meth c H1 locs1 (cells + mc) (slots + ms) Q (F0 m (pc + 3) ls ((enc w).toList ++ rest)))
    (kx : v = none → ∀ (h1 : zs_AH) (H1 : Heap) (locs1 : List Loc) (ce : Cell), h1.1 = base → Rl M1 h1 → zs_R D h1 H1 → zs_S base s.heap H1 locs1 → H1[ex]? = some ce → ce.vm = .none → s.vm.findClass RX1 = some ce.cls → zx_W p l e R s m args below meth c H1 locs1 (cells + mc) (slots + ms) Q (F0 m pc ls rest) ex) : W p l e R s m args below meth c H locs cells slots Q (F0 m pc ls st0) := by
  intro T hT X
  cases v with
  | some w =>
    rcases hr T hT X with ⟨v, s0, t, T', L, h0, X', hL, e1, e2, ⟨hv, ⟨h', hb, hR, hZ⟩, hz, hk⟩, step⟩ | ⟨q, s0, t, T', L, E, ce, h0, X', hL, e1, e2, hx, -⟩
    · cases hv
      subst h0
      obtain ⟨t2, a1, b1⟩ := kk w rfl h' T'.heap (locs ++ L) hb hR (by rw [e1]; exact hZ) (zs_S_call hS (by rw [e1]; exact hz) (fun q h1 h2 => by rw [e1]; exact hk q h1 h2) hL) T' rfl X'
      exact ⟨t2, step t2 a1, b1⟩
    · exact hx.elim
  | none =>
    rcases hr T hT X with ⟨v, s0, t, T', L, h0, X', hL, e1, e2, hx, -⟩ | ⟨q, s0, t, T', L, E, ce, h0, X', hL, e1, e2, ⟨rfl, rfl, ⟨h', hb, hR, hZ⟩, hz, hk⟩, hce, hcv, hcl, step⟩
    · exact hx.elim
    · subst h0
      obtain ⟨t2, a1, b1⟩ := kx rfl h' T'.heap (locs ++ L) ce hb hR (by rw [e1]; exact hZ) (zs_S_call hS (by rw [e1]; exact hz) (fun q h1 h2 => by rw [e1]; exact hk q h1 h2) hL) (by rw [e1]; exact hce) hcv hcl T' rfl X'
      exact ⟨t2, step.trans a1, b1⟩
/-- a call of an object's method that answers or throws; what it throws leaves this method too -/
theorem zx_callV0 {y : MethodName} {cc' : ByteArray} {nL' d' n i ci : Nat} {rt' : Option FieldType} {enc' : τ → Option Value} {b : Nat} {g : Option (Option τ × σ)} {th : σ → β} {f : τ × σ → Option β} {C : String} {T : u_T} {N : Nat} {ty : Nat → FieldType} {st0 : List Value} (As rest : List Value)
    (hC : zx_Con D Rl bd enc' y cc' nL' rt' d' (.ref b :: As) M ex g) (hm : zs_mV C y cc' nL' rt' n) (hl : Cond.methodLink own i y ∈ lw_all) (hc : zs_cls ci C T N ty) (hb : ∀ h, Rl M h → ∃ k f, h.2.2 b = some (ci, k, f)) (hd : decode cc pc = .ok (.invokevirtual i, 3)) (hst : st0 = As.reverse ++ .ref b :: rest) (hn : As.length = n) (hdd : d' + 1 ≤ d) (hw : (rest.map fun v => v.category).sum ≤ 8)
    (hth : ∀ M1 : σ, K (th M1) = some (none, M1))
    (k : ∀ (r : τ) (M1 : σ), g = some (some r, M1) → zs_Sim D Rl bd (zx_Fn D Rl enc ex) own cc nL rt nm d M1 (pc + 3) lv ((enc' r).toList ++ rest) (f (r, M1)) K) (htab : (own == "HairRope" && nm == "read") = false := by decide +kernel) : zs_Sim D Rl bd (zx_Fn D Rl enc ex) own cc nL rt nm d M pc lv st0 (g.bind (zx_sel th f)) K := by
  intro r M' ee
  cases hg : g with
  | none => rw [hg] at ee; cases ee
  | some x =>
    obtain ⟨v, M1⟩ := x
    rw [hg] at ee
    obtain ⟨hm1, hM⟩ := hC v M1 hg
    have main : ((bd M').1 ≤ (bd M1).1 ∧ (bd M').2 ≤ (bd M1).2) ∧ ∀ (p : Program) (l : Launch) (e : Env) (R : Room) (s : State) (m : MethodId) (args : Array Value) (below : List Frame) (meth : Method) (c : Code) (cells slots : Nat) (h : zs_AH) (ls : Array Slot),
        zs_Cx D own cc nL rt nm h.1 p l s m args meth c → d ≤ R.frames → 64 * d ≤ R.locals → cells + (bd M1).1 = R.cells + (bd M').1 → slots + (bd M1).2 = R.slots + (bd M').2 → lv_has ls nL lv →
        (∀ w, v = some w → ∀ (h1 : zs_AH) (H1 : Heap) (locs1 : List Loc), h1.1 = h.1 → Rl M1 h1 → zs_R D h1 H1 → zs_S h.1 s.heap H1 locs1 → W p l e R s m args below meth c H1 locs1 cells slots (zx_Fn D Rl enc ex r M' below args s R.cells R.slots h.1) (F0 m (pc + 3) ls ((enc' w).toList ++ rest))) ∧
        (v = none → ∀ (h1 : zs_AH) (H1 : Heap) (locs1 : List Loc) (ce : Cell), h1.1 = h.1 → Rl M1 h1 → zs_R D h1 H1 → zs_S h.1 s.heap H1 locs1 → H1[ex]? = some ce → ce.vm = .none → s.vm.findClass RX1 = some ce.cls → zx_W p l e R s m args below meth c H1 locs1 cells slots (zx_Fn D Rl enc ex r M' below args s R.cells R.slots h.1) (F0 m pc ls rest) ex) := by
      cases v with
      | some w =>
        obtain ⟨hm2, k⟩ := k w M1 hg r M' ee
        refine ⟨hm2, fun p l e R s m args below meth c cells slots h ls Cx h1 h2 h3 h4 hlv => ⟨fun w9 e9 h9 H1 locs1 e1 e2 e3 e4 => ?_, fun e9 => (by cases e9)⟩⟩
        cases e9
        refine e1 ▸ k p l e R s m args below meth c H1 locs1 _ _ h9 ls ?_ h1 h2 (by omega) (by omega) e2 e3 (e1 ▸ e4) hlv
        rw [e1]; exact Cx
      | none =>
        have ee' : K (th M1) = some (r, M') := ee
        obtain ⟨rfl, rfl⟩ : none = r ∧ M1 = M' := by have h1 := (hth M1).symm.trans ee'; exact ⟨congrArg (fun z => z.1) (Option.some.inj h1), congrArg (fun z => z.2) (Option.some.inj h1)⟩
        refine ⟨⟨Nat.le_refl _, Nat.le_refl _⟩, fun p l e R s m args below meth c cells slots h ls Cx h1 h2 h3 h4 hlv => ⟨fun w9 e9 => (by cases e9), fun _ h9 H1 locs1 ce e1 e2 e3 e4 e5 e6 e7 => ?_⟩⟩
        obtain ⟨c1, c2, c3, c4, c5, c6, c7, c8, ⟨-, c9⟩, -⟩ := Cx
        refine zx_out (by rw [c9, zx_noTab htab]; intro x hx; cases hx) c4 e5 e6 e7 (fun t ht hW => ⟨rfl, rfl, ⟨h9, e1, e2, by rw [ht]; exact e3⟩, e4.2.F ht⟩) e4.2.2.2 ?_ ?_
        · rw [zs_cnt h3]; exact Nat.le_refl _
        · rw [zs_cnt h4]; exact Nat.le_refl _
    obtain ⟨hm2, main⟩ := main
    refine ⟨⟨Nat.le_trans hm2.1 hm1.1, Nat.le_trans hm2.2 hm1.2⟩, fun p l e R s m args below meth c H locs cells slots h ls Cx h1 h2 h3 h4 hR hZ hS hl9 => ?_⟩
    have Cx0 := Cx
    obtain ⟨c1, c2, c3, c4, c5, c6, c7, c8, c9, c10⟩ := Cx
    obtain ⟨m1, m2, m3, m4, m5, m6⟩ := hm
    obtain ⟨kb, fb, eb⟩ := hb h hR
    obtain ⟨rr, q1, q2, cell, q3, q4, q5, -⟩ := zs_obj hZ eb hc.1
    have hrr : rr = (C, T, N) := Option.some.inj (q1.symm.trans hc.2.1)
    have hcl : s.vm.findClass C = some cell.cls := by rw [q4]; exact (c8.1 ci (C, T, N) hc.2.1).2.1
    obtain ⟨ka, kb⟩ := main p l e R s m args below meth c (cells + ((bd M).1 - (bd M1).1)) (slots + ((bd M).2 - (bd M1).2)) h ls Cx0 h1 h2 (by omega) (by omega) hl9
    exact zx_after (zx_runV (As := As) (rest := rest) (free := fun q => h.1 ≤ q) (n := n) (index := i) (C := C) (b := b) (bytes := cc') (maxL := nL') (ret := rt') (ws := ws_ y cc' nL' rt') ⟨c1, c2, c5, c6, c7⟩ (hM l h.1 c10) (cwV n c7 (lw_V hl m1 m2 m3 m4) rfl rfl rfl m6 ⟨by show d' + 1 ≤ R.frames; omega, by show 8 + (nL' + 11) + 64 * d' ≤ R.locals; omega⟩)
      ⟨zs_Pc_blind, ⟨cell, q3, by rw [q5]; rfl, hcl⟩, fun U hU hW => ⟨rfl, zs_K_next hW (fun a ha hb => by rw [hU]; exact hS.2.2.1 a ha hb) c8, by rw [hU]; exact Nat.le_trans hS.1 hS.2.1, h, rfl, hR, by rw [hU]; exact hZ⟩⟩ rfl hn hl9.1 hst (lv_room hw) hd ⟨by omega, by omega⟩) hS ka kb
end ZX
