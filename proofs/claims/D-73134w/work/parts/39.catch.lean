/-! a call whose throw is caught; the contract of a method with a handler -/
set_option maxRecDepth 100000
def zx_cs {σ α β : Type} (fx : σ → Option β) (f : α × σ → Option β) : Option α × σ → Option β := fun z => match z.1 with
  | none => fx z.2
  | some v => f (v, z.2)
section ZY
variable {σ α β τ : Type} {D : zs_D} {Rl : σ → zs_AH → Prop} {bd : σ → Nat × Nat} {Fn : zs_Q σ α} {cc : ByteArray} {nL : Nat} {rt : Option FieldType} {d ex : Nat} {M : σ} {pc : Nat} {lv : List (Nat × Value)} {st : List Value} {o : Option β} {enc : α → Option Value} {K : β → Option (α × σ)}
theorem zx_callC {y : MethodName} {cc' : ByteArray} {nL' d' n i ci : Nat} {rt' : Option FieldType} {enc' : τ → Option Value} {b : Nat} {g : Option (Option τ × σ)} {fx : σ → Option β} {f : τ × σ → Option β} {C : String} {T : u_T} {N : Nat} {ty : Nat → FieldType} {st0 : List Value} (As rest : List Value)
    (hC : zx_Con D Rl bd enc' y cc' nL' rt' d' (.ref b :: As) M ex g) (hm : zs_mV C y cc' nL' rt' n) (hl : Cond.methodLink RX0 i y ∈ lw_all) (hc : zs_cls ci C T N ty) (hb : ∀ h, Rl M h → ∃ k f, h.2.2 b = some (ci, k, f)) (hd : decode cc pc = .ok (.invokevirtual i, 3)) (hst : st0 = As.reverse ++ .ref b :: rest) (hn : As.length = n) (hdd : d' + 1 ≤ d) (hw : (rest.map fun v => v.category).sum ≤ 8) (hpc : covers ⟨7, 59, 62, 14⟩ pc = true)
    (k : ∀ (r : τ) (M1 : σ), g = some (some r, M1) → zs_Sim D Rl bd Fn RX0 cc nL rt "read" d M1 (pc + 3) lv ((enc' r).toList ++ rest) (f (r, M1)) K)
    (kx : ∀ M1 : σ, g = some (none, M1) → zs_Sim D Rl bd Fn RX0 cc nL rt "read" d M1 62 lv [.ref ex] (fx M1) K) : zs_Sim D Rl bd Fn RX0 cc nL rt "read" d M pc lv st0 (g.bind (zx_cs fx f)) K := by
  intro r M' ee
  cases hg : g with
  | none => rw [hg] at ee; cases ee
  | some x =>
    obtain ⟨v, M1⟩ := x
    rw [hg] at ee
    obtain ⟨hm1, hM⟩ := hC v M1 hg
    have main : ((bd M').1 ≤ (bd M1).1 ∧ (bd M').2 ≤ (bd M1).2) ∧ ∀ (p : Program) (l : Launch) (e : Env) (R : Room) (s : State) (m : MethodId) (args : Array Value) (below : List Frame) (meth : Method) (c : Code) (cells slots : Nat) (h : zs_AH) (ls : Array Slot),
        zs_Cx D RX0 cc nL rt "read" h.1 p l s m args meth c → d ≤ R.frames → 64 * d ≤ R.locals → cells + (bd M1).1 = R.cells + (bd M').1 → slots + (bd M1).2 = R.slots + (bd M').2 → lv_has ls nL lv →
        (∀ w, v = some w → ∀ (h1 : zs_AH) (H1 : Heap) (locs1 : List Loc), h1.1 = h.1 → Rl M1 h1 → zs_R D h1 H1 → zs_S h.1 s.heap H1 locs1 → W p l e R s m args below meth c H1 locs1 cells slots (Fn r M' below args s R.cells R.slots h.1) (F0 m (pc + 3) ls ((enc' w).toList ++ rest))) ∧
        (v = none → ∀ (h1 : zs_AH) (H1 : Heap) (locs1 : List Loc) (ce : Cell), h1.1 = h.1 → Rl M1 h1 → zs_R D h1 H1 → zs_S h.1 s.heap H1 locs1 → H1[ex]? = some ce → ce.vm = .none → s.vm.findClass RX1 = some ce.cls → zx_W p l e R s m args below meth c H1 locs1 cells slots (Fn r M' below args s R.cells R.slots h.1) (F0 m pc ls rest) ex) := by
      cases v with
      | some w =>
        obtain ⟨hm2, k⟩ := k w M1 hg r M' ee
        refine ⟨hm2, fun p l e R s m args below meth c cells slots h ls Cx h1 h2 h3 h4 hlv => ⟨fun w9 e9 h9 H1 locs1 e1 e2 e3 e4 => ?_, fun e9 => (by cases e9)⟩⟩
        cases e9
        refine e1 ▸ k p l e R s m args below meth c H1 locs1 _ _ h9 ls ?_ h1 h2 (by omega) (by omega) e2 e3 (e1 ▸ e4) hlv
        rw [e1]; exact Cx
      | none =>
        obtain ⟨hm2, kx⟩ := kx M1 hg r M' ee
        refine ⟨hm2, fun p l e R s m args below meth c cells slots h ls Cx h1 h2 h3 h4 hlv => ⟨fun w9 e9 => (by cases e9), fun _ h9 H1 locs1 ce e1 e2 e3 e4 e5 e6 e7 => ?_⟩⟩
        have Cx0 := Cx
        obtain ⟨c1, c2, c3, c4, c5, c6, c7, c8, ⟨-, c9⟩, -⟩ := Cx
        refine zx_catch (name := "HairRope$Fault") (E := RX1) c6 [] ⟨7, 59, 62, 14⟩ [] (by rw [c9]; rfl) (fun z hz => by cases hz) hpc (by decide) (c7 _ q177) (va_Nw.use (A := args) rfl (c8.2.2.1.1 _ _ q179)) e5 e6 e7 ?_
        refine e1 ▸ kx p l e R s m args below meth c H1 locs1 _ _ h9 ls ?_ h1 h2 (by omega) (by omega) e2 e3 (e1 ▸ e4) hlv
        rw [e1]; exact Cx0
    obtain ⟨hm2, main⟩ := main
    refine ⟨⟨Nat.le_trans hm2.1 hm1.1, Nat.le_trans hm2.2 hm1.2⟩, fun p l e R s m args below meth c H locs cells slots h ls Cx h1 h2 h3 h4 hR hZ hS hl9 => ?_⟩
    have Cx0 := Cx
    obtain ⟨c1, c2, c3, c4, c5, c6, c7, c8, c9, c10⟩ := Cx
    obtain ⟨m1, m2, m3, m4, m5, m6⟩ := hm
    obtain ⟨kb, fb, eb⟩ := hb h hR
    obtain ⟨rr, q1, q2, cell, q3, q4, q5, -⟩ := zs_obj hZ eb hc.1
    have hcl : s.vm.findClass C = some cell.cls := by rw [q4]; exact (c8.1 ci (C, T, N) hc.2.1).2.1
    obtain ⟨ka, kb⟩ := main p l e R s m args below meth c (cells + ((bd M).1 - (bd M1).1)) (slots + ((bd M).2 - (bd M1).2)) h ls Cx0 h1 h2 (by omega) (by omega) hl9
    exact zx_after (zx_runV (As := As) (rest := rest) (free := fun q => h.1 ≤ q) (n := n) (index := i) (C := C) (b := b) (bytes := cc') (maxL := nL') (ret := rt') (ws := ws_ y cc' nL' rt') ⟨c1, c2, c5, c6, c7⟩ (hM l h.1 c10) (cwV n c7 (lw_V hl m1 m2 m3 m4) rfl rfl rfl m6 ⟨by show d' + 1 ≤ R.frames; omega, by show 8 + (nL' + 11) + 64 * d' ≤ R.locals; omega⟩)
      ⟨zs_Pc_blind, ⟨cell, q3, by rw [q5]; rfl, hcl⟩, fun U hU hW => ⟨rfl, zs_K_next hW (fun a ha hb => by rw [hU]; exact hS.2.2.1 a ha hb) c8, by rw [hU]; exact Nat.le_trans hS.1 hS.2.1, h, rfl, hR, by rw [hU]; exact hZ⟩⟩ rfl hn hl9.1 hst (lv_room hw) hd ⟨by omega, by omega⟩) hS ka kb
/-- a contract of a method with a handler -/
def zs_ConW {σ α : Type} (D : zs_D) (Rl : σ → zs_AH → Prop) (bd : σ → Nat × Nat) (enc : α → Option Value) (y : MethodName) (cc : ByteArray) (nL : Nat) (rt : Option FieldType) (hh : List (Nat × Nat × Nat × Nat)) (d : Nat) (av : List Value) (M : σ) (o : Option (α × σ)) : Prop :=
  ∀ (r : α) (M' : σ), o = some (r, M') → ((bd M').1 ≤ (bd M).1 ∧ (bd M').2 ≤ (bd M).2) ∧ ∀ (l : Launch) (base : Nat), l.flags = flags0 →
    Met l y (wsW_ y cc nL rt hh) ({ frames := d, cells := (bd M).1 - (bd M').1, slots := (bd M).2 - (bd M').2, locals := 64 * d }) (zs_Pc D Rl av M base) (zs_Qc D Rl enc r M' base) ((bd M).1 - (bd M').1) ((bd M).2 - (bd M').2) (fun q => base ≤ q)
theorem zs_conW {y : MethodName} {av : List Value} {o : Option (α × σ)} (hy : plainName y.cls = true) (hnm : y.name = "read") (hown : y.cls = RX0) (hlen : (lg_sl av).length ≤ nL) (k : zs_Sim D Rl bd (zs_Fn D Rl enc) RX0 cc nL rt "read" d M 0 (lv_args 0 av) [] o some) : zs_ConW D Rl bd enc y cc nL rt [(7, 59, 62, 14)] d av M o := by
  intro r M' ee
  obtain ⟨hm, k⟩ := k r M' (by rw [zs_bs]; exact ee)
  refine ⟨hm, fun l base hfl => ?_⟩
  have h9 : zx_Met l y (wsW_ y cc nL rt [(7, 59, 62, 14)]) ({ frames := d, cells := (bd M).1 - (bd M').1, slots := (bd M).2 - (bd M').2, locals := 64 * d }) (zs_Pc D Rl av M base) (zs_Qc D Rl enc r M' base) (fun _ _ _ _ => False) ((bd M).1 - (bd M').1) ((bd M).2 - (bd M').2) (fun q => base ≤ q) := by
    refine zx_ofWH (cc := cc) (maxL := nL) (ret := rt) (hh := [(7, 59, 62, 14)]) hy rfl ?_
    intro p e s m args below meth c s₁ B hml hv
    obtain ⟨rfl, hK, hbase, h, rfl, hR, hZ⟩ := hv
    have hts := atoms_spec (ws := wsW_ y cc nL rt [(7, 59, 62, 14)]) B.pre
    have htb0 := hts (Cond.codeWith y cc nL rt [(7, 59, 62, 14)]) List.mem_cons_self
    have hts : ∀ w ∈ lw_all, w.before _ s = true := fun w h => hts w (List.mem_cons_of_mem _ h)
    have ho : s.vm.findClass RX0 = some m.cls := hown ▸ findClass_of_methodNamed B.named
    have hn : meth.name = "read" := hnm ▸ (name_of_methodNamed B.named B.method).1
    have htb : c.exceptionTable.toList = zx_tab RX0 "read" := (zx_table (x := y) B htb0).trans (by unfold zx_tab; rw [if_pos (by decide +kernel)])
    have hl := lv_entry av (n := nL) hlen
    rw [lg_entry_eq]
    refine zx_ret ?_
    exact k p l e _ s m _ below meth c s.heap [] 0 0 h _ ⟨B.exec, B.bytes, B.returns, B.notSynchronized, hml, ho, hts, hK, ⟨hn, htb⟩, hfl⟩ (Nat.le_refl _) (Nat.le_refl _) (by show 0 + (bd M).1 = ((bd M).1 - (bd M').1) + (bd M').1; omega) (by show 0 + (bd M).2 = ((bd M).2 - (bd M').2) + (bd M').2; omega) hR hZ ⟨hbase, va_S.rf⟩ hl
  refine MetFree.mono h9 (fun _ _ h => h) (fun _ _ _ _ _ h => h) ?_
  intro a s oc t _ hq
  rcases hq with hq | ⟨q, -, E, ce, L, hx, -⟩
  · exact hq
  · exact hx.elim
end ZY
