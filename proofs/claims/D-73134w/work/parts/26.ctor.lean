/-! constructors called; rows of rows made -/
set_option maxRecDepth 100000
/-- what a call of a constructor asks of the tables, but its own link -/
def zs_mI (y : MethodName) (cc : ByteArray) (nL : Nat) (n : Nat) : Prop :=
  Cond.instanceMethod y ∈ lw_all ∧ Cond.initialized y.cls ∈ lw_all ∧ Cond.code y cc nL none ∈ lw_all ∧ nL ≤ 45 ∧ y.name = "<init>" ∧ (y.cls ≠ "java/lang/invoke/MethodHandle" ∧ y.cls ≠ "java/lang/invoke/VarHandle" ∧ (parseMethodDescriptor y.desc).map (fun d => d.parameters.length) = some n)
def zs_mext (h : zs_AH) (n k : Nat) : zs_AH := (h.1, h.2.1 + 1 + n, fun q => if q = h.2.1 then some (74, n, fun j => .ref (h.2.1 + 1 + j)) else if h.2.1 < q ∧ q < h.2.1 + 1 + n then some (64, k, fun _ => .int 0) else h.2.2 q)
theorem zs_outer (cA : ClassId) (N h0 : Nat) : ∀ i, i ≤ N → Jvm.Free.Multi.outerC cA N h0 i = arrV cA N (fun j => if j < i then .ref (h0 + 1 + j) else .null) := by
  intro i
  induction i with
  | zero =>
    intro _
    show ({ cls := cA, slots := Array.replicate N .null, vm := .none } : Cell) = _
    rw [arrV_new]
    congr 1
  | succ i ih =>
    intro hi
    show (Jvm.Free.Multi.outerC cA N h0 i).setSlot i (.ref (h0 + 1 + i)) = _
    rw [ih (by omega), arrV_store]
    congr 1
    funext j
    by_cases hj : j = i
    · subst hj
      simp [updV]
    · by_cases h2 : j < i
      · rw [if_pos (by omega)]
        simp [updV, hj, h2]
      · rw [if_neg (by omega)]
        simp [updV, hj, h2]
section ZO
variable {σ α β τ : Type} {D : zs_D} {Rl : σ → zs_AH → Prop} {bd : σ → Nat × Nat} {Fn : zs_Q σ α} {own : String} {cc : ByteArray} {nL : Nat} {rt : Option FieldType} {nm : String} {d : Nat} {M : σ} {pc : Nat} {lv : List (Nat × Value)} {st : List Value} {o o1 o2 : Option β} {K : β → Option (α × σ)}
theorem zs_callI0 {y : MethodName} {cc' : ByteArray} {nL' d' n i : Nat} {b : Nat} {g : Option σ} {f : σ → Option β} {st0 : List Value} (As rest : List Value)
    (hC : zs_Con D Rl bd zs_eV y cc' nL' none d' (.ref b :: As) M (g.map fun x => ((), x))) (hm : zs_mI y cc' nL' n) (hl : Cond.methodLink own i y ∈ lw_all) (hd : decode cc pc = .ok (.invokespecial i, 3)) (hst : st0 = As.reverse ++ .ref b :: rest) (hn : As.length = n) (hdd : d' + 1 ≤ d) (hw : (rest.map fun v => v.category).sum ≤ 8)
    (k : ∀ (M1 : σ), g = some M1 → zs_Sim D Rl bd Fn own cc nL rt nm d M1 (pc + 3) lv rest (f M1) K) : zs_Sim D Rl bd Fn own cc nL rt nm d M pc lv st0 (g.bind f) K := by
  intro r M' ee
  cases hg : g with
  | none => rw [hg] at ee; cases ee
  | some M1 =>
    rw [hg] at ee
    obtain ⟨hm1, hM⟩ := hC () M1 (by rw [hg]; rfl)
    obtain ⟨hm2, k⟩ := k M1 hg r M' ee
    refine ⟨⟨Nat.le_trans hm2.1 hm1.1, Nat.le_trans hm2.2 hm1.2⟩, fun p l e R s m args below meth c H locs cells slots h ls Cx h1 h2 h3 h4 hR hZ hS hl9 => ?_⟩
    have Cx0 := Cx
    obtain ⟨c1, c2, c3, c4, c5, c6, c7, c8, c9, c10⟩ := Cx
    obtain ⟨m1, m2, m3, m4, m5, m6⟩ := hm
    refine zs_after (va_runI (As := As) (rest := rest) (free := fun q => h.1 ≤ q) (n := n) (index := i) (b := b) (bytes := cc') (maxL := nL') (ws := ws_ y cc' nL' none) ⟨c1, c2, c5, c6, c7⟩ (hM l h.1 c10) (cwI n c7 (lw_meth m3) rfl rfl rfl (c7 _ m2) (c7 _ hl) (c7 _ m1) m5 m6 ⟨by show d' + 1 ≤ R.frames; omega, by show 8 + (nL' + 11) + 64 * d' ≤ R.locals; omega⟩)
      ⟨zs_Pc_blind, fun U hU hW => ⟨rfl, zs_K_next hW (fun a ha hb => by rw [hU]; exact hS.2.2.1 a ha hb) c8, by rw [hU]; exact Nat.le_trans hS.1 hS.2.1, h, rfl, hR, by rw [hU]; exact hZ⟩⟩ rfl hn hl9.1 hst (lv_room hw) hd ⟨by omega, by omega⟩) hS ?_
    intro h9 H1 locs1 e1 e2 e3 e4
    refine e1 ▸ k p l e R s m args below meth c H1 locs1 _ _ h9 ls ?_ h1 h2 (by omega) (by omega) e2 e3 (e1 ▸ e4) hl9
    rw [e1]; exact Cx0
theorem zs_callIN0 {y : MethodName} {cc' : ByteArray} {nL' d' n i : Nat} {b : Nat} {host : String} {g : Option σ} {f : σ → Option β} {st0 : List Value} (As rest : List Value)
    (hC : zs_Con D Rl bd zs_eV y cc' nL' none d' (.ref b :: As) M (g.map fun x => ((), x))) (hm : zs_mI y cc' nL' n) (hl : Cond.methodLinkNest own i y host ∈ lw_tbl) (hd : decode cc pc = .ok (.invokespecial i, 3)) (hst : st0 = As.reverse ++ .ref b :: rest) (hn : As.length = n) (hdd : d' + 1 ≤ d) (hw : (rest.map fun v => v.category).sum ≤ 8)
    (k : ∀ (M1 : σ), g = some M1 → zs_Sim D Rl bd Fn own cc nL rt nm d M1 (pc + 3) lv rest (f M1) K) : zs_Sim D Rl bd Fn own cc nL rt nm d M pc lv st0 (g.bind f) K := by
  intro r M' ee
  cases hg : g with
  | none => rw [hg] at ee; cases ee
  | some M1 =>
    rw [hg] at ee
    obtain ⟨hm1, hM⟩ := hC () M1 (by rw [hg]; rfl)
    obtain ⟨hm2, k⟩ := k M1 hg r M' ee
    refine ⟨⟨Nat.le_trans hm2.1 hm1.1, Nat.le_trans hm2.2 hm1.2⟩, fun p l e R s m args below meth c H locs cells slots h ls Cx h1 h2 h3 h4 hR hZ hS hl9 => ?_⟩
    have Cx0 := Cx
    obtain ⟨c1, c2, c3, c4, c5, c6, c7, c8, c9, c10⟩ := Cx
    obtain ⟨m1, m2, m3, m4, m5, m6⟩ := hm
    refine zs_after (va_runIN (As := As) (rest := rest) (free := fun q => h.1 ≤ q) (n := n) (index := i) (b := b) (bytes := cc') (maxL := nL') (ws := ws_ y cc' nL' none) (host := host) ⟨c1, c2, c5, c6, c7⟩ (hM l h.1 c10) ⟨va_cnB n c7 (lw_meth m3) rfl rfl rfl (c8.2.2.1.2.1 _ _ _ _ hl) (c7 _ m2) m6 ⟨by show d' + 1 ≤ R.frames; omega, by show 8 + (nL' + 11) + 64 * d' ≤ R.locals; omega⟩, m5, c7 _ m1⟩
      ⟨zs_Pc_blind, fun U hU hW => ⟨rfl, zs_K_next hW (fun a ha hb => by rw [hU]; exact hS.2.2.1 a ha hb) c8, by rw [hU]; exact Nat.le_trans hS.1 hS.2.1, h, rfl, hR, by rw [hU]; exact hZ⟩⟩ rfl hn hl9.1 hst (lv_room hw) hd ⟨by omega, by omega⟩) hS ?_
    intro h9 H1 locs1 e1 e2 e3 e4
    refine e1 ▸ k p l e R s m args below meth c H1 locs1 _ _ h9 ls ?_ h1 h2 (by omega) (by omega) e2 e3 (e1 ▸ e4) hl9
    rw [e1]; exact Cx0
/-- rows of ints -/
theorem zs_mna {M1 : σ} {i q0 n k : Nat} {zn zk : Int32} (hq : Cond.classLink own i "[[I" ∈ lw_all) (hzn : zn = nI n) (hzk : zk = nI k) (hn : n ≤ 1000) (hk : k ≤ 1000) (hbd : (bd M).1 = (bd M1).1 + (1 + n) ∧ (bd M).2 = (bd M1).2 + (n + n * k)) (hL : ∀ h, Rl M h → h.2.1 = q0 ∧ ((∀ q, q0 ≤ q → h.2.2 q = none) → Rl M1 (zs_mext h n k))) (hd : decode cc pc = .ok (.multianewarray i 2, 4)) (kk : zs_Sim D Rl bd Fn own cc nL rt nm d M1 (pc + 4) lv (.ref q0 :: st) o K) : zs_Sim D Rl bd Fn own cc nL rt nm d M pc lv (.int zk :: .int zn :: st) o K := by
  subst hzn hzk
  intro r M' ee
  obtain ⟨hm, kk⟩ := kk r M' ee
  refine ⟨⟨by omega, by omega⟩, fun p l e R s m args below meth c H locs cells slots h ls C0 h1 h2 h3 h4 hR hZ hS hl => ?_⟩
  obtain ⟨hb, hR1⟩ := hL h hR
  have hR1 := hR1 (fun q hq => zs_fresh hZ (by rw [hb]; exact hq))
  have Cx := C0
  obtain ⟨c1, c2, -, -, -, c6, c7, c8, -⟩ := C0
  have hn2 : (nI n).toNatClampNeg = n := nI_clamp (by omega)
  have hk2 : (nI k).toNatClampNeg = k := nI_clamp (by omega)
  intro T hT X
  obtain ⟨vm₁, cA, comp, hW, hfA, hfC, hO, hI, X1, step⟩ := X.multianewarray2F c1 (ty := .int) c6 (c7 _ hq) (show (Cond.arrayOver (.array .int)).before args s = true from c8.2.2.2.2.2.1) (c7 _ q416) (g := F0 m pc ls (.int (nI k) :: .int (nI n) :: st)) rfl (by rw [c2]; exact hd) rfl (nI_pos (by omega)) (nI_pos (by omega)) (by omega) (by rw [hk2]; show k * 4 ≤ _; omega) (by omega) rfl rfl (by rw [hn2]; omega) (by rw [hn2, hk2]; omega)
  rw [hn2, hk2] at X1 step
  have hTs : T.heap.size = H.size := by rw [hT]
  have hHq : H.size = q0 := by rw [← hZ.1]; exact hb
  obtain ⟨f1, f2, f3, f4⟩ := Jvm.Free.Multi.fill_facts (T.setVm vm₁) cA comp n k (defaultValue .int) n
  have f5 := fun a ha => Jvm.Free.Multi.fill_old (T.setVm vm₁) cA comp n k (defaultValue .int) (a := a) ha n
  have f6 := Jvm.Free.Multi.fill_inner (T.setVm vm₁) cA comp n k (defaultValue .int) n
  have hz9 : (T.setVm vm₁).heap.size = q0 := by show T.heap.size = q0; rw [hTs, hHq]
  rw [hz9] at f1 f2 f6
  have e10 : D.2.1 10 = cA := by
    have := (c8.2.1 10 _ rfl).2
    exact Option.some.inj ((show s.vm.findClass ("[" ++ (FieldType.array .int).toString) = some (D.2.1 10) from this).symm.trans hfA)
  have e0 : D.2.1 0 = comp := by
    have := (c8.2.1 0 _ rfl).2
    exact Option.some.inj ((show s.vm.findClass ("[" ++ FieldType.int.toString) = some (D.2.1 0) from this).symm.trans hfC)
  have o1 : ∀ q, q < H.size → (Jvm.Free.Multi.fill (T.setVm vm₁) cA comp n k (defaultValue .int) n).heap[q]? = H[q]? := fun q hq => by rw [f5 q (by rw [hz9, ← hHq]; exact hq)]; show T.heap[q]? = _; rw [hT]
  have hZ1 : zs_R D (zs_mext h n k) (Jvm.Free.Multi.fill (T.setVm vm₁) cA comp n k (defaultValue .int) n).heap := by
    refine ⟨by show h.2.1 + 1 + n = _; rw [f1, hb], fun q y hy => ?_⟩
    have hy' : (if q = h.2.1 then some (74, n, fun j => Value.ref (h.2.1 + 1 + j)) else if h.2.1 < q ∧ q < h.2.1 + 1 + n then some (64, k, fun _ => .int 0) else h.2.2 q) = some y := hy
    by_cases hq1 : q = h.2.1
    · rw [if_pos hq1] at hy'
      rw [← Option.some.inj hy', hq1, hb]
      refine Or.inr ⟨Nat.le_of_ble_eq_true rfl, ?_⟩
      show _ = some (arrV (D.2.1 10) n _)
      rw [f2, zs_outer _ _ _ n (Nat.le_refl n), e10]
      congr 1
      unfold arrV
      congr 1
      apply Array.ext
      · simp
      · intro j g1 g2
        simp at g1 ⊢
        try (intro hh; omega)
    · rw [if_neg hq1] at hy'
      by_cases hq2 : h.2.1 < q ∧ q < h.2.1 + 1 + n
      · rw [if_pos hq2] at hy'
        rw [← Option.some.inj hy']
        refine Or.inr ⟨Nat.le_of_ble_eq_true rfl, ?_⟩
        show _ = some (arrV (D.2.1 0) k _)
        have f7 := f6 (q - (q0 + 1)) (by omega)
        rw [show q0 + 1 + (q - (q0 + 1)) = q by omega] at f7
        rw [f7, e0, ← arrV_new]
        rfl
      · rw [if_neg hq2] at hy'
        have h9 := hZ.2 q y hy'
        exact zs_A_kept h9 (o1 q (zs_A_lt h9))
  have hS1 : zs_S h.1 s.heap (Jvm.Free.Multi.fill (T.setVm vm₁) cA comp n k (defaultValue .int) n).heap locs := ⟨hS.1, Nat.le_trans hS.2.1 (by rw [f1]; omega), fun q hq hb => (o1 q (Nat.lt_of_lt_of_le hq hS.2.1)).trans (hS.2.2.1 q hq hb), hS.2.2.2⟩
  obtain ⟨t, a1, b1⟩ := kk p l e R s m args below meth c _ _ (cells + 1 + n) (slots + n + n * k) (zs_mext h n k) ls Cx h1 h2 (by omega) (by omega) hR1 hZ1 hS1 hl _ rfl X1
  refine ⟨t, step t ?_, b1⟩
  have : T.heap.size = q0 := by rw [hTs, hHq]
  rw [this]
  exact a1
end ZO
