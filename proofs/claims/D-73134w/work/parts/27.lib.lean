/-! calls of what is inherited, of what is above; bytes copied -/
set_option maxRecDepth 100000
/-- what a call of an inherited or overriding method asks of the tables -/
def zs_mU (C : String) (x y : MethodName) (cc : ByteArray) (nL : Nat) (rt : Option FieldType) (n : Nat) : Prop :=
  (Cond.sameMethod x.cls x.cls x.name x.desc ∈ lw_all ∧ Cond.instanceMethod ⟨x.cls, x.name, x.desc⟩ ∈ lw_all) ∧ (Cond.selects C x y ∈ lw_all ∨ (C = "java/lang/StringBuilder" ∧ x = yY_ens ∧ y = yY_ens)) ∧ Cond.instanceMethod y ∈ lw_all ∧ Cond.initialized y.cls ∈ lw_all ∧ Cond.code y cc nL rt ∈ lw_all ∧ nL ≤ 45 ∧ (∃ b0 m0 r0, Cond.code ⟨x.cls, x.name, x.desc⟩ b0 m0 r0 ∈ lw_all) ∧ (x.cls ≠ "java/lang/invoke/MethodHandle" ∧ x.cls ≠ "java/lang/invoke/VarHandle" ∧ (parseMethodDescriptor x.desc).map (fun d => d.parameters.length) = some n)
/-- what a call of the method above asks of the tables -/
def zs_mP (own : String) (y : MethodName) (cc : ByteArray) (nL : Nat) (rt : Option FieldType) (n : Nat) : Prop :=
  Cond.sameMethod y.cls y.cls y.name y.desc ∈ lw_all ∧ Cond.superclass own y.cls ∈ lw_all ∧ Cond.instanceMethod y ∈ lw_all ∧ Cond.initialized y.cls ∈ lw_all ∧ Cond.code y cc nL rt ∈ lw_all ∧ nL ≤ 45 ∧ (y.name ≠ "<init>" ∧ (parseMethodDescriptor y.desc).map (fun d => d.parameters.length) = some n)
section ZP
variable {σ α β τ : Type} {D : zs_D} {Rl : σ → zs_AH → Prop} {bd : σ → Nat × Nat} {Fn : zs_Q σ α} {own : String} {cc : ByteArray} {nL : Nat} {rt : Option FieldType} {nm : String} {d : Nat} {M : σ} {pc : Nat} {lv : List (Nat × Value)} {st : List Value} {o : Option β} {K : β → Option (α × σ)}
theorem zs_dupx1 {va vb : Value} (hd : decode cc pc = .ok (.dup_x1, 1)) (hva : va.category = 1) (hvb : vb.category = 1) (k : zs_Sim D Rl bd Fn own cc nL rt nm d M (pc + 1) lv (va :: vb :: va :: st) o K) : zs_Sim D Rl bd Fn own cc nL rt nm d M pc lv (va :: vb :: st) o K :=
  zs_map (fun _ _ _ _ _ _ _ _ _ _ _ _ _ _ _ ls hx hb _ _ h kk => lv_dup_x1 hx hb hd hva hvb (kk ls h)) k
theorem zs_callU0 {x y : MethodName} {cc' : ByteArray} {nL' d' n i ci : Nat} {rt' : Option FieldType} {enc : τ → Option Value} {b : Nat} {g : Option (τ × σ)} {f : τ × σ → Option β} {C : String} {T : u_T} {N : Nat} {ty : Nat → FieldType} {st0 : List Value} (As rest : List Value)
    (hC : zs_Con D Rl bd enc y cc' nL' rt' d' (.ref b :: As) M g) (hm : zs_mU C x y cc' nL' rt' n) (hl : Cond.methodLink own i x ∈ lw_all) (hc : zs_cls ci C T N ty) (hb : ∀ h, Rl M h → ∃ k f, h.2.2 b = some (ci, k, f)) (hd : decode cc pc = .ok (.invokevirtual i, 3)) (hst : st0 = As.reverse ++ .ref b :: rest) (hn : As.length = n) (hdd : d' + 1 ≤ d) (hw : (rest.map fun v => v.category).sum ≤ 8)
    (k : ∀ (r : τ) (M1 : σ), g = some (r, M1) → zs_Sim D Rl bd Fn own cc nL rt nm d M1 (pc + 3) lv ((enc r).toList ++ rest) (f (r, M1)) K) : zs_Sim D Rl bd Fn own cc nL rt nm d M pc lv st0 (g.bind f) K := by
  intro r M' ee
  cases hg : g with
  | none => rw [hg] at ee; cases ee
  | some z =>
    obtain ⟨v, M1⟩ := z
    rw [hg] at ee
    obtain ⟨hm1, hM⟩ := hC v M1 hg
    obtain ⟨hm2, k⟩ := k v M1 hg r M' ee
    refine ⟨⟨Nat.le_trans hm2.1 hm1.1, Nat.le_trans hm2.2 hm1.2⟩, fun p l e R s m args below meth c H locs cells slots h ls Cx h1 h2 h3 h4 hR hZ hS hl9 => ?_⟩
    have Cx0 := Cx
    obtain ⟨c1, c2, c3, c4, c5, c6, c7, c8, c9, c10⟩ := Cx
    obtain ⟨⟨m1, m0⟩, m2, m3, m4, m5, m6, ⟨b0, m9, r9, m7⟩, m8⟩ := hm
    obtain ⟨kb, fb, eb⟩ := hb h hR
    obtain ⟨rr, q1, q2, cell, q3, q4, q5, -⟩ := zs_obj hZ eb hc.1
    have hcl : s.vm.findClass C = some cell.cls := by rw [q4]; exact (c8.1 ci (C, T, N) hc.2.1).2.1
    have c7' : ∀ w ∈ Cond.selects C x y :: lw_all, w.before args s = true := fun w hw => by
      rcases List.mem_cons.mp hw with q | q
      · rw [q]
        rcases m2 with m2 | ⟨z1, z2, z3⟩
        · exact c7 _ m2
        · subst z1 z2 z3
          exact c8.2.2.2.2.2.2
      · exact c7 w q
    have up : ∀ {w : Cond} {a : List Cond}, w ∈ lw_all → w ∈ Cond.selects C x y :: lw_all := fun hw => List.mem_cons_of_mem _ hw
    have hG : GoodIn (Cond.selects C x y :: lw_all) (va_wsO own i C x.cls x y (ws_ y cc' nL' rt')) := by
      intro w hw
      rcases List.mem_append.mp hw with hw | hw
      · simp only [List.mem_cons, List.not_mem_nil, or_false] at hw
        rcases hw with q | q | q | q | q | q
        · rw [q]; exact ⟨List.mem_cons_of_mem _ hl, Or.inl rfl⟩
        · rw [q]; exact ⟨List.mem_cons_of_mem _ m1, Or.inl rfl⟩
        · rw [q]; exact ⟨List.mem_cons_of_mem _ m0, Or.inl rfl⟩
        · rw [q]; exact ⟨List.mem_cons_self, Or.inl rfl⟩
        · rw [q]; exact ⟨List.mem_cons_of_mem _ m3, Or.inl rfl⟩
        · rw [q]; exact ⟨List.mem_cons_of_mem _ m4, Or.inl rfl⟩
      · obtain ⟨g1, g2⟩ := lw_meth m5 w hw
        exact ⟨List.mem_cons_of_mem _ g1, g2⟩
    refine zs_after (va_runU (As := As) (rest := rest) (free := fun q => h.1 ≤ q) (n := n) (index := i) (C := C) (b := b) (bytes := cc') (maxL := nL') (ret := rt') (ws := ws_ y cc' nL' rt') (owner := x.cls) ⟨c1, c2, c5, c6, c7'⟩ (hM l h.1 c10) (va_cwO n c7' hG rfl rfl rfl (List.mem_cons_of_mem _ m7) m8 ⟨by show d' + 1 ≤ R.frames; omega, by show 8 + (nL' + 11) + 64 * d' ≤ R.locals; omega⟩)
      ⟨zs_Pc_blind, ⟨cell, q3, by rw [q5]; rfl, hcl⟩, fun U hU hW => ⟨rfl, zs_K_next hW (fun a ha hb => by rw [hU]; exact hS.2.2.1 a ha hb) c8, by rw [hU]; exact Nat.le_trans hS.1 hS.2.1, h, rfl, hR, by rw [hU]; exact hZ⟩⟩ rfl hn hl9.1 hst (lv_room hw) hd ⟨by omega, by omega⟩) hS ?_
    intro h9 H1 locs1 e1 e2 e3 e4
    refine e1 ▸ k p l e R s m args below meth c H1 locs1 _ _ h9 ls ?_ h1 h2 (by omega) (by omega) e2 e3 (e1 ▸ e4) hl9
    rw [e1]; exact Cx0
theorem zs_callP0 {y : MethodName} {cc' : ByteArray} {nL' d' n i ci : Nat} {rt' : Option FieldType} {enc : τ → Option Value} {b : Nat} {g : Option (τ × σ)} {f : τ × σ → Option β} {C : String} {T : u_T} {N : Nat} {ty : Nat → FieldType} {st0 : List Value} (As rest : List Value)
    (hC : zs_Con D Rl bd enc y cc' nL' rt' d' (.ref b :: As) M g) (hm : zs_mP own y cc' nL' rt' n) (hl : Cond.methodLink own i y ∈ lw_all) (hc : zs_cls ci C T N ty) (hb : ∀ h, Rl M h → ∃ k f, h.2.2 b = some (ci, k, f)) (hd : decode cc pc = .ok (.invokespecial i, 3)) (hst : st0 = As.reverse ++ .ref b :: rest) (hn : As.length = n) (hdd : d' + 1 ≤ d) (hw : (rest.map fun v => v.category).sum ≤ 8)
    (k : ∀ (r : τ) (M1 : σ), g = some (r, M1) → zs_Sim D Rl bd Fn own cc nL rt nm d M1 (pc + 3) lv ((enc r).toList ++ rest) (f (r, M1)) K) : zs_Sim D Rl bd Fn own cc nL rt nm d M pc lv st0 (g.bind f) K := by
  intro r M' ee
  cases hg : g with
  | none => rw [hg] at ee; cases ee
  | some z =>
    obtain ⟨v, M1⟩ := z
    rw [hg] at ee
    obtain ⟨hm1, hM⟩ := hC v M1 hg
    obtain ⟨hm2, k⟩ := k v M1 hg r M' ee
    refine ⟨⟨Nat.le_trans hm2.1 hm1.1, Nat.le_trans hm2.2 hm1.2⟩, fun p l e R s m args below meth c H locs cells slots h ls Cx h1 h2 h3 h4 hR hZ hS hl9 => ?_⟩
    have Cx0 := Cx
    obtain ⟨c1, c2, c3, c4, c5, c6, c7, c8, c9, c10⟩ := Cx
    obtain ⟨m1, m2, m3, m4, m5, m6, m8⟩ := hm
    obtain ⟨kb, fb, eb⟩ := hb h hR
    obtain ⟨rr, q1, q2, cell, q3, q4, q5, -⟩ := zs_obj hZ eb hc.1
    have hcl : s.vm.findClass C = some cell.cls := by rw [q4]; exact (c8.1 ci (C, T, N) hc.2.1).2.1
    have hG : GoodIn lw_all (va_wsSU own i y (ws_ y cc' nL' rt')) := lw_app (fun w hw => by
      simp only [List.mem_cons, List.not_mem_nil, or_false] at hw
      rcases hw with q | q | q | q | q
      · rw [q]; exact hl
      · rw [q]; exact m1
      · rw [q]; exact m2
      · rw [q]; exact m3
      · rw [q]; exact m4) (lw_meth m5)
    refine zs_after (va_runSU (As := As) (rest := rest) (free := fun q => h.1 ≤ q) (n := n) (index := i) (C := C) (b := b) (bytes := cc') (maxL := nL') (ret := rt') (ws := ws_ y cc' nL' rt') (c8.1 ci (C, T, N) hc.2.1).2 ⟨c1, c2, c5, c6, c7⟩ (hM l h.1 c10) (va_cwSU n c7 hG rfl rfl rfl m8 ⟨by show d' + 1 ≤ R.frames; omega, by show 8 + (nL' + 11) + 64 * d' ≤ R.locals; omega⟩)
      ⟨zs_Pc_blind, ⟨cell, q3, by rw [q5]; rfl, hcl⟩, fun U hU hW => ⟨rfl, zs_K_next hW (fun a ha hb => by rw [hU]; exact hS.2.2.1 a ha hb) c8, by rw [hU]; exact Nat.le_trans hS.1 hS.2.1, h, rfl, hR, by rw [hU]; exact hZ⟩⟩ rfl hn hl9.1 hst (lv_room hw) hd ⟨by omega, by omega⟩) hS ?_
    intro h9 H1 locs1 e1 e2 e3 e4
    refine e1 ▸ k p l e R s m args below meth c H1 locs1 _ _ h9 ls ?_ h1 h2 (by omega) (by omega) e2 e3 (e1 ▸ e4) hl9
    rw [e1]; exact Cx0
/-- System.arraycopy of bytes, from nought to nought -/
theorem zs_copyb {M1 : σ} {i a0 a n0 n1 n : Nat} {sp dp z : Int32} {F G : Nat → Value} (hl : Cond.methodLink own i arraycopyName ∈ lw_all) (hd : decode cc pc = .ok (.invokestatic i, 3)) (hdd : 0 + 1 ≤ d) (hw : (st.map fun v => v.category).sum ≤ 8) (hs : sp = 0) (hp : dp = 0) (hz : z = nI n) (hn0 : n ≤ n0) (hn1 : n ≤ n1) (hn : n < 2 ^ 31) (hF : ∀ j, j < n → ∃ x, F j = .int x ∧ fits .byte (.int x) = true) (hbd : bd M1 = bd M) (h0 : ∀ h, Rl M h → h.2.2 a0 = some (65, n0, F)) (hL : ∀ h, Rl M h → h.2.2 a = some (65, n1, G) ∧ h.1 ≤ a ∧ Rl M1 (zs_up h a (65, n1, va_cpy F G 0 0 n))) (k : zs_Sim D Rl bd Fn own cc nL rt nm d M1 (pc + 3) lv st o K) : zs_Sim D Rl bd Fn own cc nL rt nm d M pc lv (.int z :: .int dp :: .ref a :: .int sp :: .ref a0 :: st) o K := by
  intro r M' ee
  obtain ⟨hm, k⟩ := k r M' ee
  rw [hbd] at hm k
  refine ⟨hm, fun p l e R s m args below meth c H locs cells slots h ls C h1 h2 h3 h4 hR hZ hS hlv => ?_⟩
  have C0 := C
  obtain ⟨c1, c2, c3, c4, c5, c6, c7, c8, -⟩ := C
  obtain ⟨e1, e2, e3⟩ := hL h hR
  have hc0 := zs_arr (t := 1) hZ (h0 h hR)
  have hc1 := zs_arr (t := 1) hZ e1
  obtain ⟨-, k0, hk0, cm0, hkk0⟩ := (c8.2.1 1 .byte rfl).1 n0 F
  subst hs hp hz
  have hcl : (nI n).toNatClampNeg = n := nI_clamp hn
  have hti : (nI n).toInt = (n : Int) := nI_toInt hn
  have hnw : nativeFrameWords "java/lang/System" "arraycopy" 5 ≤ 40 := by decide +kernel
  intro T hT X
  obtain ⟨vm', X', step⟩ := X.arraycopy c1 c6 (c7 _ hl) (c7 _ q922) (c7 _ q921) (c7 _ q167) (src := a0) (dst := a) (cs := arrV (D.2.1 1) n0 F) (cd := arrV (D.2.1 1) n1 G) (srcPos := 0) (destPos := 0) (n := nI n) (by rw [hT]; exact hc0) (by rw [hT]; exact hc1)
    (fun _ h => by cases h) (fun _ h => by cases h) (fun h => by cases h) (fun h => by cases h) hk0 hk0 hkk0 hkk0 (by simp [refKind]) (by decide) (by decide) (nI_pos hn)
    (by rw [hti, arrV_size]; show ¬ ((0 : Int) + n > n0); omega) (by rw [hti, arrV_size]; show ¬ ((0 : Int) + n > n1); omega)
    (fun vm₁ _ i hi => by
      have e : (arrV (D.2.1 1) n0 F).slots.getD ((0 : Int32).toNatClampNeg + i) .null = F (0 + i) := by
        rw [hcl] at hi
        rw [Array.getD_eq_getD_getElem?, show (0 : Int32).toNatClampNeg = 0 from rfl, arrV_read _ _ (by omega)]
        rfl
      obtain ⟨x9, hx9, hx8⟩ := hF (0 + i) (by rw [hcl] at hi; omega)
      exact ⟨by rw [e, hx9]; exact hx8, by rw [e, hx9]; exact trivial⟩)
    (g := F0 m pc ls (.int (nI n) :: .int 0 :: .ref a :: .int 0 :: .ref a0 :: st)) rfl (by rw [c5]; exact hlv.1) (rest := st) rfl (by rw [c2]; exact hd) (by omega) (by show 2 * 0 + _ + _ ≤ _; omega)
  have e9 : copied (arrV (D.2.1 1) n0 F) (arrV (D.2.1 1) n1 G) 0 0 (nI n) = arrV (D.2.1 1) n1 (va_cpy F G 0 0 n) := by
    have h9 := va_copied (fun z : Value => z) (D.2.1 1) (D.2.1 1) (n0 := n0) (n1 := n1) (sp := 0) (dp := 0) (n := n) F G (by omega)
    unfold copied
    rw [hcl]
    exact h9
  rw [e9] at X' step
  have hla : a < H.size := (Array.getElem?_eq_some_iff.mp hc1).1
  have hheap : ((T.setVm vm').setCell a (arrV (D.2.1 1) n1 (va_cpy F G 0 0 n))).heap = H.setIfInBounds a (arrV (D.2.1 1) n1 (va_cpy F G 0 0 n)) := by rw [← hT]; rfl
  have oq : ∀ q : Nat, q ≠ a → (H.setIfInBounds a (arrV (D.2.1 1) n1 (va_cpy F G 0 0 n)))[q]? = H[q]? := fun q hq => by simp [Array.getElem?_setIfInBounds, Ne.symm hq]
  have oz : (H.setIfInBounds a (arrV (D.2.1 1) n1 (va_cpy F G 0 0 n))).size = H.size := by simp
  have ha : (H.setIfInBounds a (arrV (D.2.1 1) n1 (va_cpy F G 0 0 n)))[a]? = some (arrV (D.2.1 1) n1 (va_cpy F G 0 0 n)) := by simp [Array.getElem?_setIfInBounds, hla]
  have hX : ∀ L : List Loc, (∀ q ∈ L, h.1 ≤ q.base) → zs_S h.1 s.heap (H.setIfInBounds a (arrV (D.2.1 1) n1 (va_cpy F G 0 0 n))) (locs ++ L) := fun L hL => zs_S_call hS (Nat.le_of_eq oz.symm) (fun q _ hb => oq q (fun z => hb (z ▸ e2))) hL
  rw [hcl] at X'
  obtain ⟨t, a1, b1⟩ := k p l e R s m args below meth c _ _ cells slots (zs_up h a (65, n1, va_cpy F G 0 0 n)) ls C0 h1 h2 h3 h4 e3 (zs_R_up hZ oz oq (Or.inr ⟨Nat.le_of_ble_eq_true rfl, ha⟩)) (hX _ (by intro q hq; obtain ⟨z, -, hz⟩ := List.mem_map.mp hq; rw [← hz]; exact e2)) hlv _ hheap X'
  exact ⟨t, step t a1, b1⟩
end ZP
