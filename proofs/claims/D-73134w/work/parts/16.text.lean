/-! the text's cells, terms and laws, what they answer; the skies -/
set_option maxRecDepth 100000
theorem cs_out {W : cs_W} {P : Nat → Bool} {h0 h : zs_AH} {c : Nat} {S : cs_S} (hR : cs_R W P h0 c S h) {a : Nat} {x : zs_HC} (e : cs_rs P h0 a = some x) : h.2.2 a = some x := by
  obtain ⟨-, h2, h3, -⟩ := hR
  have hp : P a = false := by
    cases q : P a with
    | false => rfl
    | true => unfold cs_rs at e; rw [q] at e; cases e
  have e' : h0.2.2 a = some x := by unfold cs_rs at e; rw [hp] at e; exact e
  rw [h3]
  show (if c ≤ a ∧ a < c + 561 ∧ ¬ (c + 10 ≤ a ∧ a < c + 20) then some (cs_cell W c S (a - c)) else h0.2.2 a) = _
  rw [if_neg (fun z => by have := h2 a z; rw [hp] at this; cases this)]
  exact e'
def zt_lv (T : zt_T) (k : Nat) : Value := match zt_lw T k with
  | none => .null
  | some _ => .ref (zt_ad T (20 + k))
/-- what a call of a method that is declared above asks of the tables -/
def zs_mA (C : String) (x y : MethodName) (cc : ByteArray) (nL : Nat) (rt : Option FieldType) (n : Nat) : Prop :=
  Cond.sameMethod x.cls x.cls x.name x.desc ∈ lw_all ∧ Cond.selects C x y ∈ lw_all ∧ Cond.instanceMethod y ∈ lw_all ∧ Cond.initialized y.cls ∈ lw_all ∧ Cond.code y cc nL rt ∈ lw_all ∧ nL ≤ 45 ∧ Cond.declares x ∈ lw_tbl ∧ (x.cls ≠ "java/lang/invoke/MethodHandle" ∧ x.cls ≠ "java/lang/invoke/VarHandle" ∧ (parseMethodDescriptor x.desc).map (fun d => d.parameters.length) = some n)
section ZG
variable {σ α β τ : Type} {D : zs_D} {Rl : σ → zs_AH → Prop} {bd : σ → Nat × Nat} {Fn : zs_Q σ α} {own : String} {cc : ByteArray} {nL : Nat} {rt : Option FieldType} {nm : String} {d : Nat} {M : σ} {pc : Nat} {lv : List (Nat × Value)} {st : List Value} {o : Option β} {K : β → Option (α × σ)}
theorem zs_callA0 {x y : MethodName} {cc' : ByteArray} {nL' d' n i ci : Nat} {rt' : Option FieldType} {enc : τ → Option Value} {b : Nat} {g : Option (τ × σ)} {f : τ × σ → Option β} {C : String} {T : u_T} {N : Nat} {ty : Nat → FieldType} {st0 : List Value} (As rest : List Value)
    (hC : zs_Con D Rl bd enc y cc' nL' rt' d' (.ref b :: As) M g) (hm : zs_mA C x y cc' nL' rt' n) (hl : Cond.methodLink own i x ∈ lw_all) (hc : zs_cls ci C T N ty) (hb : ∀ h, Rl M h → ∃ k f, h.2.2 b = some (ci, k, f)) (hd : decode cc pc = .ok (.invokevirtual i, 3)) (hst : st0 = As.reverse ++ .ref b :: rest) (hn : As.length = n) (hdd : d' + 1 ≤ d) (hw : (rest.map fun v => v.category).sum ≤ 8)
    (k : ∀ (r : τ) (M1 : σ), g = some (r, M1) → zs_Sim D Rl bd Fn own cc nL rt nm d M1 (pc + 3) lv ((enc r).toList ++ rest) (f (r, M1)) K) : zs_Sim D Rl bd Fn own cc nL rt nm d M pc lv st0 (g.bind f) K := by
  intro r M' ee
  cases hg : g with
  | none => rw [hg] at ee; cases ee
  | some z =>
    obtain ⟨v, M1⟩ := z
    rw [hg] at ee
    obtain ⟨hm1, hM⟩ := hC v M1 hg
    obtain ⟨hm2, k⟩ := k v M1 hg r M' ee
    refine ⟨⟨Nat.le_trans hm2.1 hm1.1, Nat.le_trans hm2.2 hm1.2⟩, fun p l e R s m args below meth c H locs cells slots h ls Cx h1 h2 h3 h4 hR hZ hS hl9 => ?_⟩
    have Cx0 := Cx
    obtain ⟨c1, c2, c3, c4, c5, c6, c7, c8, c9, c10⟩ := Cx
    obtain ⟨m1, m2, m3, m4, m5, m6, m7, m8⟩ := hm
    obtain ⟨kb, fb, eb⟩ := hb h hR
    obtain ⟨rr, q1, q2, cell, q3, q4, q5, -⟩ := zs_obj hZ eb hc.1
    have hcl : s.vm.findClass C = some cell.cls := by rw [q4]; exact (c8.1 ci (C, T, N) hc.2.1).2.1
    have hG : GoodIn lw_all (va_wsU own i C x.cls x y (ws_ y cc' nL' rt')) := lw_app (fun w hw => by
      simp only [List.mem_cons, List.not_mem_nil, or_false] at hw
      rcases hw with q | q | q | q | q
      · rw [q]; exact hl
      · rw [q]; exact m1
      · rw [q]; exact m2
      · rw [q]; exact m3
      · rw [q]; exact m4) (lw_meth m5)
    refine zs_after (va_runU (As := As) (rest := rest) (free := fun q => h.1 ≤ q) (n := n) (index := i) (C := C) (b := b) (bytes := cc') (maxL := nL') (ret := rt') (ws := ws_ y cc' nL' rt') (owner := x.cls) ⟨c1, c2, c5, c6, c7⟩ (hM l h.1 c10) (va_cwA n c7 hG rfl rfl rfl (c8.2.2.1.2.2.2 x m7) m8 ⟨by show d' + 1 ≤ R.frames; omega, by show 8 + (nL' + 11) + 64 * d' ≤ R.locals; omega⟩)
      ⟨zs_Pc_blind, ⟨cell, q3, by rw [q5]; rfl, hcl⟩, fun U hU hW => ⟨rfl, zs_K_next hW (fun a ha hb => by rw [hU]; exact hS.2.2.1 a ha hb) c8, by rw [hU]; exact Nat.le_trans hS.1 hS.2.1, h, rfl, hR, by rw [hU]; exact hZ⟩⟩ rfl hn hl9.1 hst (lv_room hw) hd ⟨by omega, by omega⟩) hS ?_
    intro h9 H1 locs1 e1 e2 e3 e4
    refine e1 ▸ k p l e R s m args below meth c H1 locs1 _ _ h9 ls ?_ h1 h2 (by omega) (by omega) e2 e3 (e1 ▸ e4) hl9
    rw [e1]; exact Cx0
/-- an int field of an object that lies outside -/
theorem zs_lvv (hd : decode cc pc = .ok (.ireturn, 1)) : True := trivial
end ZG
/-! what terms answer: a row of code, worked off by a pile; whether something was divided by nought -/
def zl_bin (k : Nat) (x y : Int32) : Int32 := if k = 2 then x + y else if k = 3 then x - y else if k = 4 then x * y else if y = 0 then 0 else x / y
def zl_st (v : Nat → Int32) (s : List Int32 × Bool) (q : Nat × Int32) : List Int32 × Bool := if q.1 = 0 then (q.2 :: s.1, s.2) else if q.1 = 1 then (v q.2.toNatClampNeg :: s.1, s.2) else match s.1 with
  | y :: x :: r => (zl_bin q.1 x y :: r, s.2 || decide (q.1 = 5 ∧ y = 0))
  | r => (r, s.2)
def zl_run (v : Nat → Int32) (c : zl_C) (s : List Int32 × Bool) : List Int32 × Bool := c.foldl (zl_st v) s
def zl_val (v : Nat → Int32) (c : zl_C) : Int32 := (zl_run v c ([], false)).1.headD 0
def zl_brk (v : Nat → Int32) (c : zl_C) : Bool := (zl_run v c ([], false)).2
theorem zl_op_cases (op : Int32) : zl_op op = 2 ∨ zl_op op = 3 ∨ zl_op op = 4 ∨ zl_op op = 5 := by
  unfold zl_op
  by_cases h1 : op = 43
  · rw [if_pos h1]; exact Or.inl rfl
  · rw [if_neg h1]
    by_cases h2 : op = 45
    · rw [if_pos h2]; exact Or.inr (Or.inl rfl)
    · rw [if_neg h2]
      by_cases h3 : op = 42
      · rw [if_pos h3]; exact Or.inr (Or.inr (Or.inl rfl))
      · rw [if_neg h3]; exact Or.inr (Or.inr (Or.inr rfl))
theorem zl_run_ex (g : Nat → Option zs_HC) (v : Nat → Int32) : ∀ (d a : Nat) (c : zl_C), zl_at g d a c → ∃ x b, ∀ s, zl_run v c s = (x :: s.1, s.2 || b) := by
  intro d
  induction d with
  | zero => intro a c h; exact h.elim
  | succ d ih =>
    intro a c h
    rcases h with ⟨f, w, -, -, rfl⟩ | ⟨f, k, -, -, -, rfl⟩ | ⟨f, op, a1, a2, c1, c2, -, -, -, -, h1, h2, rfl⟩
    · exact ⟨w, false, fun s => by simp [zl_run, zl_st]⟩
    · exact ⟨v k.toNatClampNeg, false, fun s => by simp [zl_run, zl_st]⟩
    · obtain ⟨x1, b1, e1⟩ := ih a1 c1 h1
      obtain ⟨x2, b2, e2⟩ := ih a2 c2 h2
      refine ⟨zl_bin (zl_op op) x1 x2, b1 || b2 || decide (zl_op op = 5 ∧ x2 = 0), fun s => ?_⟩
      show ((c1 ++ c2) ++ [(zl_op op, 0)]).foldl (zl_st v) s = _
      rw [List.foldl_append, List.foldl_append]
      have e1' : c1.foldl (zl_st v) s = (x1 :: s.1, s.2 || b1) := e1 s
      have e2' : c2.foldl (zl_st v) (x1 :: s.1, s.2 || b1) = (x2 :: x1 :: s.1, (s.2 || b1) || b2) := e2 _
      rw [e1', e2']
      have h0 : ¬ zl_op op = 0 := by rcases zl_op_cases op with h | h | h | h <;> omega
      have h1 : ¬ zl_op op = 1 := by rcases zl_op_cases op with h | h | h | h <;> omega
      simp only [List.foldl_cons, List.foldl_nil, zl_st, h0, h1, if_false]
      rw [Bool.or_assoc, Bool.or_assoc, Bool.or_assoc]
theorem zl_run_at {g : Nat → Option zs_HC} (v : Nat → Int32) {d a : Nat} {c : zl_C} (h : zl_at g d a c) (s : List Int32 × Bool) : zl_run v c s = (zl_val v c :: s.1, s.2 || zl_brk v c) := by
  obtain ⟨x, b, e⟩ := zl_run_ex g v d a c h
  have e0 := e ([], false)
  unfold zl_val zl_brk
  rw [e s, e0]
  simp
theorem zl_joined {g : Nat → Option zs_HC} (v : Nat → Int32) {d a1 a2 : Nat} {c1 c2 : zl_C} {op : Int32} (h1 : zl_at g d a1 c1) (h2 : zl_at g d a2 c2) : zl_val v (c1 ++ c2 ++ [(zl_op op, 0)]) = zl_bin (zl_op op) (zl_val v c1) (zl_val v c2) ∧ zl_brk v (c1 ++ c2 ++ [(zl_op op, 0)]) = (zl_brk v c1 || zl_brk v c2 || decide (zl_op op = 5 ∧ zl_val v c2 = 0)) := by
  have e : zl_run v (c1 ++ c2 ++ [(zl_op op, 0)]) ([], false) = ([zl_bin (zl_op op) (zl_val v c1) (zl_val v c2)], (zl_brk v c1 || zl_brk v c2 || decide (zl_op op = 5 ∧ zl_val v c2 = 0))) := by
    unfold zl_run
    rw [List.foldl_append, List.foldl_append]
    have e1 := zl_run_at v h1 ([], false)
    have e2 := zl_run_at v h2 ([zl_val v c1], zl_brk v c1)
    unfold zl_run at e1 e2
    rw [e1, show (zl_val v c1 :: ([], false).1, ([], false).2 || zl_brk v c1) = ([zl_val v c1], zl_brk v c1) by simp, e2]
    have h0 : ¬ zl_op op = 0 := by rcases zl_op_cases op with h | h | h | h <;> omega
    have h1 : ¬ zl_op op = 1 := by rcases zl_op_cases op with h | h | h | h <;> omega
    simp only [List.foldl_cons, List.foldl_nil, zl_st, h0, h1, if_false]
  unfold zl_val zl_brk at *
  rw [e]
  exact ⟨rfl, rfl⟩
def gs_br (M : cs_S) (o : Nat) (b : Bool) : cs_S := if b then cs_sF M o 1 1 else M
theorem gs_br_arr (M : cs_S) (o : Nat) (b : Bool) : (gs_br M o b).2 = M.2 := by cases b <;> rfl
theorem cs_sF_same (M : cs_S) (o k : Nat) (x y : Int32) : cs_sF (cs_sF M o k x) o k y = cs_sF M o k y := by
  refine Prod.ext (funext fun p => funext fun q => ?_) rfl
  show (if p = o ∧ q = k then y else if p = o ∧ q = k then x else M.1 p q) = if p = o ∧ q = k then y else M.1 p q
  by_cases h : p = o ∧ q = k
  · rw [if_pos h, if_pos h]
  · rw [if_neg h, if_neg h, if_neg h]
theorem gs_br_or (M : cs_S) (o : Nat) (a b : Bool) : gs_br (gs_br M o a) o b = gs_br M o (a || b) := by
  cases a <;> cases b
  · rfl
  · rfl
  · rfl
  · exact cs_sF_same M o 1 1 1
def yS_of : MethodName := ⟨"HairRope$Sum", "of", "(LHairRope$Asked;)I"⟩
theorem ka_X13 : zs_mA RX13 yS_of yX13_of cX13_of 2 (some .int) 1 := ⟨q1162, q1171, q1167, q158, q1168, by decide, q1161, by decide +kernel⟩
theorem ka_X14 : zs_mA RX14 yS_of yX14_of cX14_of 2 (some .int) 1 := ⟨q1162, q1172, q1169, q159, q1170, by decide, q1161, by decide +kernel⟩
theorem ka_X15 : zs_mA RX15 yS_of yX15_of cX15_of 4 (some .int) 1 := ⟨q1162, q1163, q1164, q160, q1165, by decide, q1161, by decide +kernel⟩
theorem pl_X13 : plainName RX13 = true := by decide +kernel
theorem pl_X14 : plainName RX14 = true := by decide +kernel
theorem pl_X15 : plainName RX15 = true := by decide +kernel
theorem pl_X11 : plainName RX11 = true := by decide +kernel
/-- a term is asked: some class's own method answers what the code says -/
def kl_C (D : zs_D) (W : cs_W) (P : Nat → Bool) (h0 : zs_AH) (c i n a : Nat) (code : zl_C) (M : cs_S) : Prop :=
  ∃ (ci : Nat) (C : String) (T : u_T) (N : Nat) (ty : Nat → FieldType) (y : MethodName) (cc' : ByteArray) (nL' : Nat), zs_cls ci C T N ty ∧ (∃ k f, cs_rs P h0 a = some (ci, k, f)) ∧ zs_mA C yS_of y cc' nL' (some .int) 1 ∧
    zs_Con D (cs_R W P h0 c) cs_bd zs_eI y cc' nL' (some .int) n [.ref a, .ref (c + (cs_va i + 8))] M (some (zl_val (M.2 (10 + i) 11) code, gs_br M (110 + i) (zl_brk (M.2 (10 + i) 11) code)))
section ZH
variable {α β : Type} {D : zs_D} {W : cs_W} {P : Nat → Bool} {h0 : zs_AH} {c : Nat} {Fn : zs_Q cs_S α} {own : String} {cc : ByteArray} {nL : Nat} {rt : Option FieldType} {nm : String} {d : Nat} {M : cs_S} {pc : Nat} {lv : List (Nat × Value)} {st : List Value} {o : Option β} {K : β → Option (α × cs_S)}
theorem zs_callSum {i n a ix : Nat} {code : zl_C} {rest : List Value} (h : kl_C D W P h0 c i n a code M) (hl : Cond.methodLink own ix yS_of ∈ lw_all) (hd : decode cc pc = .ok (.invokevirtual ix, 3)) (hdd : n + 1 ≤ d) (hw : (rest.map fun v => v.category).sum ≤ 8)
    (k : zs_Sim D (cs_R W P h0 c) cs_bd Fn own cc nL rt nm d (gs_br M (110 + i) (zl_brk (M.2 (10 + i) 11) code)) (pc + 3) lv (.int (zl_val (M.2 (10 + i) 11) code) :: rest) o K) : zs_Sim D (cs_R W P h0 c) cs_bd Fn own cc nL rt nm d M pc lv (.ref (c + (cs_va i + 8)) :: .ref a :: rest) o K := by
  obtain ⟨ci, C, T, N, ty, y, cc', nL', hc, ⟨k0, f0, e0⟩, hm, hC⟩ := h
  refine zs_eqo (o2 := (some (zl_val (M.2 (10 + i) 11) code, gs_br M (110 + i) (zl_brk (M.2 (10 + i) 11) code))).bind fun _ => o) rfl ?_
  refine zs_callA0 (f := fun _ => o) [.ref (c + (cs_va i + 8))] rest hC hm hl hc (fun h hR => ⟨k0, f0, cs_out hR e0⟩) hd rfl rfl hdd hw (fun r M1 e => ?_)
  obtain ⟨rfl, rfl⟩ : zl_val (M.2 (10 + i) 11) code = r ∧ gs_br M (110 + i) (zl_brk (M.2 (10 + i) 11) code) = M1 := ⟨congrArg (fun z => z.1) (Option.some.inj e), congrArg (fun z => z.2) (Option.some.inj e)⟩
  exact k
end ZH
set_option maxHeartbeats 4000000 in
theorem kl_sum (D : zs_D) (W : cs_W) (P : Nat → Bool) (h0 : zs_AH) (c i : Nat) (hi : i < 45) : ∀ (n a : Nat) (code : zl_C), zl_at (cs_rs P h0) n a code → ∀ M, kl_C D W P h0 c i n a code M := by
  intro n
  induction n with
  | zero => intro a code h; exact h.elim
  | succ n ih =>
    intro a code h M
    rcases h with ⟨f, w, e1, e2, rfl⟩ | ⟨f, k, e1, e2, e3, rfl⟩ | ⟨f, op, a1, a2, c1, c2, e1, e2, e3, e4, h1, h2, rfl⟩
    · refine ⟨13, RX13, TX13, 1, tyX13, yX13_of, cX13_of, 2, zc_X13, ⟨_, _, e1⟩, ka_X13, ?_⟩
      refine zs_con (own := RX13) (nm := "of") pl_X13 rfl rfl (Nat.le_of_ble_eq_true rfl) ?_
      refine zs_lv (lv' := [(0, .ref a), (1, .ref (c + (cs_va i + 8)))]) rfl ?_
      refine zs_aload_n (pc := 0) 0 dX13_of_0 rfl rfl ?_
      refine zs_getf (pc := 1) (v := .int w) 0 zc_X13 (by decide) q802 (fun h hR => ⟨f, cs_out hR e1, e2⟩) dX13_of_1 ?_
      exact zs_iret (pc := 4) dX13_of_4 rfl rfl rfl
    · refine ⟨14, RX14, TX14, 1, tyX14, yX14_of, cX14_of, 2, zc_X14, ⟨_, _, e1⟩, ka_X14, ?_⟩
      refine zs_con (own := RX14) (nm := "of") pl_X14 rfl rfl (Nat.le_of_ble_eq_true rfl) ?_
      refine zs_lv (lv' := [(0, .ref a), (1, .ref (c + (cs_va i + 8)))]) rfl ?_
      refine zs_aload_n (pc := 0) 1 dX14_of_0 rfl rfl ?_
      refine cs_getr (pc := 1) (cs_va i + 8) (110 + i) 0 (v := .ref (c + (cs_va i + 9))) (cs_pq hi) zc_X6 ?_ (by decide) ?_ ?_ q430 dX14_of_1 ?_
      · unfold cs_cl cs_nf
        exact ⟨by rw [if_neg (by omega), if_neg (by omega), if_pos (by omega)], by rw [if_neg (by omega), if_neg (by omega), if_neg (by omega), if_neg (by omega), if_pos (by omega)]⟩
      · unfold cs_sc
        rw [if_neg (by omega), if_neg (by omega), if_neg (by omega), if_neg (by omega), if_neg (by omega)]
        rfl
      · unfold cs_cv
        rw [if_neg (by omega), if_neg (by omega), if_neg (by omega), if_neg (by omega), if_neg (by omega), show 110 + i - 110 = i by omega]
      refine zs_aload_n (pc := 4) 0 dX14_of_4 rfl rfl ?_
      refine zs_getf (pc := 5) (v := .int k) 0 zc_X14 (by decide) q812 (fun h hR => ⟨f, cs_out hR e1, e2⟩) dX14_of_5 ?_
      refine zs_eqo (o2 := (zs_ald 9 (M.2 (10 + i) 11) k).bind fun x => some (x, M)) ?_ ?_
      · unfold zs_ald
        rw [if_pos e3]
        rfl
      · refine cs_iald (pc := 8) (cs_va i + 9) (10 + i) 11 (cs_pva hi 9 (by decide) 9 rfl) dX14_of_8 (fun x => ?_)
        exact zs_iret (pc := 9) dX14_of_9 rfl rfl rfl
    · refine ⟨15, RX15, TX15, 3, tyX15, yX15_of, cX15_of, 4, zc_X15, ⟨_, _, e1⟩, ka_X15, ?_⟩
      obtain ⟨j1, j2⟩ := zl_joined (op := op) (M.2 (10 + i) 11) h1 h2
      rw [j1, j2]
      have hb : (gs_br M (110 + i) (zl_brk (M.2 (10 + i) 11) c1)).2 = M.2 := by rw [gs_br_arr]
      refine zs_con (own := RX15) (nm := "of") pl_X15 rfl rfl (Nat.le_of_ble_eq_true rfl) ?_
      refine zs_lv (lv' := [(0, .ref a), (1, .ref (c + (cs_va i + 8)))]) rfl ?_
      refine zs_aload_n (pc := 0) 0 dX15_of_0 rfl rfl ?_
      refine zs_getf (pc := 1) (v := .ref a1) 1 zc_X15 (by decide) q823 (fun h hR => ⟨f, cs_out hR e1, e3⟩) dX15_of_1 ?_
      refine zs_aload_n (pc := 4) 1 dX15_of_4 rfl rfl ?_
      refine zs_callSum (pc := 5) (ih a1 c1 h1 M) q1166 dX15_of_5 (Nat.le_refl _) (Nat.le_of_ble_eq_true rfl) ?_
      refine zs_istore_n (pc := 8) (lv' := [(0, .ref a), (1, .ref (c + (cs_va i + 8))), (2, .int (zl_val (M.2 (10 + i) 11) c1))]) [1, 2, 0] dX15_of_8 rfl (by decide) rfl ?_
      refine zs_aload_n (pc := 9) 0 dX15_of_9 rfl rfl ?_
      refine zs_getf (pc := 10) (v := .ref a2) 2 zc_X15 (by decide) q824 (fun h hR => ⟨f, cs_out hR e1, e4⟩) dX15_of_10 ?_
      refine zs_aload_n (pc := 13) 1 dX15_of_13 rfl rfl ?_
      refine zs_callSum (pc := 14) (ih a2 c2 h2 _) q1166 dX15_of_14 (Nat.le_refl _) (Nat.le_of_ble_eq_true rfl) ?_
      rw [hb, gs_br_or]
      refine zs_istore_n (pc := 17) (lv' := [(0, .ref a), (1, .ref (c + (cs_va i + 8))), (2, .int (zl_val (M.2 (10 + i) 11) c1)), (3, .int (zl_val (M.2 (10 + i) 11) c2))]) [1, 2, 3, 0] dX15_of_17 rfl (by decide) rfl ?_
      refine zs_aload_n (pc := 18) 0 dX15_of_18 rfl rfl ?_
      refine zs_getf (pc := 19) (v := .int op) 0 zc_X15 (by decide) q822 (fun h hR => ⟨f, cs_out hR e1, e2⟩) dX15_of_19 ?_
      generalize zl_val (M.2 (10 + i) 11) c1 = x
      generalize zl_val (M.2 (10 + i) 11) c2 = y
      generalize (zl_brk (M.2 (10 + i) 11) c1 || zl_brk (M.2 (10 + i) 11) c2) = b
      refine zs_eqo (o2 := if op = 42 then some (x * y, gs_br M (110 + i) b) else if op = 43 then some (x + y, gs_br M (110 + i) b) else if op = 45 then some (x - y, gs_br M (110 + i) b) else if y = 0 then (some (cs_sF (gs_br M (110 + i) b) (110 + i) 1 1)).bind (fun M3 => some (0, M3)) else some (x / y, gs_br M (110 + i) b)) ?_ ?_
      · unfold zl_op zl_bin
        by_cases o1 : op = 42
        · subst o1; simp
        · by_cases o2 : op = 43
          · subst o2; simp
          · by_cases o3 : op = 45
            · subst o3; simp
            · by_cases hy : y = 0
              · simp only [o1, o2, o3, hy, if_true, if_false]
                cases b
                · simp [gs_br]
                · simp [gs_br, cs_sF_same]
              · simp [o1, o2, o3, hy]
      · refine zs_tsw (pc := 22) [(42, 60), (43, 52), (45, 56)] 64 dX15_of_22 (by decide +kernel) ?_
        refine zs_case ?_ (zs_case ?_ (zs_case ?_ (zs_dflt ?_)))
        · refine zs_iload_n (pc := 60) 2 dX15_of_60 rfl rfl ?_
          refine zs_iload_n (pc := 61) 3 dX15_of_61 rfl rfl ?_
          refine zs_imul (pc := 62) dX15_of_62 ?_
          exact zs_iret (pc := 63) dX15_of_63 rfl rfl rfl
        · refine zs_iload_n (pc := 52) 2 dX15_of_52 rfl rfl ?_
          refine zs_iload_n (pc := 53) 3 dX15_of_53 rfl rfl ?_
          refine zs_iadd (pc := 54) dX15_of_54 ?_
          exact zs_iret (pc := 55) dX15_of_55 rfl rfl rfl
        · refine zs_iload_n (pc := 56) 2 dX15_of_56 rfl rfl ?_
          refine zs_iload_n (pc := 57) 3 dX15_of_57 rfl rfl ?_
          refine zs_isub (pc := 58) dX15_of_58 ?_
          exact zs_iret (pc := 59) dX15_of_59 rfl rfl rfl
        · refine zs_iload_n (pc := 64) 3 dX15_of_64 rfl rfl ?_
          by_cases hy : y = 0
          · rw [if_pos hy]
            subst hy
            refine zs_eqo (o2 := if (0 : Int32) = 0 then (some (cs_sF (gs_br M (110 + i) b) (110 + i) 1 1)).bind (fun M3 => some ((0 : Int32), M3)) else none) rfl ?_
            refine zs_if_eq (pc := 65) (tgt := 72) dX15_of_65 (by decide) ?_ zs_none
            refine zs_aload_n (pc := 72) 1 dX15_of_72 rfl rfl ?_
            refine zs_iconst (pc := 73) (v := 1) dX15_of_73 rfl ?_
            refine cs_puti (pc := 74) (cs_va i + 8) (110 + i) 1 (cs_pq hi) zc_X6 ?_ (by decide) ?_ q433 rfl rfl rfl dX15_of_74 (fun M3 => ?_)
            · unfold cs_cl cs_nf
              exact ⟨by rw [if_neg (by omega), if_neg (by omega), if_pos (by omega)], by rw [if_neg (by omega), if_neg (by omega), if_neg (by omega), if_neg (by omega), if_pos (by omega)]⟩
            · unfold cs_sc
              rw [if_neg (by omega), if_neg (by omega), if_neg (by omega), if_neg (by omega), if_neg (by omega)]
              rfl
            · refine zs_iconst (pc := 77) (v := 0) dX15_of_77 rfl ?_
              exact zs_iret (pc := 78) dX15_of_78 rfl rfl rfl
          · rw [if_neg hy]
            refine zs_eqo (o2 := if y = 0 then none else some (x / y, gs_br M (110 + i) b)) (by rw [if_neg hy]) ?_
            refine zs_if_eq (pc := 65) (tgt := 72) dX15_of_65 (by decide) zs_none ?_
            refine zs_iload_n (pc := 68) 2 dX15_of_68 rfl rfl ?_
            refine zs_iload_n (pc := 69) 3 dX15_of_69 rfl rfl ?_
            refine zs_idivK (pc := 70) dX15_of_70 hy ?_
            exact zs_iret (pc := 71) dX15_of_71 rfl rfl rfl
