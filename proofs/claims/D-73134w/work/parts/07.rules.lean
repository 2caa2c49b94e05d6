/-! CORE 4: joins, loops with ways out, switches, calls by their answer's kind -/
set_option maxRecDepth 100000
def zs_dst (x : Int32) : List (Int32 × Nat) → Nat → Nat
  | [], td => td
  | q :: cs, td => if x = q.1 then q.2 else zs_dst x cs td
def zs_let {A B : Type} (F : A) (G : A → B) : B := G F
theorem zs_nb (b : Bool) : narrow .boolean (.int (zs_b b)) = .int (zs_b b) := by cases b <;> rfl
def zs_tok (pc : Nat) (dflt lo hi : Int) (offs : Array Int) (cs : List (Int32 × Nat)) (td : Nat) : Bool :=
  cs.all (fun q => decide (lo ≤ q.1.toInt) && decide (q.1.toInt ≤ hi) && decide (offs[(q.1.toInt - lo).toNat]?.map (fun z => (pc : Int) + z) = some (q.2 : Int))) &&
  (List.range (hi - lo + 1).toNat).all (fun i => cs.any (fun q => decide (q.1.toInt = lo + i)) || decide (offs[i]?.map (fun z => (pc : Int) + z) = some (td : Int))) && decide ((pc : Int) + dflt = (td : Int))
section ZE
variable {σ α β τ : Type} {D : zs_D} {Rl : σ → zs_AH → Prop} {bd : σ → Nat × Nat} {Fn : zs_Q σ α} {own : String} {cc : ByteArray} {nL : Nat} {rt : Option FieldType} {nm : String} {d : Nat} {M : σ} {pc : Nat} {lv : List (Nat × Value)} {st : List Value} {o : Option β} {K : β → Option (α × σ)}
theorem zs_pc {pc' : Nat} (h : pc = pc') (k : zs_Sim D Rl bd Fn own cc nL rt nm d M pc' lv st o K) : zs_Sim D Rl bd Fn own cc nL rt nm d M pc lv st o K := h ▸ k
theorem zs_letJ {F : τ → Option β} {G : (τ → Option β) → Option β} (MJ : τ → σ) (pcJ : Nat) (lvJ : τ → List (Nat × Value)) (stJ : τ → List Value) (hJ : ∀ b, zs_Sim D Rl bd Fn own cc nL rt nm d (MJ b) pcJ (lvJ b) (stJ b) (F b) K)
    (hx : ∀ J : τ → Option β, (∀ b, zs_Sim D Rl bd Fn own cc nL rt nm d (MJ b) pcJ (lvJ b) (stJ b) (J b) K) → zs_Sim D Rl bd Fn own cc nL rt nm d M pc lv st (G J) K) : zs_Sim D Rl bd Fn own cc nL rt nm d M pc lv st (zs_let F G) K := hx F hJ
theorem zs_whileJ {ρ : Type} {body : τ → Option (τ ⊕ ρ)} {f : ρ → Option β} (MF : τ → σ) (lvF : τ → List (Nat × Value)) (N : Nat) (t0 : τ) (ME : ρ → σ) (pcE : Nat) (lvE : ρ → List (Nat × Value)) (stE : List Value) (hE : ∀ r, zs_Sim D Rl bd Fn own cc nL rt nm d (ME r) pcE (lvE r) stE (f r) K)
    (hb : ∀ (X : τ ⊕ ρ → Option (α × σ)), (∀ t, zs_Sim D Rl bd Fn own cc nL rt nm d (MF t) pc (lvF t) st (some (Sum.inl t)) X) → (∀ r, zs_Sim D Rl bd Fn own cc nL rt nm d (ME r) pcE (lvE r) stE (some (Sum.inr r)) X) → ∀ t, zs_Sim D Rl bd Fn own cc nL rt nm d (MF t) pc (lvF t) st (body t) X) : zs_Sim D Rl bd Fn own cc nL rt nm d (MF t0) pc (lvF t0) st ((zs_loop N body t0).bind f) K :=
  zs_while MF lvF N t0 (fun X h1 h2 t => hb X h1 (fun r => zs_eqK (h2 r) (hE r)) t)
theorem zs_whileR {ρ ρ2 : Type} {body : τ → Option (τ ⊕ (ρ ⊕ ρ2))} {f : ρ → Option β} {f2 : ρ2 → β} (MF : τ → σ) (lvF : τ → List (Nat × Value)) (N : Nat) (t0 : τ) (ME : ρ → σ) (pcE : Nat) (lvE : ρ → List (Nat × Value)) (stE : List Value) (hE : ∀ r, zs_Sim D Rl bd Fn own cc nL rt nm d (ME r) pcE (lvE r) stE (f r) K)
    (hb : ∀ (X : τ ⊕ (ρ ⊕ ρ2) → Option (α × σ)), (∀ t, zs_Sim D Rl bd Fn own cc nL rt nm d (MF t) pc (lvF t) st (some (Sum.inl t)) X) → (∀ r, zs_Sim D Rl bd Fn own cc nL rt nm d (ME r) pcE (lvE r) stE (some (Sum.inr (Sum.inl r))) X) → (∀ r, X (Sum.inr (Sum.inr r)) = K (f2 r)) → ∀ t, zs_Sim D Rl bd Fn own cc nL rt nm d (MF t) pc (lvF t) st (body t) X) : zs_Sim D Rl bd Fn own cc nL rt nm d (MF t0) pc (lvF t0) st ((zs_loop N body t0).bind (Sum.elim f (fun x => some (f2 x)))) K :=
  zs_while MF lvF N t0 (fun X h1 h2 t => hb X h1 (fun r => zs_eqK (h2 (Sum.inl r)) (hE r)) (fun r => h2 (Sum.inr r)) t)
theorem zs_whileX {ρ2 : Type} {body : τ → Option (τ ⊕ ρ2)} {f2 : ρ2 → β} (MF : τ → σ) (lvF : τ → List (Nat × Value)) (N : Nat) (t0 : τ)
    (hb : ∀ (X : τ ⊕ ρ2 → Option (α × σ)), (∀ t, zs_Sim D Rl bd Fn own cc nL rt nm d (MF t) pc (lvF t) st (some (Sum.inl t)) X) → (∀ r, X (Sum.inr r) = K (f2 r)) → ∀ t, zs_Sim D Rl bd Fn own cc nL rt nm d (MF t) pc (lvF t) st (body t) X) : zs_Sim D Rl bd Fn own cc nL rt nm d (MF t0) pc (lvF t0) st ((zs_loop N body t0).bind (fun x => some (f2 x))) K :=
  zs_while (f := fun x => some (f2 x)) MF lvF N t0 (fun X h1 h2 t => hb X h1 (fun r => h2 r) t)
theorem zs_dsT {x : Int32} {td : Nat} : ∀ (cs : List (Int32 × Nat)), (∃ q ∈ cs, x = q.1 ∧ zs_dst x cs td = q.2) ∨ ((∀ q ∈ cs, x ≠ q.1) ∧ zs_dst x cs td = td)
  | [] => Or.inr ⟨fun _ h => (by cases h), rfl⟩
  | q :: cs => by
    by_cases h : x = q.1
    · exact Or.inl ⟨q, List.mem_cons_self, h, by show (if x = q.1 then q.2 else _) = _; rw [if_pos h]⟩
    · have e : zs_dst x (q :: cs) td = zs_dst x cs td := by show (if x = q.1 then q.2 else _) = _; rw [if_neg h]
      rcases zs_dsT (x := x) (td := td) cs with ⟨q', h1, h2, h3⟩ | ⟨h1, h2⟩
      · exact Or.inl ⟨q', List.mem_cons_of_mem _ h1, h2, e.trans h3⟩
      · exact Or.inr ⟨fun z hz => (List.mem_cons.mp hz).elim (fun y => by rw [y]; exact h) (h1 z), e.trans h2⟩
theorem zs_tsw {dflt lo hi : Int} {offs : Array Int} {len : Nat} {x : Int32} (ct : List (Int32 × Nat)) (td : Nat) (hd : decode cc pc = .ok (.tableswitch dflt lo hi offs, len)) (hok : zs_tok pc dflt lo hi offs ct td = true) (k : zs_Sim D Rl bd Fn own cc nL rt nm d M (zs_dst x ct td) lv st o K) :
    zs_Sim D Rl bd Fn own cc nL rt nm d M pc lv (.int x :: st) o K := by
  simp only [zs_tok, Bool.and_eq_true, decide_eq_true_eq, List.all_eq_true, List.mem_range, Bool.or_eq_true, List.any_eq_true] at hok
  obtain ⟨⟨hc, hr⟩, hdf⟩ := hok
  rcases zs_dsT (x := x) (td := td) ct with ⟨q, h1, h2, h3⟩ | ⟨h1, h2⟩
  · rw [h3] at k
    obtain ⟨⟨hlo, hhi⟩, hof⟩ := hc q h1
    obtain ⟨off, ho, ht⟩ := Option.map_eq_some_iff.mp hof
    exact zs_map (fun _ _ _ _ _ _ _ _ _ _ _ _ _ _ _ ls hx hb _ _ h kk => lv_tableIn hx hb hd (off := off) (by rw [h2]; exact Int.not_lt.mpr hlo) (by rw [h2]; exact Int.not_lt.mpr hhi) (by rw [h2]; exact ho) ht (kk ls h)) k
  · rw [h2] at k
    by_cases hin : x.toInt < lo ∨ hi < x.toInt
    · exact zs_map (fun _ _ _ _ _ _ _ _ _ _ _ _ _ _ _ ls hx hb _ _ h kk => lv_tableOut hx hb hd hin hdf (kk ls h)) k
    · have hn1 : ¬ x.toInt < lo := fun z => hin (Or.inl z)
      have hn2 : ¬ hi < x.toInt := fun z => hin (Or.inr z)
      have hi2 := hr (x.toInt - lo).toNat (by omega)
      rcases hi2 with ⟨q, hq, e⟩ | e
      · refine absurd (Int32.toInt_inj.mp ?_) (h1 q hq)
        rw [e]
        omega
      · obtain ⟨off, ho, ht⟩ := Option.map_eq_some_iff.mp e
        exact zs_map (fun _ _ _ _ _ _ _ _ _ _ _ _ _ _ _ ls hx hb _ _ h kk => lv_tableIn hx hb hd (off := off) hn1 hn2 ho ht (kk ls h)) k
theorem zs_case {x v : Int32} {t td : Nat} {ct : List (Int32 × Nat)} {o1 o2 : Option β} (k1 : zs_Sim D Rl bd Fn own cc nL rt nm d M t lv st o1 K) (k2 : zs_Sim D Rl bd Fn own cc nL rt nm d M (zs_dst x ct td) lv st o2 K) : zs_Sim D Rl bd Fn own cc nL rt nm d M (zs_dst x ((v, t) :: ct) td) lv st (if x = v then o1 else o2) K := by
  by_cases h : x = v
  · rw [if_pos h, show zs_dst x ((v, t) :: ct) td = t from if_pos h]
    exact k1
  · rw [if_neg h, show zs_dst x ((v, t) :: ct) td = zs_dst x ct td from if_neg h]
    exact k2
theorem zs_dflt {x : Int32} {td : Nat} (k : zs_Sim D Rl bd Fn own cc nL rt nm d M td lv st o K) : zs_Sim D Rl bd Fn own cc nL rt nm d M (zs_dst x [] td) lv st o K := k
theorem zs_callVrI {y : MethodName} {cc' : ByteArray} {nL' d' n i ci : Nat} {rt' : Option FieldType} {b : Nat} {C : String} {T : u_T} {N : Nat} {ty : Nat → FieldType} {st0 : List Value} (As rest : List Value) {g : Option Int32} {f : Int32 → Option β}
    (hC : zs_Con D Rl bd zs_eI y cc' nL' rt' d' (.ref b :: As) M (g.map fun x => (x, M))) (hm : zs_mV C y cc' nL' rt' n) (hl : Cond.methodLink own i y ∈ lw_all) (hc : zs_cls ci C T N ty) (hb : ∀ h, Rl M h → ∃ k f, h.2.2 b = some (ci, k, f)) (hd : decode cc pc = .ok (.invokevirtual i, 3)) (hst : st0 = As.reverse ++ .ref b :: rest) (hn : As.length = n) (hdd : d' + 1 ≤ d) (hw : (rest.map fun v => v.category).sum ≤ 8) (k : ∀ r : Int32, zs_Sim D Rl bd Fn own cc nL rt nm d M (pc + 3) lv (.int r :: rest) (f r) K) : zs_Sim D Rl bd Fn own cc nL rt nm d M pc lv st0 (g.bind f) K :=
  zs_callVr As rest hC hm hl hc hb hd hst hn hdd hw k
theorem zs_callVwI {y : MethodName} {cc' : ByteArray} {nL' d' n i ci : Nat} {rt' : Option FieldType} {b : Nat} {C : String} {T : u_T} {N : Nat} {ty : Nat → FieldType} {st0 : List Value} (As rest : List Value) {g : Option (Int32 × σ)} {f : Int32 × σ → Option β}
    (hC : zs_Con D Rl bd zs_eI y cc' nL' rt' d' (.ref b :: As) M g) (hm : zs_mV C y cc' nL' rt' n) (hl : Cond.methodLink own i y ∈ lw_all) (hc : zs_cls ci C T N ty) (hb : ∀ h, Rl M h → ∃ k f, h.2.2 b = some (ci, k, f)) (hd : decode cc pc = .ok (.invokevirtual i, 3)) (hst : st0 = As.reverse ++ .ref b :: rest) (hn : As.length = n) (hdd : d' + 1 ≤ d) (hw : (rest.map fun v => v.category).sum ≤ 8) (k : ∀ z : Int32 × σ, zs_Sim D Rl bd Fn own cc nL rt nm d z.2 (pc + 3) lv (.int z.1 :: rest) (f z) K) : zs_Sim D Rl bd Fn own cc nL rt nm d M pc lv st0 (g.bind f) K :=
  zs_callV As rest hC hm hl hc hb hd hst hn hdd hw (fun r M1 => k (r, M1))
theorem zs_callSrI {y : MethodName} {cc' : ByteArray} {nL' d' n i : Nat} {rt' : Option FieldType} {st0 : List Value} (As rest : List Value) {g : Option Int32} {f : Int32 → Option β}
    (hC : zs_Con D Rl bd zs_eI y cc' nL' rt' d' (As) M (g.map fun x => (x, M))) (hm : zs_mS y cc' nL' rt' n) (hl : Cond.methodLink own i y ∈ lw_all) (hd : decode cc pc = .ok (.invokestatic i, 3)) (hst : st0 = As.reverse ++ rest) (hn : As.length = n) (hdd : d' + 1 ≤ d) (hw : (rest.map fun v => v.category).sum ≤ 8) (k : ∀ r : Int32, zs_Sim D Rl bd Fn own cc nL rt nm d M (pc + 3) lv (.int r :: rest) (f r) K) : zs_Sim D Rl bd Fn own cc nL rt nm d M pc lv st0 (g.bind f) K :=
  zs_callSr As rest hC hm hl hd hst hn hdd hw k
theorem zs_callSwI {y : MethodName} {cc' : ByteArray} {nL' d' n i : Nat} {rt' : Option FieldType} {st0 : List Value} (As rest : List Value) {g : Option (Int32 × σ)} {f : Int32 × σ → Option β}
    (hC : zs_Con D Rl bd zs_eI y cc' nL' rt' d' (As) M g) (hm : zs_mS y cc' nL' rt' n) (hl : Cond.methodLink own i y ∈ lw_all) (hd : decode cc pc = .ok (.invokestatic i, 3)) (hst : st0 = As.reverse ++ rest) (hn : As.length = n) (hdd : d' + 1 ≤ d) (hw : (rest.map fun v => v.category).sum ≤ 8) (k : ∀ z : Int32 × σ, zs_Sim D Rl bd Fn own cc nL rt nm d z.2 (pc + 3) lv (.int z.1 :: rest) (f z) K) : zs_Sim D Rl bd Fn own cc nL rt nm d M pc lv st0 (g.bind f) K :=
  zs_callS As rest hC hm hl hd hst hn hdd hw (fun r M1 => k (r, M1))
theorem zs_callVrB {y : MethodName} {cc' : ByteArray} {nL' d' n i ci : Nat} {rt' : Option FieldType} {b : Nat} {C : String} {T : u_T} {N : Nat} {ty : Nat → FieldType} {st0 : List Value} (As rest : List Value) {g : Option Bool} {f : Bool → Option β}
    (hC : zs_Con D Rl bd zs_eB y cc' nL' rt' d' (.ref b :: As) M (g.map fun x => (x, M))) (hm : zs_mV C y cc' nL' rt' n) (hl : Cond.methodLink own i y ∈ lw_all) (hc : zs_cls ci C T N ty) (hb : ∀ h, Rl M h → ∃ k f, h.2.2 b = some (ci, k, f)) (hd : decode cc pc = .ok (.invokevirtual i, 3)) (hst : st0 = As.reverse ++ .ref b :: rest) (hn : As.length = n) (hdd : d' + 1 ≤ d) (hw : (rest.map fun v => v.category).sum ≤ 8) (k : ∀ r : Bool, zs_Sim D Rl bd Fn own cc nL rt nm d M (pc + 3) lv (.int (zs_b r) :: rest) (f r) K) : zs_Sim D Rl bd Fn own cc nL rt nm d M pc lv st0 (g.bind f) K :=
  zs_callVr As rest hC hm hl hc hb hd hst hn hdd hw k
theorem zs_callVwB {y : MethodName} {cc' : ByteArray} {nL' d' n i ci : Nat} {rt' : Option FieldType} {b : Nat} {C : String} {T : u_T} {N : Nat} {ty : Nat → FieldType} {st0 : List Value} (As rest : List Value) {g : Option (Bool × σ)} {f : Bool × σ → Option β}
    (hC : zs_Con D Rl bd zs_eB y cc' nL' rt' d' (.ref b :: As) M g) (hm : zs_mV C y cc' nL' rt' n) (hl : Cond.methodLink own i y ∈ lw_all) (hc : zs_cls ci C T N ty) (hb : ∀ h, Rl M h → ∃ k f, h.2.2 b = some (ci, k, f)) (hd : decode cc pc = .ok (.invokevirtual i, 3)) (hst : st0 = As.reverse ++ .ref b :: rest) (hn : As.length = n) (hdd : d' + 1 ≤ d) (hw : (rest.map fun v => v.category).sum ≤ 8) (k : ∀ z : Bool × σ, zs_Sim D Rl bd Fn own cc nL rt nm d z.2 (pc + 3) lv (.int (zs_b z.1) :: rest) (f z) K) : zs_Sim D Rl bd Fn own cc nL rt nm d M pc lv st0 (g.bind f) K :=
  zs_callV As rest hC hm hl hc hb hd hst hn hdd hw (fun r M1 => k (r, M1))
theorem zs_callSrB {y : MethodName} {cc' : ByteArray} {nL' d' n i : Nat} {rt' : Option FieldType} {st0 : List Value} (As rest : List Value) {g : Option Bool} {f : Bool → Option β}
    (hC : zs_Con D Rl bd zs_eB y cc' nL' rt' d' (As) M (g.map fun x => (x, M))) (hm : zs_mS y cc' nL' rt' n) (hl : Cond.methodLink own i y ∈ lw_all) (hd : decode cc pc = .ok (.invokestatic i, 3)) (hst : st0 = As.reverse ++ rest) (hn : As.length = n) (hdd : d' + 1 ≤ d) (hw : (rest.map fun v => v.category).sum ≤ 8) (k : ∀ r : Bool, zs_Sim D Rl bd Fn own cc nL rt nm d M (pc + 3) lv (.int (zs_b r) :: rest) (f r) K) : zs_Sim D Rl bd Fn own cc nL rt nm d M pc lv st0 (g.bind f) K :=
  zs_callSr As rest hC hm hl hd hst hn hdd hw k
theorem zs_callSwB {y : MethodName} {cc' : ByteArray} {nL' d' n i : Nat} {rt' : Option FieldType} {st0 : List Value} (As rest : List Value) {g : Option (Bool × σ)} {f : Bool × σ → Option β}
    (hC : zs_Con D Rl bd zs_eB y cc' nL' rt' d' (As) M g) (hm : zs_mS y cc' nL' rt' n) (hl : Cond.methodLink own i y ∈ lw_all) (hd : decode cc pc = .ok (.invokestatic i, 3)) (hst : st0 = As.reverse ++ rest) (hn : As.length = n) (hdd : d' + 1 ≤ d) (hw : (rest.map fun v => v.category).sum ≤ 8) (k : ∀ z : Bool × σ, zs_Sim D Rl bd Fn own cc nL rt nm d z.2 (pc + 3) lv (.int (zs_b z.1) :: rest) (f z) K) : zs_Sim D Rl bd Fn own cc nL rt nm d M pc lv st0 (g.bind f) K :=
  zs_callS As rest hC hm hl hd hst hn hdd hw (fun r M1 => k (r, M1))
theorem zs_callVrL {y : MethodName} {cc' : ByteArray} {nL' d' n i ci : Nat} {rt' : Option FieldType} {b : Nat} {C : String} {T : u_T} {N : Nat} {ty : Nat → FieldType} {st0 : List Value} (As rest : List Value) {g : Option Int64} {f : Int64 → Option β}
    (hC : zs_Con D Rl bd zs_eL y cc' nL' rt' d' (.ref b :: As) M (g.map fun x => (x, M))) (hm : zs_mV C y cc' nL' rt' n) (hl : Cond.methodLink own i y ∈ lw_all) (hc : zs_cls ci C T N ty) (hb : ∀ h, Rl M h → ∃ k f, h.2.2 b = some (ci, k, f)) (hd : decode cc pc = .ok (.invokevirtual i, 3)) (hst : st0 = As.reverse ++ .ref b :: rest) (hn : As.length = n) (hdd : d' + 1 ≤ d) (hw : (rest.map fun v => v.category).sum ≤ 8) (k : ∀ r : Int64, zs_Sim D Rl bd Fn own cc nL rt nm d M (pc + 3) lv (.long r :: rest) (f r) K) : zs_Sim D Rl bd Fn own cc nL rt nm d M pc lv st0 (g.bind f) K :=
  zs_callVr As rest hC hm hl hc hb hd hst hn hdd hw k
theorem zs_callVwL {y : MethodName} {cc' : ByteArray} {nL' d' n i ci : Nat} {rt' : Option FieldType} {b : Nat} {C : String} {T : u_T} {N : Nat} {ty : Nat → FieldType} {st0 : List Value} (As rest : List Value) {g : Option (Int64 × σ)} {f : Int64 × σ → Option β}
    (hC : zs_Con D Rl bd zs_eL y cc' nL' rt' d' (.ref b :: As) M g) (hm : zs_mV C y cc' nL' rt' n) (hl : Cond.methodLink own i y ∈ lw_all) (hc : zs_cls ci C T N ty) (hb : ∀ h, Rl M h → ∃ k f, h.2.2 b = some (ci, k, f)) (hd : decode cc pc = .ok (.invokevirtual i, 3)) (hst : st0 = As.reverse ++ .ref b :: rest) (hn : As.length = n) (hdd : d' + 1 ≤ d) (hw : (rest.map fun v => v.category).sum ≤ 8) (k : ∀ z : Int64 × σ, zs_Sim D Rl bd Fn own cc nL rt nm d z.2 (pc + 3) lv (.long z.1 :: rest) (f z) K) : zs_Sim D Rl bd Fn own cc nL rt nm d M pc lv st0 (g.bind f) K :=
  zs_callV As rest hC hm hl hc hb hd hst hn hdd hw (fun r M1 => k (r, M1))
theorem zs_callSrL {y : MethodName} {cc' : ByteArray} {nL' d' n i : Nat} {rt' : Option FieldType} {st0 : List Value} (As rest : List Value) {g : Option Int64} {f : Int64 → Option β}
    (hC : zs_Con D Rl bd zs_eL y cc' nL' rt' d' (As) M (g.map fun x => (x, M))) (hm : zs_mS y cc' nL' rt' n) (hl : Cond.methodLink own i y ∈ lw_all) (hd : decode cc pc = .ok (.invokestatic i, 3)) (hst : st0 = As.reverse ++ rest) (hn : As.length = n) (hdd : d' + 1 ≤ d) (hw : (rest.map fun v => v.category).sum ≤ 8) (k : ∀ r : Int64, zs_Sim D Rl bd Fn own cc nL rt nm d M (pc + 3) lv (.long r :: rest) (f r) K) : zs_Sim D Rl bd Fn own cc nL rt nm d M pc lv st0 (g.bind f) K :=
  zs_callSr As rest hC hm hl hd hst hn hdd hw k
theorem zs_callSwL {y : MethodName} {cc' : ByteArray} {nL' d' n i : Nat} {rt' : Option FieldType} {st0 : List Value} (As rest : List Value) {g : Option (Int64 × σ)} {f : Int64 × σ → Option β}
    (hC : zs_Con D Rl bd zs_eL y cc' nL' rt' d' (As) M g) (hm : zs_mS y cc' nL' rt' n) (hl : Cond.methodLink own i y ∈ lw_all) (hd : decode cc pc = .ok (.invokestatic i, 3)) (hst : st0 = As.reverse ++ rest) (hn : As.length = n) (hdd : d' + 1 ≤ d) (hw : (rest.map fun v => v.category).sum ≤ 8) (k : ∀ z : Int64 × σ, zs_Sim D Rl bd Fn own cc nL rt nm d z.2 (pc + 3) lv (.long z.1 :: rest) (f z) K) : zs_Sim D Rl bd Fn own cc nL rt nm d M pc lv st0 (g.bind f) K :=
  zs_callS As rest hC hm hl hd hst hn hdd hw (fun r M1 => k (r, M1))
theorem zs_callVrR {y : MethodName} {cc' : ByteArray} {nL' d' n i ci : Nat} {rt' : Option FieldType} {b : Nat} {C : String} {T : u_T} {N : Nat} {ty : Nat → FieldType} {st0 : List Value} (As rest : List Value) {g : Option Nat} {f : Nat → Option β}
    (hC : zs_Con D Rl bd zs_eR y cc' nL' rt' d' (.ref b :: As) M (g.map fun x => (x, M))) (hm : zs_mV C y cc' nL' rt' n) (hl : Cond.methodLink own i y ∈ lw_all) (hc : zs_cls ci C T N ty) (hb : ∀ h, Rl M h → ∃ k f, h.2.2 b = some (ci, k, f)) (hd : decode cc pc = .ok (.invokevirtual i, 3)) (hst : st0 = As.reverse ++ .ref b :: rest) (hn : As.length = n) (hdd : d' + 1 ≤ d) (hw : (rest.map fun v => v.category).sum ≤ 8) (k : ∀ r : Nat, zs_Sim D Rl bd Fn own cc nL rt nm d M (pc + 3) lv (.ref r :: rest) (f r) K) : zs_Sim D Rl bd Fn own cc nL rt nm d M pc lv st0 (g.bind f) K :=
  zs_callVr As rest hC hm hl hc hb hd hst hn hdd hw k
theorem zs_callVwR {y : MethodName} {cc' : ByteArray} {nL' d' n i ci : Nat} {rt' : Option FieldType} {b : Nat} {C : String} {T : u_T} {N : Nat} {ty : Nat → FieldType} {st0 : List Value} (As rest : List Value) {g : Option (Nat × σ)} {f : Nat × σ → Option β}
    (hC : zs_Con D Rl bd zs_eR y cc' nL' rt' d' (.ref b :: As) M g) (hm : zs_mV C y cc' nL' rt' n) (hl : Cond.methodLink own i y ∈ lw_all) (hc : zs_cls ci C T N ty) (hb : ∀ h, Rl M h → ∃ k f, h.2.2 b = some (ci, k, f)) (hd : decode cc pc = .ok (.invokevirtual i, 3)) (hst : st0 = As.reverse ++ .ref b :: rest) (hn : As.length = n) (hdd : d' + 1 ≤ d) (hw : (rest.map fun v => v.category).sum ≤ 8) (k : ∀ z : Nat × σ, zs_Sim D Rl bd Fn own cc nL rt nm d z.2 (pc + 3) lv (.ref z.1 :: rest) (f z) K) : zs_Sim D Rl bd Fn own cc nL rt nm d M pc lv st0 (g.bind f) K :=
  zs_callV As rest hC hm hl hc hb hd hst hn hdd hw (fun r M1 => k (r, M1))
theorem zs_callSrR {y : MethodName} {cc' : ByteArray} {nL' d' n i : Nat} {rt' : Option FieldType} {st0 : List Value} (As rest : List Value) {g : Option Nat} {f : Nat → Option β}
    (hC : zs_Con D Rl bd zs_eR y cc' nL' rt' d' (As) M (g.map fun x => (x, M))) (hm : zs_mS y cc' nL' rt' n) (hl : Cond.methodLink own i y ∈ lw_all) (hd : decode cc pc = .ok (.invokestatic i, 3)) (hst : st0 = As.reverse ++ rest) (hn : As.length = n) (hdd : d' + 1 ≤ d) (hw : (rest.map fun v => v.category).sum ≤ 8) (k : ∀ r : Nat, zs_Sim D Rl bd Fn own cc nL rt nm d M (pc + 3) lv (.ref r :: rest) (f r) K) : zs_Sim D Rl bd Fn own cc nL rt nm d M pc lv st0 (g.bind f) K :=
  zs_callSr As rest hC hm hl hd hst hn hdd hw k
theorem zs_callSwR {y : MethodName} {cc' : ByteArray} {nL' d' n i : Nat} {rt' : Option FieldType} {st0 : List Value} (As rest : List Value) {g : Option (Nat × σ)} {f : Nat × σ → Option β}
    (hC : zs_Con D Rl bd zs_eR y cc' nL' rt' d' (As) M g) (hm : zs_mS y cc' nL' rt' n) (hl : Cond.methodLink own i y ∈ lw_all) (hd : decode cc pc = .ok (.invokestatic i, 3)) (hst : st0 = As.reverse ++ rest) (hn : As.length = n) (hdd : d' + 1 ≤ d) (hw : (rest.map fun v => v.category).sum ≤ 8) (k : ∀ z : Nat × σ, zs_Sim D Rl bd Fn own cc nL rt nm d z.2 (pc + 3) lv (.ref z.1 :: rest) (f z) K) : zs_Sim D Rl bd Fn own cc nL rt nm d M pc lv st0 (g.bind f) K :=
  zs_callS As rest hC hm hl hd hst hn hdd hw (fun r M1 => k (r, M1))
end ZE
