/-! THE READER's state: the component's numbers, what else lies in the heap, the parser's text, what room is left -/
set_option maxRecDepth 100000
abbrev ps_S : Type := cs_S × zs_AH × Value × Nat × Nat
def ps_W (W : cs_W) (M : ps_S) : cs_W := (W.1, W.2.1, M.2.2.1)
def ps_R (W : cs_W) (c : Nat) : ps_S → zs_AH → Prop := fun M h => M.2.1.1 ≤ c ∧ c + 561 ≤ M.2.1.2.1 ∧ h = cs_h (ps_W W M) M.2.1 c M.1
def ps_bd : ps_S → Nat × Nat := fun M => M.2.2.2
def ps_sF (M : ps_S) (o k : Nat) (x : Int32) : ps_S := (cs_sF M.1 o k x, M.2)
def ps_sA (M : ps_S) (o k : Nat) (i x : Int32) : ps_S := (cs_sA M.1 o k i x, M.2)
def ps_at (c : Nat) (M : ps_S) (a : Nat) : Option zs_HC := if c ≤ a ∧ a < c + 561 ∧ ¬ (c + 10 ≤ a ∧ a < c + 20) then none else M.2.1.2.2 a
def ps_up (M : ps_S) (a : Nat) (x : zs_HC) : ps_S := (M.1, zs_up M.2.1 a x, M.2.2)
def ps_ext (M : ps_S) (x : zs_HC) (sl : Nat) : ps_S := (M.1, zs_ext M.2.1 x, M.2.2.1, M.2.2.2.1 - 1, M.2.2.2.2 - sl)
def ps_mext (M : ps_S) (n k : Nat) : ps_S := (M.1, zs_mext M.2.1 n k, M.2.2.1, M.2.2.2.1 - (1 + n), M.2.2.2.2 - (n + n * k))
theorem ps_cellA {W : cs_W} {h : zs_AH} {c : Nat} {M : ps_S} {j o k t n : Nat} (p : cs_pa j o k t n) (hR : ps_R W c M h) : h.2.2 (c + j) = some (t, n, fun i => .int (M.1.2 o k i)) := by
  obtain ⟨p1, p2, p3, p4⟩ := p
  rw [hR.2.2, cs_at j p1]
  unfold cs_cell
  rw [p2]
  show some (cs_tg o k, cs_ln o k, _) = _
  rw [p3, p4]
theorem ps_cellO {W : cs_W} {h : zs_AH} {c : Nat} {M : ps_S} {j o : Nat} (p : cs_po j o) (hR : ps_R W c M h) : h.2.2 (c + j) = some (cs_cl o, cs_nf o, fun k => if cs_sc o k = true then .int (M.1.1 o k) else cs_cv (ps_W W M) c o k) := by
  obtain ⟨p1, p2⟩ := p
  rw [hR.2.2, cs_at j p1]
  unfold cs_cell
  rw [cs_obkey j p1.1 (by rw [p2]; rfl), p2]
theorem ps_words {W : cs_W} {h : zs_AH} {c : Nat} {M : ps_S} (hR : ps_R W c M h) : h.2.2 (c + 3) = some (72, 22, fun i => .ref (W.1 i)) := by
  rw [hR.2.2, cs_at 3 ⟨by decide, by decide⟩]
  rfl
theorem ps_stA {W : cs_W} {h : zs_AH} {c : Nat} {M : ps_S} {j o k t n : Nat} {i x : Int32} (p : cs_pa j o k t n) (hR : ps_R W c M h) : h.2.2 (c + j) = some (t, n, fun q => .int (M.1.2 o k q)) ∧ h.1 ≤ c + j ∧ ps_R W c (ps_sA M o k i x) (zs_up h (c + j) (t, n, fun q => .int (upd (M.1.2 o k) i.toNatClampNeg x q))) := by
  have e := ps_cellA p hR
  obtain ⟨p1, p2, p3, p4⟩ := p
  obtain ⟨r1, r2, r3⟩ := hR
  refine ⟨e, by rw [r3]; exact Nat.le_trans r1 (Nat.le_add_right _ _), r1, r2, ?_⟩
  rw [r3]
  refine cs_up j p1 _ ?_ (fun i hi hne => cs_cell_sA hi p1.1 p2 hne)
  unfold cs_cell
  rw [p2]
  show _ = (cs_tg o k, cs_ln o k, _)
  rw [p3, p4]
  refine Prod.ext rfl (Prod.ext rfl (funext fun q => ?_))
  show _ = Value.int ((if o = o ∧ k = k then upd (M.1.2 o k) i.toNatClampNeg x else M.1.2 o k) q)
  rw [if_pos ⟨rfl, rfl⟩]
theorem ps_stF {W : cs_W} {h : zs_AH} {c : Nat} {M : ps_S} {j o k : Nat} {x : Int32} (p : cs_po j o) (hsc : cs_sc o k = true) (hR : ps_R W c M h) : h.2.2 (c + j) = some (cs_cl o, cs_nf o, fun k => if cs_sc o k = true then .int (M.1.1 o k) else cs_cv (ps_W W M) c o k) ∧ h.1 ≤ c + j ∧ ps_R W c (ps_sF M o k x) (zs_up h (c + j) (cs_cl o, cs_nf o, updV (fun k => if cs_sc o k = true then .int (M.1.1 o k) else cs_cv (ps_W W M) c o k) k (.int x))) := by
  have e := ps_cellO p hR
  obtain ⟨p1, p2⟩ := p
  obtain ⟨r1, r2, r3⟩ := hR
  refine ⟨e, by rw [r3]; exact Nat.le_trans r1 (Nat.le_add_right _ _), r1, r2, ?_⟩
  rw [r3]
  refine cs_up j p1 _ ?_ (fun i hi hne => cs_cell_sF hi p1.1 p2 hne)
  unfold cs_cell
  rw [cs_obkey j p1.1 (by rw [p2]; rfl), p2]
  refine Prod.ext rfl (Prod.ext rfl (funext fun q => ?_))
  by_cases hq : q = k
  · subst hq
    simp [updV, hsc, ps_sF, cs_sF]
  · simp [updV, hq, ps_sF, cs_sF, ps_W]
theorem ps_dyn {W : cs_W} {h : zs_AH} {c : Nat} {M : ps_S} {a : Nat} {x : zs_HC} (hR : ps_R W c M h) (e : ps_at c M a = some x) : h.2.2 a = some x := by
  rw [hR.2.2]
  unfold ps_at at e
  show (if c ≤ a ∧ a < c + 561 ∧ ¬ (c + 10 ≤ a ∧ a < c + 20) then some (cs_cell (ps_W W M) c M.1 (a - c)) else M.2.1.2.2 a) = _
  by_cases hq : c ≤ a ∧ a < c + 561 ∧ ¬ (c + 10 ≤ a ∧ a < c + 20)
  · rw [if_pos hq] at e; cases e
  · rw [if_neg hq] at e ⊢; exact e
theorem ps_dput {W : cs_W} {h : zs_AH} {c : Nat} {M : ps_S} {a : Nat} {y : zs_HC} (x : zs_HC) (hR : ps_R W c M h) (e : ps_at c M a = some y) : ps_R W c (ps_up M a x) (zs_up h a x) := by
  obtain ⟨r1, r2, r3⟩ := hR
  refine ⟨r1, r2, ?_⟩
  rw [r3]
  unfold ps_at at e
  have hq : ¬ (c ≤ a ∧ a < c + 561 ∧ ¬ (c + 10 ≤ a ∧ a < c + 20)) := fun z => by rw [if_pos z] at e; cases e
  refine Prod.ext rfl (Prod.ext rfl (funext fun q => ?_))
  show (if q = a then some x else if c ≤ q ∧ q < c + 561 ∧ ¬ (c + 10 ≤ q ∧ q < c + 20) then some (cs_cell (ps_W W M) c M.1 (q - c)) else M.2.1.2.2 q) = if c ≤ q ∧ q < c + 561 ∧ ¬ (c + 10 ≤ q ∧ q < c + 20) then some (cs_cell (ps_W W M) c M.1 (q - c)) else if q = a then some x else M.2.1.2.2 q
  by_cases h1 : q = a
  · subst h1
    rw [if_pos rfl, if_neg hq, if_pos rfl]
  · rw [if_neg h1, if_neg h1]
theorem ps_dext {W : cs_W} {h : zs_AH} {c : Nat} {M : ps_S} (x : zs_HC) (sl : Nat) (hR : ps_R W c M h) : h.2.1 = M.2.1.2.1 ∧ ps_R W c (ps_ext M x sl) (zs_ext h x) := by
  obtain ⟨r1, r2, r3⟩ := hR
  refine ⟨by rw [r3]; rfl, r1, Nat.le_trans r2 (Nat.le_succ _), ?_⟩
  rw [r3]
  refine Prod.ext rfl (Prod.ext rfl (funext fun q => ?_))
  show (if q = M.2.1.2.1 then some x else if c ≤ q ∧ q < c + 561 ∧ ¬ (c + 10 ≤ q ∧ q < c + 20) then some (cs_cell (ps_W W M) c M.1 (q - c)) else M.2.1.2.2 q) = if c ≤ q ∧ q < c + 561 ∧ ¬ (c + 10 ≤ q ∧ q < c + 20) then some (cs_cell (ps_W W M) c M.1 (q - c)) else if q = M.2.1.2.1 then some x else M.2.1.2.2 q
  by_cases h1 : q = M.2.1.2.1
  · rw [if_pos h1, if_neg (by omega), if_pos h1]
  · rw [if_neg h1, if_neg h1]
theorem ps_dmext {W : cs_W} {h : zs_AH} {c : Nat} {M : ps_S} (n k : Nat) (hR : ps_R W c M h) : h.2.1 = M.2.1.2.1 ∧ ps_R W c (ps_mext M n k) (zs_mext h n k) := by
  obtain ⟨r1, r2, r3⟩ := hR
  refine ⟨by rw [r3]; rfl, r1, by show c + 561 ≤ M.2.1.2.1 + 1 + n; omega, ?_⟩
  rw [r3]
  refine Prod.ext rfl (Prod.ext rfl (funext fun q => ?_))
  show (if q = M.2.1.2.1 then _ else if M.2.1.2.1 < q ∧ q < M.2.1.2.1 + 1 + n then _ else if c ≤ q ∧ q < c + 561 ∧ ¬ (c + 10 ≤ q ∧ q < c + 20) then some (cs_cell (ps_W W M) c M.1 (q - c)) else M.2.1.2.2 q) = if c ≤ q ∧ q < c + 561 ∧ ¬ (c + 10 ≤ q ∧ q < c + 20) then some (cs_cell (ps_W W M) c M.1 (q - c)) else if q = M.2.1.2.1 then _ else if M.2.1.2.1 < q ∧ q < M.2.1.2.1 + 1 + n then _ else M.2.1.2.2 q
  by_cases h1 : c ≤ q ∧ q < c + 561 ∧ ¬ (c + 10 ≤ q ∧ q < c + 20)
  · rw [if_pos h1, if_pos h1, if_neg (by omega), if_neg (by omega)]
  · rw [if_neg h1, if_neg h1]
    rfl
/-! what is read of and written to a cell that was made -/
def ps_gI (c : Nat) (M : ps_S) (a ci N k : Nat) : Option Int32 := match ps_at c M a with
  | some (t, n, F) => if t = ci ∧ n = N then (match F k with | .int x => some x | _ => none) else none
  | none => none
def ps_gR (c : Nat) (M : ps_S) (a ci N k : Nat) : Option Nat := match ps_at c M a with
  | some (t, n, F) => if t = ci ∧ n = N then (match F k with | .ref x => some x | _ => none) else none
  | none => none
def ps_pV (c : Nat) (M : ps_S) (a ci N k : Nat) (v : Value) : Option ps_S := match ps_at c M a with
  | some (t, n, F) => if t = ci ∧ n = N ∧ M.2.1.1 ≤ a then some (ps_up M a (ci, N, updV F k v)) else none
  | none => none
def ps_aI (c : Nat) (M : ps_S) (a t : Nat) (i : Int32) : Option Int32 := match ps_at c M a with
  | some (t', n, F) => if t' = 64 + t ∧ zs_in i n = true then (match F i.toNatClampNeg with | .int x => some x | _ => none) else none
  | none => none
def ps_aR (c : Nat) (M : ps_S) (a t : Nat) (i : Int32) : Option Nat := match ps_at c M a with
  | some (t', n, F) => if t' = 64 + t ∧ zs_in i n = true then (match F i.toNatClampNeg with | .ref x => some x | _ => none) else none
  | none => none
def ps_pA (c : Nat) (M : ps_S) (a t : Nat) (i : Int32) (v : Value) : Option ps_S := match ps_at c M a with
  | some (t', n, F) => if t' = 64 + t ∧ zs_in i n = true ∧ M.2.1.1 ≤ a ∧ n < 100000 then some (ps_up M a (64 + t, n, updV F i.toNatClampNeg v)) else none
  | none => none
def ps_ln (c : Nat) (M : ps_S) (a t : Nat) : Option Int32 := match ps_at c M a with
  | some (t', n, _) => if t' = 64 + t then some (nI n) else none
  | none => none
def ps_ck (c : Nat) (M : ps_S) (a ci : Nat) : Option Unit := match ps_at c M a with
  | some (t, _, _) => if t = ci then some () else none
  | none => none
def ps_nw (M : ps_S) (x : zs_HC) (sl : Nat) : Option (Nat × ps_S) := if 1 ≤ M.2.2.2.1 ∧ sl ≤ M.2.2.2.2 then some (M.2.1.2.1, ps_ext M x sl) else none
def ps_na (M : ps_S) (t : Nat) (v : Value) (z : Int32) : Option (Nat × ps_S) := if ¬ z < 0 ∧ z.toNatClampNeg ≤ 100000 then ps_nw M (64 + t, z.toNatClampNeg, fun _ => v) z.toNatClampNeg else none
def ps_mn (M : ps_S) (n k : Nat) : Option (Nat × ps_S) := if 1 + n ≤ M.2.2.2.1 ∧ n + n * k ≤ M.2.2.2.2 then some (M.2.1.2.1, ps_mext M n k) else none
def zs_vb (v : Value) : Bool := match v with | .int x => fits .byte (.int x) | _ => false
def zs_vn (F : Nat → Value) (n : Nat) : Bool := (List.range n).all (fun j => zs_vb (F j))
def ps_cb (c : Nat) (M : ps_S) (a0 a : Nat) (z : Int32) : Option ps_S := match ps_at c M a0, ps_at c M a with
  | some (t0, n0, F), some (t1, n1, G) => if t0 = 65 ∧ t1 = 65 ∧ ¬ z < 0 ∧ z.toNatClampNeg ≤ n0 ∧ z.toNatClampNeg ≤ n1 ∧ M.2.1.1 ≤ a ∧ zs_vn F z.toNatClampNeg = true then some (ps_up M a (65, n1, va_cpy F G 0 0 z.toNatClampNeg)) else none
  | _, _ => none
theorem zs_vn_at {F : Nat → Value} {n : Nat} (h : zs_vn F n = true) {j : Nat} (hj : j < n) : ∃ x, F j = .int x ∧ fits .byte (.int x) = true := by
  have h1 := List.all_eq_true.mp h j (List.mem_range.mpr hj)
  cases e : F j with
  | int x => rw [e] at h1; exact ⟨x, rfl, h1⟩
  | _ => rw [e] at h1; cases h1
section PS
variable {α β : Type} {D : zs_D} {Wd : cs_W} {c : Nat} {Fn : zs_Q ps_S α} {own : String} {cc : ByteArray} {nL : Nat} {rt : Option FieldType} {nm : String} {d : Nat} {M : ps_S} {pc : Nat} {lv : List (Nat × Value)} {st : List Value} {o : Option β} {K : β → Option (α × ps_S)}
theorem ps_dI {a ci N k i : Nat} {C : String} {T : u_T} {ty : Nat → FieldType} {f : Int32 → Option β} (hc : zs_cls ci C T N ty) (hk : k < N) (hq : Cond.fieldLink own i (T k).1 (T k).2.1 (T k).2.2.1 ∈ lw_all) (hd : decode cc pc = .ok (.getfield i, 3)) (kk : ∀ x, zs_Sim D (ps_R Wd c) ps_bd Fn own cc nL rt nm d M (pc + 3) lv (.int x :: st) (f x) K) : zs_Sim D (ps_R Wd c) ps_bd Fn own cc nL rt nm d M pc lv (.ref a :: st) ((ps_gI c M a ci N k).bind f) K := by
  cases hg : ps_gI c M a ci N k with
  | none => exact zs_none
  | some x =>
    unfold ps_gI at hg
    cases hx : ps_at c M a with
    | none => rw [hx] at hg; cases hg
    | some y =>
      obtain ⟨t, n, F⟩ := y
      rw [hx] at hg
      by_cases hq2 : t = ci ∧ n = N
      · obtain ⟨rfl, rfl⟩ := hq2
        simp only [and_self, if_true] at hg
        cases hF : F k with
        | int z =>
          rw [hF] at hg
          cases hg
          exact zs_getf k hc hk hq (fun h hR => ⟨F, ps_dyn hR hx, hF⟩) hd (kk x)
        | _ => rw [hF] at hg; cases hg
      · simp only [if_neg hq2] at hg; cases hg
theorem ps_dR {a ci N k i : Nat} {C : String} {T : u_T} {ty : Nat → FieldType} {f : Nat → Option β} (hc : zs_cls ci C T N ty) (hk : k < N) (hq : Cond.fieldLink own i (T k).1 (T k).2.1 (T k).2.2.1 ∈ lw_all) (hd : decode cc pc = .ok (.getfield i, 3)) (kk : ∀ x, zs_Sim D (ps_R Wd c) ps_bd Fn own cc nL rt nm d M (pc + 3) lv (.ref x :: st) (f x) K) : zs_Sim D (ps_R Wd c) ps_bd Fn own cc nL rt nm d M pc lv (.ref a :: st) ((ps_gR c M a ci N k).bind f) K := by
  cases hg : ps_gR c M a ci N k with
  | none => exact zs_none
  | some x =>
    unfold ps_gR at hg
    cases hx : ps_at c M a with
    | none => rw [hx] at hg; cases hg
    | some y =>
      obtain ⟨t, n, F⟩ := y
      rw [hx] at hg
      by_cases hq2 : t = ci ∧ n = N
      · obtain ⟨rfl, rfl⟩ := hq2
        simp only [and_self, if_true] at hg
        cases hF : F k with
        | ref z =>
          rw [hF] at hg
          cases hg
          exact zs_getf k hc hk hq (fun h hR => ⟨F, ps_dyn hR hx, hF⟩) hd (kk x)
        | _ => rw [hF] at hg; cases hg
      · simp only [if_neg hq2] at hg; cases hg
theorem ps_pV_inv {a ci N k : Nat} {v : Value} {M1 : ps_S} (hg : ps_pV c M a ci N k v = some M1) : ∃ F, ps_at c M a = some (ci, N, F) ∧ M.2.1.1 ≤ a ∧ M1 = ps_up M a (ci, N, updV F k v) := by
  unfold ps_pV at hg
  cases hx : ps_at c M a with
  | none => rw [hx] at hg; cases hg
  | some y =>
    obtain ⟨t, n, F⟩ := y
    rw [hx] at hg
    by_cases hq2 : t = ci ∧ n = N ∧ M.2.1.1 ≤ a
    · obtain ⟨rfl, rfl, h3⟩ := hq2
      simp only [true_and, if_pos h3] at hg
      exact ⟨F, rfl, h3, (Option.some.inj hg).symm⟩
    · simp only [if_neg hq2] at hg; cases hg
theorem ps_base {h : zs_AH} (hR : ps_R Wd c M h) : h.1 = M.2.1.1 := by rw [hR.2.2]; rfl
theorem ps_put {a ci N k i : Nat} {C : String} {T : u_T} {ty : Nat → FieldType} {v : Value} {f : ps_S → Option β} (hc : zs_cls ci C T N ty) (hk : k < N) (hq : Cond.fieldLink own i (T k).1 (T k).2.1 (T k).2.2.1 ∈ lw_all) (hfin : (T k).2.2.2 = false) (hn : narrow (ty k) v = v) (hfit : fits (ty k) v = true) (hd : decode cc pc = .ok (.putfield i, 3)) (kk : ∀ M1, zs_Sim D (ps_R Wd c) ps_bd Fn own cc nL rt nm d M1 (pc + 3) lv st (f M1) K) : zs_Sim D (ps_R Wd c) ps_bd Fn own cc nL rt nm d M pc lv (v :: .ref a :: st) ((ps_pV c M a ci N k v).bind f) K := by
  cases hg : ps_pV c M a ci N k v with
  | none => exact zs_none
  | some M1 =>
    obtain ⟨F, e1, e2, e3⟩ := ps_pV_inv hg
    subst e3
    exact zs_putf (M1 := ps_up M a (ci, N, updV F k v)) k hc hk hq hfin hn hfit rfl (fun h hR => ⟨ps_dyn hR e1, by rw [ps_base hR]; exact e2, ps_dput _ hR e1⟩) hd (kk _)
theorem ps_putF {a ci N k i : Nat} {C : String} {T : u_T} {ty : Nat → FieldType} {v : Value} {f : ps_S → Option β} (hc : zs_cls ci C T N ty) (hk : k < N) (hq : Cond.fieldLink own i (T k).1 (T k).2.1 (T k).2.2.1 ∈ lw_all) (hfin : (T k).2.2.2 = true) (hdecl : (T k).1 = own) (hin : nm = "<init>") (hn : narrow (ty k) v = v) (hfit : fits (ty k) v = true) (hd : decode cc pc = .ok (.putfield i, 3)) (kk : ∀ M1, zs_Sim D (ps_R Wd c) ps_bd Fn own cc nL rt nm d M1 (pc + 3) lv st (f M1) K) : zs_Sim D (ps_R Wd c) ps_bd Fn own cc nL rt nm d M pc lv (v :: .ref a :: st) ((ps_pV c M a ci N k v).bind f) K := by
  cases hg : ps_pV c M a ci N k v with
  | none => exact zs_none
  | some M1 =>
    obtain ⟨F, e1, e2, e3⟩ := ps_pV_inv hg
    subst e3
    exact zs_putfF (M1 := ps_up M a (ci, N, updV F k v)) k hc hk hq hfin hdecl hin hn hfit rfl (fun h hR => ⟨ps_dyn hR e1, by rw [ps_base hR]; exact e2, ps_dput _ hR e1⟩) hd (kk _)
/-- a cell's class is known -/
theorem ps_ckr {a ci : Nat} (kk : (∀ h, ps_R Wd c M h → ∃ k f, h.2.2 a = some (ci, k, f)) → zs_Sim D (ps_R Wd c) ps_bd Fn own cc nL rt nm d M pc lv st o K) : zs_Sim D (ps_R Wd c) ps_bd Fn own cc nL rt nm d M pc lv st ((ps_ck c M a ci).bind fun _ => o) K := by
  cases hg : ps_ck c M a ci with
  | none => exact zs_none
  | some x =>
    unfold ps_ck at hg
    cases hx : ps_at c M a with
    | none => rw [hx] at hg; cases hg
    | some y =>
      obtain ⟨t, n, F⟩ := y
      rw [hx] at hg
      by_cases hq2 : t = ci
      · subst hq2
        exact kk (fun h hR => ⟨n, F, ps_dyn hR hx⟩)
      · simp only [if_neg hq2] at hg; cases hg
theorem ps_new {ci N i : Nat} {C : String} {T : u_T} {ty : Nat → FieldType} {f : Nat × ps_S → Option β} (hc : zs_cls ci C T N ty) (hq : Cond.classLink own i C ∈ lw_all) (hi : Cond.instantiable C N ∈ lw_all) (hini : Cond.initialized C ∈ lw_all) (hd : decode cc pc = .ok (.new i, 3)) (kk : ∀ z : Nat × ps_S, zs_Sim D (ps_R Wd c) ps_bd Fn own cc nL rt nm d z.2 (pc + 3) lv (.ref z.1 :: st) (f z) K) : zs_Sim D (ps_R Wd c) ps_bd Fn own cc nL rt nm d M pc lv st ((ps_nw M (ci, N, fun k => defaultValue (ty k)) N).bind f) K := by
  unfold ps_nw
  by_cases hb : 1 ≤ M.2.2.2.1 ∧ N ≤ M.2.2.2.2
  · rw [if_pos hb]
    exact zs_new (M1 := ps_ext M (ci, N, fun k => defaultValue (ty k)) N) hc hq hi hini ⟨by show M.2.2.2.1 = M.2.2.2.1 - 1 + 1; omega, by show M.2.2.2.2 = M.2.2.2.2 - N + N; omega⟩ (fun h hR => ⟨(ps_dext (ci, N, fun k => defaultValue (ty k)) N hR).1, fun _ => (ps_dext _ N hR).2⟩) hd (kk _)
  · rw [if_neg hb]; exact zs_none
theorem zs_nIc {z : Int32} (h0 : ¬ z < 0) : z = nI z.toNatClampNeg := by
  have h1 : (0 : Int32) ≤ z := Int32.not_lt.mp h0
  apply Int32.toInt_inj.mp
  have h2 : 0 ≤ z.toInt := by simpa using Int32.le_iff_toInt_le.mp h1
  have h3 : z.toInt < 2 ^ 31 := Int32.toInt_lt z
  have h4 : (z.toNatClampNeg : Int) = z.toInt := by show ((z.toInt.toNat : Nat) : Int) = _; omega
  rw [nI_toInt (by omega)]
  omega
theorem ps_newa {t : Nat} {atype : ArrayType} {ty : FieldType} {z : Int32} {f : Nat × ps_S → Option β} (ht : zs_T[t]? = some ty) (hty : newarray.typeOf atype = ty) (hpr : ∀ cA U, va_RA U cA ty ↔ U.vm.findClass ("[" ++ ty.toString) = some cA) (hq : Cond.arrayClass ty ∈ lw_all) (hby : componentBytes ty ≤ 8) (hd : decode cc pc = .ok (.newarray atype, 2)) (kk : ∀ z : Nat × ps_S, zs_Sim D (ps_R Wd c) ps_bd Fn own cc nL rt nm d z.2 (pc + 2) lv (.ref z.1 :: st) (f z) K) : zs_Sim D (ps_R Wd c) ps_bd Fn own cc nL rt nm d M pc lv (.int z :: st) ((ps_na M t (defaultValue ty) z).bind f) K := by
  unfold ps_na
  by_cases h0 : ¬ z < 0 ∧ z.toNatClampNeg ≤ 100000
  · rw [if_pos h0]
    unfold ps_nw
    by_cases hb : 1 ≤ M.2.2.2.1 ∧ z.toNatClampNeg ≤ M.2.2.2.2
    · rw [if_pos hb]
      exact zs_newa (M1 := ps_ext M (64 + t, z.toNatClampNeg, fun _ => defaultValue ty) z.toNatClampNeg) ht hty hpr hq (zs_nIc h0.1) (by omega) hby ⟨by show M.2.2.2.1 = M.2.2.2.1 - 1 + 1; omega, by show M.2.2.2.2 = M.2.2.2.2 - _ + _; omega⟩ (fun h hR => ⟨(ps_dext (64 + t, z.toNatClampNeg, fun _ => defaultValue ty) z.toNatClampNeg hR).1, fun _ => (ps_dext _ _ hR).2⟩) hd (kk _)
    · rw [if_neg hb]; exact zs_none
  · rw [if_neg h0]; exact zs_none
theorem ps_newq {t i : Nat} {C : String} {z : Int32} {f : Nat × ps_S → Option β} (ht : zs_T[t]? = some (.object C)) (hl : Cond.classLink own i C ∈ lw_all) (hq : Cond.arrayOver (.object C) ∈ lw_tbl) (hd : decode cc pc = .ok (.anewarray i, 3)) (kk : ∀ z : Nat × ps_S, zs_Sim D (ps_R Wd c) ps_bd Fn own cc nL rt nm d z.2 (pc + 3) lv (.ref z.1 :: st) (f z) K) : zs_Sim D (ps_R Wd c) ps_bd Fn own cc nL rt nm d M pc lv (.int z :: st) ((ps_na M t .null z).bind f) K := by
  unfold ps_na
  by_cases h0 : ¬ z < 0 ∧ z.toNatClampNeg ≤ 100000
  · rw [if_pos h0]
    unfold ps_nw
    by_cases hb : 1 ≤ M.2.2.2.1 ∧ z.toNatClampNeg ≤ M.2.2.2.2
    · rw [if_pos hb]
      exact zs_newq (M1 := ps_ext M (64 + t, z.toNatClampNeg, fun _ => .null) z.toNatClampNeg) ht hl hq (zs_nIc h0.1) (by omega) ⟨by show M.2.2.2.1 = M.2.2.2.1 - 1 + 1; omega, by show M.2.2.2.2 = M.2.2.2.2 - _ + _; omega⟩ (fun h hR => ⟨(ps_dext (64 + t, z.toNatClampNeg, fun _ => .null) z.toNatClampNeg hR).1, fun _ => (ps_dext _ _ hR).2⟩) hd (kk _)
    · rw [if_neg hb]; exact zs_none
  · rw [if_neg h0]; exact zs_none
theorem ps_mna {n k i : Nat} {zn zk : Int32} {f : Nat × ps_S → Option β} (hq : Cond.classLink own i "[[I" ∈ lw_all) (hzn : zn = nI n) (hzk : zk = nI k) (hn : n ≤ 1000) (hk : k ≤ 1000) (hd : decode cc pc = .ok (.multianewarray i 2, 4)) (kk : ∀ z : Nat × ps_S, zs_Sim D (ps_R Wd c) ps_bd Fn own cc nL rt nm d z.2 (pc + 4) lv (.ref z.1 :: st) (f z) K) : zs_Sim D (ps_R Wd c) ps_bd Fn own cc nL rt nm d M pc lv (.int zk :: .int zn :: st) ((ps_mn M n k).bind f) K := by
  unfold ps_mn
  by_cases hb : 1 + n ≤ M.2.2.2.1 ∧ n + n * k ≤ M.2.2.2.2
  · rw [if_pos hb]
    obtain ⟨hb1, hb2⟩ := hb
    exact zs_mna (M1 := ps_mext M n k) hq hzn hzk hn hk ⟨by show M.2.2.2.1 = M.2.2.2.1 - (1 + n) + (1 + n); omega, by show M.2.2.2.2 = M.2.2.2.2 - (n + n * k) + (n + n * k); omega⟩ (fun h hR => ⟨(ps_dmext n k hR).1, fun _ => (ps_dmext n k hR).2⟩) hd (kk _)
  · rw [if_neg hb]; exact zs_none
theorem ps_len {a t : Nat} {ty : FieldType} {f : Int32 → Option β} (ht : zs_T[t]? = some ty) (hd : decode cc pc = .ok (.arraylength, 1)) (kk : ∀ x, zs_Sim D (ps_R Wd c) ps_bd Fn own cc nL rt nm d M (pc + 1) lv (.int x :: st) (f x) K) : zs_Sim D (ps_R Wd c) ps_bd Fn own cc nL rt nm d M pc lv (.ref a :: st) ((ps_ln c M a t).bind f) K := by
  cases hg : ps_ln c M a t with
  | none => exact zs_none
  | some x =>
    unfold ps_ln at hg
    cases hx : ps_at c M a with
    | none => rw [hx] at hg; cases hg
    | some y =>
      obtain ⟨t', n, F⟩ := y
      rw [hx] at hg
      by_cases hq2 : t' = 64 + t
      · subst hq2
        simp only [if_true] at hg
        cases hg
        exact zs_alen ht (fun h hR => ps_dyn hR hx) hd (kk _)
      · simp only [if_neg hq2] at hg; cases hg
theorem ps_aI_inv {a t : Nat} {i x : Int32} (hg : ps_aI c M a t i = some x) : ∃ n F, ps_at c M a = some (64 + t, n, F) ∧ zs_in i n = true ∧ F i.toNatClampNeg = .int x := by
  unfold ps_aI at hg
  cases hx : ps_at c M a with
  | none => rw [hx] at hg; cases hg
  | some y =>
    obtain ⟨t', n, F⟩ := y
    rw [hx] at hg
    by_cases hq2 : t' = 64 + t ∧ zs_in i n = true
    · obtain ⟨rfl, h2⟩ := hq2
      simp only [true_and, if_pos h2] at hg
      cases hF : F i.toNatClampNeg with
      | int z => rw [hF] at hg; cases hg; exact ⟨n, F, rfl, h2, hF⟩
      | _ => rw [hF] at hg; cases hg
    · simp only [if_neg hq2] at hg; cases hg
theorem ps_bald {a : Nat} {i : Int32} {f : Int32 → Option β} (hd : decode cc pc = .ok (.baload, 1)) (kk : ∀ x, zs_Sim D (ps_R Wd c) ps_bd Fn own cc nL rt nm d M (pc + 1) lv (.int x :: st) (f x) K) : zs_Sim D (ps_R Wd c) ps_bd Fn own cc nL rt nm d M pc lv (.int i :: .ref a :: st) ((ps_aI c M a 1 i).bind f) K := by
  cases hg : ps_aI c M a 1 i with
  | none => exact zs_none
  | some x =>
    obtain ⟨n, F, e1, e2, e3⟩ := ps_aI_inv hg
    refine zs_hmap ?_ (kk x)
    intro p l e R s m args below meth c' H locs cells slots Q h ls hx hb ho hw hK hR hZ k9
    exact W.bald (v := .int x) hx hb (zs_arr (t := 1) hZ (ps_dyn hR e1)) ((hK.2.1 1 .byte rfl).1 n _) (fun q => by cases q) (by rw [arrV_size]; exact zs_in_not e2) (by rw [arrV_read _ _ (zs_in_lt e2), e3]) rfl rfl hd k9
theorem ps_iald {a : Nat} {i : Int32} {f : Int32 → Option β} (hd : decode cc pc = .ok (.iaload, 1)) (kk : ∀ x, zs_Sim D (ps_R Wd c) ps_bd Fn own cc nL rt nm d M (pc + 1) lv (.int x :: st) (f x) K) : zs_Sim D (ps_R Wd c) ps_bd Fn own cc nL rt nm d M pc lv (.int i :: .ref a :: st) ((ps_aI c M a 0 i).bind f) K := by
  cases hg : ps_aI c M a 0 i with
  | none => exact zs_none
  | some x =>
    obtain ⟨n, F, e1, e2, e3⟩ := ps_aI_inv hg
    refine zs_hmap ?_ (kk x)
    intro p l e R s m args below meth c' H locs cells slots Q h ls hx hb ho hw hK hR hZ k9
    exact W.iald (v := .int x) hx hb (zs_arr (t := 0) hZ (ps_dyn hR e1)) ((hK.2.1 0 .int rfl).1 n _) (fun q => by cases q) (by rw [arrV_size]; exact zs_in_not e2) (by rw [arrV_read _ _ (zs_in_lt e2), e3]) rfl rfl hd k9
theorem ps_aald {a t : Nat} {ty : FieldType} {i : Int32} {f : Nat → Option β} (ht : zs_T[t]? = some ty) (hr : ty.isReference = true) (hd : decode cc pc = .ok (.aaload, 1)) (kk : ∀ x, zs_Sim D (ps_R Wd c) ps_bd Fn own cc nL rt nm d M (pc + 1) lv (.ref x :: st) (f x) K) : zs_Sim D (ps_R Wd c) ps_bd Fn own cc nL rt nm d M pc lv (.int i :: .ref a :: st) ((ps_aR c M a t i).bind f) K := by
  cases hg : ps_aR c M a t i with
  | none => exact zs_none
  | some x =>
    unfold ps_aR at hg
    cases hx : ps_at c M a with
    | none => rw [hx] at hg; cases hg
    | some y =>
      obtain ⟨t', n, F⟩ := y
      rw [hx] at hg
      by_cases hq2 : t' = 64 + t ∧ zs_in i n = true
      · obtain ⟨rfl, h2⟩ := hq2
        simp only [true_and, if_pos h2] at hg
        cases hF : F i.toNatClampNeg with
        | ref z =>
          rw [hF] at hg; cases hg
          refine zs_hmap ?_ (kk x)
          intro p l e R s m args below meth c' H locs cells slots Q h ls hx' hb ho hw hK hR hZ k9
          exact W.aald (v := .ref x) (ty := ty) hx' hb (zs_arr hZ (ps_dyn hR hx)) ((hK.2.1 t ty ht).1 n _) hr (fun q => by cases q) (by rw [arrV_size]; exact zs_in_not h2) (by rw [arrV_read _ _ (zs_in_lt h2), hF]) rfl rfl hd k9
        | _ => rw [hF] at hg; cases hg
      · simp only [if_neg hq2] at hg; cases hg
theorem ps_pA_inv {a t : Nat} {i : Int32} {v : Value} {M1 : ps_S} (hg : ps_pA c M a t i v = some M1) : ∃ n F, ps_at c M a = some (64 + t, n, F) ∧ zs_in i n = true ∧ M.2.1.1 ≤ a ∧ n < 100000 ∧ M1 = ps_up M a (64 + t, n, updV F i.toNatClampNeg v) := by
  unfold ps_pA at hg
  cases hx : ps_at c M a with
  | none => rw [hx] at hg; cases hg
  | some y =>
    obtain ⟨t', n, F⟩ := y
    rw [hx] at hg
    by_cases hq2 : t' = 64 + t ∧ zs_in i n = true ∧ M.2.1.1 ≤ a ∧ n < 100000
    · obtain ⟨rfl, h2, h3, h4⟩ := hq2
      simp only [true_and, if_pos (And.intro h2 (And.intro h3 h4))] at hg
      exact ⟨n, F, rfl, h2, h3, h4, (Option.some.inj hg).symm⟩
    · simp only [if_neg hq2] at hg; cases hg
theorem ps_bast {a : Nat} {i x : Int32} {f : ps_S → Option β} (hd : decode cc pc = .ok (.bastore, 1)) (kk : ∀ M1, zs_Sim D (ps_R Wd c) ps_bd Fn own cc nL rt nm d M1 (pc + 1) lv st (f M1) K) : zs_Sim D (ps_R Wd c) ps_bd Fn own cc nL rt nm d M pc lv (.int x :: .int i :: .ref a :: st) ((ps_pA c M a 1 i (.int (vp_nar .byte x))).bind f) K := by
  cases hg : ps_pA c M a 1 i (.int (vp_nar .byte x)) with
  | none => exact zs_none
  | some M1 =>
    obtain ⟨n, F, e1, e2, e3, e5, e4⟩ := ps_pA_inv hg
    subst e4
    refine zs_hput (M1 := ps_up M a (65, n, updV F i.toNatClampNeg (.int (vp_nar .byte x)))) (i := 0) rfl (65, n, updV F i.toNatClampNeg (.int (vp_nar .byte x))) (fun h hR => ⟨by rw [ps_base hR]; exact e3, ps_dput _ hR e1⟩) ?_ (kk _)
    intro p l e R s m args below meth c' H locs cells slots Q h ls C hR hZ k9
    refine W.bast C.1 C.2.1 (zs_arr (t := 1) hZ (ps_dyn hR e1)) ((C.2.2.2.2.2.2.2.1.2.1 1 .byte rfl).1 n _) (fun q => by cases q) (by rw [arrV_size]; exact zs_in_not e2) rfl rfl hd (fun H1 g0 g1 g2 => k9 H1 _ (Or.inr ⟨Nat.le_of_ble_eq_true rfl, ?_⟩) g1 g2)
    rw [g0, arrV_store, show narrow .byte (.int x) = .int (vp_nar .byte x) from rfl]
    rfl
theorem ps_iast {a : Nat} {i x : Int32} {f : ps_S → Option β} (hd : decode cc pc = .ok (.iastore, 1)) (kk : ∀ M1, zs_Sim D (ps_R Wd c) ps_bd Fn own cc nL rt nm d M1 (pc + 1) lv st (f M1) K) : zs_Sim D (ps_R Wd c) ps_bd Fn own cc nL rt nm d M pc lv (.int x :: .int i :: .ref a :: st) ((ps_pA c M a 0 i (.int x)).bind f) K := by
  cases hg : ps_pA c M a 0 i (.int x) with
  | none => exact zs_none
  | some M1 =>
    obtain ⟨n, F, e1, e2, e3, e5, e4⟩ := ps_pA_inv hg
    subst e4
    refine zs_hput (M1 := ps_up M a (64, n, updV F i.toNatClampNeg (.int x))) (i := 0) rfl (64, n, updV F i.toNatClampNeg (.int x)) (fun h hR => ⟨by rw [ps_base hR]; exact e3, ps_dput _ hR e1⟩) ?_ (kk _)
    intro p l e R s m args below meth c' H locs cells slots Q h ls C hR hZ k9
    refine W.iast C.1 C.2.1 (zs_arr (t := 0) hZ (ps_dyn hR e1)) ((C.2.2.2.2.2.2.2.1.2.1 0 .int rfl).1 n _) (fun q => by cases q) (by rw [arrV_size]; exact zs_in_not e2) rfl rfl hd (fun H1 g0 g1 g2 => k9 H1 _ (Or.inr ⟨Nat.le_of_ble_eq_true rfl, ?_⟩) g1 g2)
    rw [g0, arrV_store]
    rfl
theorem ps_aast {a v t ci N : Nat} {C E : String} {T : u_T} {ty : Nat → FieldType} {i : Int32} {f : ps_S → Option β} (ht : zs_T[t]? = some (.object E)) (hc : zs_cls ci C T N ty) (hw : C = E ∨ Cond.castable C E ∈ lw_tbl) (hv : ∀ h, ps_R Wd c M h → ∃ k f, h.2.2 v = some (ci, k, f)) (hd : decode cc pc = .ok (.aastore, 1)) (kk : ∀ M1, zs_Sim D (ps_R Wd c) ps_bd Fn own cc nL rt nm d M1 (pc + 1) lv st (f M1) K) : zs_Sim D (ps_R Wd c) ps_bd Fn own cc nL rt nm d M pc lv (.ref v :: .int i :: .ref a :: st) ((ps_pA c M a t i (.ref v)).bind f) K := by
  cases hg : ps_pA c M a t i (.ref v) with
  | none => exact zs_none
  | some M1 =>
    obtain ⟨n, F, e1, e2, e3, e5, e4⟩ := ps_pA_inv hg
    subst e4
    exact zs_aast (M1 := ps_up M a (64 + t, n, updV F i.toNatClampNeg (.ref v))) ht hc hw (zs_nIc (fun z => zs_in_not e2 (Or.inl z))) (zs_in_lt e2) (by omega) rfl hv (fun h hR => ⟨ps_dyn hR e1, by rw [ps_base hR]; exact e3, ps_dput _ hR e1⟩) hd (kk _)
theorem ps_copyb {i a0 a : Nat} {z : Int32} {f : ps_S → Option β} (hl : Cond.methodLink own i arraycopyName ∈ lw_all) (hd : decode cc pc = .ok (.invokestatic i, 3)) (hdd : 0 + 1 ≤ d) (hw : (st.map fun v => v.category).sum ≤ 8) (kk : ∀ M1, zs_Sim D (ps_R Wd c) ps_bd Fn own cc nL rt nm d M1 (pc + 3) lv st (f M1) K) : zs_Sim D (ps_R Wd c) ps_bd Fn own cc nL rt nm d M pc lv (.int z :: .int 0 :: .ref a :: .int 0 :: .ref a0 :: st) ((ps_cb c M a0 a z).bind f) K := by
  cases hg : ps_cb c M a0 a z with
  | none => exact zs_none
  | some M1 =>
    unfold ps_cb at hg
    cases hx : ps_at c M a0 with
    | none => rw [hx] at hg; cases hg
    | some y =>
      cases hy : ps_at c M a with
      | none => rw [hx, hy] at hg; cases hg
      | some y' =>
        obtain ⟨t0, n0, F⟩ := y
        obtain ⟨t1, n1, G⟩ := y'
        rw [hx, hy] at hg
        by_cases hq : t0 = 65 ∧ t1 = 65 ∧ ¬ z < 0 ∧ z.toNatClampNeg ≤ n0 ∧ z.toNatClampNeg ≤ n1 ∧ M.2.1.1 ≤ a ∧ zs_vn F z.toNatClampNeg = true
        · simp only [if_pos hq] at hg
          obtain ⟨rfl, rfl, h0, h1, h2, h3, h4⟩ := hq
          cases hg
          have hlt : z.toNatClampNeg < 2 ^ 31 := by
            have := Int32.toInt_lt z
            show z.toInt.toNat < _
            omega
          exact zs_copyb (M1 := ps_up M a (65, n1, va_cpy F G 0 0 z.toNatClampNeg)) (n0 := n0) (n1 := n1) (n := z.toNatClampNeg) hl hd hdd hw rfl rfl (zs_nIc h0) h1 h2 hlt (fun j hj => zs_vn_at h4 hj) rfl (fun h hR => ps_dyn hR hx) (fun h hR => ⟨ps_dyn hR hy, by rw [ps_base hR]; exact h3, ps_dput _ hR hy⟩) (kk _)
        · simp only [if_neg hq] at hg; cases hg
end PS
