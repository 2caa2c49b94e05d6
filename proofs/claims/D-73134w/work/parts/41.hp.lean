/-! the rules of made cells over a heap as data, with no region: for constructors. Printed by wip/D-73134w/gen/hp41.py -/
set_option maxRecDepth 100000
def hp_R : ps_S → zs_AH → Prop := fun M h => h = M.2.1
def hp_at (M : ps_S) (a : Nat) : Option zs_HC := M.2.1.2.2 a
theorem hp_dyn {h : zs_AH} {M : ps_S} {a : Nat} {x : zs_HC} (hR : hp_R M h) (e : hp_at M a = some x) : h.2.2 a = some x := by rw [show h = M.2.1 from hR]; exact e
theorem hp_dput {h : zs_AH} {M : ps_S} {a : Nat} {y : zs_HC} (x : zs_HC) (hR : hp_R M h) (_ : hp_at M a = some y) : hp_R (ps_up M a x) (zs_up h a x) := by rw [show h = M.2.1 from hR]; rfl
theorem hp_dext {h : zs_AH} {M : ps_S} (x : zs_HC) (sl : Nat) (hR : hp_R M h) : h.2.1 = M.2.1.2.1 ∧ hp_R (ps_ext M x sl) (zs_ext h x) := by rw [show h = M.2.1 from hR]; exact ⟨rfl, rfl⟩
theorem hp_dmext {h : zs_AH} {M : ps_S} (n k : Nat) (hR : hp_R M h) : h.2.1 = M.2.1.2.1 ∧ hp_R (ps_mext M n k) (zs_mext h n k) := by rw [show h = M.2.1 from hR]; exact ⟨rfl, rfl⟩
/-! what is read of and written to a cell that was made -/
def hp_gI (M : ps_S) (a ci N k : Nat) : Option Int32 := match hp_at M a with
  | some (t, n, F) => if t = ci ∧ n = N then (match F k with | .int x => some x | _ => none) else none
  | none => none
def hp_gR (M : ps_S) (a ci N k : Nat) : Option Nat := match hp_at M a with
  | some (t, n, F) => if t = ci ∧ n = N then (match F k with | .ref x => some x | _ => none) else none
  | none => none
def hp_pV (M : ps_S) (a ci N k : Nat) (v : Value) : Option ps_S := match hp_at M a with
  | some (t, n, F) => if t = ci ∧ n = N ∧ M.2.1.1 ≤ a then some (ps_up M a (ci, N, updV F k v)) else none
  | none => none
def hp_aI (M : ps_S) (a t : Nat) (i : Int32) : Option Int32 := match hp_at M a with
  | some (t', n, F) => if t' = 64 + t ∧ zs_in i n = true then (match F i.toNatClampNeg with | .int x => some x | _ => none) else none
  | none => none
def hp_aR (M : ps_S) (a t : Nat) (i : Int32) : Option Nat := match hp_at M a with
  | some (t', n, F) => if t' = 64 + t ∧ zs_in i n = true then (match F i.toNatClampNeg with | .ref x => some x | _ => none) else none
  | none => none
def hp_pA (M : ps_S) (a t : Nat) (i : Int32) (v : Value) : Option ps_S := match hp_at M a with
  | some (t', n, F) => if t' = 64 + t ∧ zs_in i n = true ∧ M.2.1.1 ≤ a ∧ n < 100000 then some (ps_up M a (64 + t, n, updV F i.toNatClampNeg v)) else none
  | none => none
def hp_ln (M : ps_S) (a t : Nat) : Option Int32 := match hp_at M a with
  | some (t', n, _) => if t' = 64 + t then some (nI n) else none
  | none => none
def hp_ck (M : ps_S) (a ci : Nat) : Option Unit := match hp_at M a with
  | some (t, _, _) => if t = ci then some () else none
  | none => none
section HQ
variable {α β : Type} {D : zs_D} {Fn : zs_Q ps_S α} {own : String} {cc : ByteArray} {nL : Nat} {rt : Option FieldType} {nm : String} {d : Nat} {M : ps_S} {pc : Nat} {lv : List (Nat × Value)} {st : List Value} {o : Option β} {K : β → Option (α × ps_S)}
theorem hp_dI {a ci N k i : Nat} {C : String} {T : u_T} {ty : Nat → FieldType} {f : Int32 → Option β} (hc : zs_cls ci C T N ty) (hk : k < N) (hq : Cond.fieldLink own i (T k).1 (T k).2.1 (T k).2.2.1 ∈ lw_all) (hd : decode cc pc = .ok (.getfield i, 3)) (kk : ∀ x, zs_Sim D hp_R ps_bd Fn own cc nL rt nm d M (pc + 3) lv (.int x :: st) (f x) K) : zs_Sim D hp_R ps_bd Fn own cc nL rt nm d M pc lv (.ref a :: st) ((hp_gI M a ci N k).bind f) K := by
  cases hg : hp_gI M a ci N k with
  | none => exact zs_none
  | some x =>
    unfold hp_gI at hg
    cases hx : hp_at M a with
    | none => rw [hx] at hg; cases hg
    | some y =>
      obtain ⟨t, n, F⟩ := y
      rw [hx] at hg
      by_cases hq2 : t = ci ∧ n = N
      · obtain ⟨rfl, rfl⟩ := hq2
        simp only [and_self, if_true] at hg
        cases hF : F k with
        | int z =>
          rw [hF] at hg
          cases hg
          exact zs_getf k hc hk hq (fun h hR => ⟨F, hp_dyn hR hx, hF⟩) hd (kk x)
        | _ => rw [hF] at hg; cases hg
      · simp only [if_neg hq2] at hg; cases hg
theorem hp_dR {a ci N k i : Nat} {C : String} {T : u_T} {ty : Nat → FieldType} {f : Nat → Option β} (hc : zs_cls ci C T N ty) (hk : k < N) (hq : Cond.fieldLink own i (T k).1 (T k).2.1 (T k).2.2.1 ∈ lw_all) (hd : decode cc pc = .ok (.getfield i, 3)) (kk : ∀ x, zs_Sim D hp_R ps_bd Fn own cc nL rt nm d M (pc + 3) lv (.ref x :: st) (f x) K) : zs_Sim D hp_R ps_bd Fn own cc nL rt nm d M pc lv (.ref a :: st) ((hp_gR M a ci N k).bind f) K := by
  cases hg : hp_gR M a ci N k with
  | none => exact zs_none
  | some x =>
    unfold hp_gR at hg
    cases hx : hp_at M a with
    | none => rw [hx] at hg; cases hg
    | some y =>
      obtain ⟨t, n, F⟩ := y
      rw [hx] at hg
      by_cases hq2 : t = ci ∧ n = N
      · obtain ⟨rfl, rfl⟩ := hq2
        simp only [and_self, if_true] at hg
        cases hF : F k with
        | ref z =>
          rw [hF] at hg
          cases hg
          exact zs_getf k hc hk hq (fun h hR => ⟨F, hp_dyn hR hx, hF⟩) hd (kk x)
        | _ => rw [hF] at hg; cases hg
      · simp only [if_neg hq2] at hg; cases hg
theorem hp_pV_inv {a ci N k : Nat} {v : Value} {M1 : ps_S} (hg : hp_pV M a ci N k v = some M1) : ∃ F, hp_at M a = some (ci, N, F) ∧ M.2.1.1 ≤ a ∧ M1 = ps_up M a (ci, N, updV F k v) := by
  unfold hp_pV at hg
  cases hx : hp_at M a with
  | none => rw [hx] at hg; cases hg
  | some y =>
    obtain ⟨t, n, F⟩ := y
    rw [hx] at hg
    by_cases hq2 : t = ci ∧ n = N ∧ M.2.1.1 ≤ a
    · obtain ⟨rfl, rfl, h3⟩ := hq2
      simp only [true_and, if_pos h3] at hg
      exact ⟨F, rfl, h3, (Option.some.inj hg).symm⟩
    · simp only [if_neg hq2] at hg; cases hg
theorem hp_base {h : zs_AH} (hR : hp_R M h) : h.1 = M.2.1.1 := by rw [show h = M.2.1 from hR]
theorem hp_put {a ci N k i : Nat} {C : String} {T : u_T} {ty : Nat → FieldType} {v : Value} {f : ps_S → Option β} (hc : zs_cls ci C T N ty) (hk : k < N) (hq : Cond.fieldLink own i (T k).1 (T k).2.1 (T k).2.2.1 ∈ lw_all) (hfin : (T k).2.2.2 = false) (hn : narrow (ty k) v = v) (hfit : fits (ty k) v = true) (hd : decode cc pc = .ok (.putfield i, 3)) (kk : ∀ M1, zs_Sim D hp_R ps_bd Fn own cc nL rt nm d M1 (pc + 3) lv st (f M1) K) : zs_Sim D hp_R ps_bd Fn own cc nL rt nm d M pc lv (v :: .ref a :: st) ((hp_pV M a ci N k v).bind f) K := by
  cases hg : hp_pV M a ci N k v with
  | none => exact zs_none
  | some M1 =>
    obtain ⟨F, e1, e2, e3⟩ := hp_pV_inv hg
    subst e3
    exact zs_putf (M1 := ps_up M a (ci, N, updV F k v)) k hc hk hq hfin hn hfit rfl (fun h hR => ⟨hp_dyn hR e1, by rw [hp_base hR]; exact e2, hp_dput _ hR e1⟩) hd (kk _)
theorem hp_putF {a ci N k i : Nat} {C : String} {T : u_T} {ty : Nat → FieldType} {v : Value} {f : ps_S → Option β} (hc : zs_cls ci C T N ty) (hk : k < N) (hq : Cond.fieldLink own i (T k).1 (T k).2.1 (T k).2.2.1 ∈ lw_all) (hfin : (T k).2.2.2 = true) (hdecl : (T k).1 = own) (hin : nm = "<init>") (hn : narrow (ty k) v = v) (hfit : fits (ty k) v = true) (hd : decode cc pc = .ok (.putfield i, 3)) (kk : ∀ M1, zs_Sim D hp_R ps_bd Fn own cc nL rt nm d M1 (pc + 3) lv st (f M1) K) : zs_Sim D hp_R ps_bd Fn own cc nL rt nm d M pc lv (v :: .ref a :: st) ((hp_pV M a ci N k v).bind f) K := by
  cases hg : hp_pV M a ci N k v with
  | none => exact zs_none
  | some M1 =>
    obtain ⟨F, e1, e2, e3⟩ := hp_pV_inv hg
    subst e3
    exact zs_putfF (M1 := ps_up M a (ci, N, updV F k v)) k hc hk hq hfin hdecl hin hn hfit rfl (fun h hR => ⟨hp_dyn hR e1, by rw [hp_base hR]; exact e2, hp_dput _ hR e1⟩) hd (kk _)
/-- a cell's class is known -/
theorem hp_ckr {a ci : Nat} (kk : (∀ h, hp_R M h → ∃ k f, h.2.2 a = some (ci, k, f)) → zs_Sim D hp_R ps_bd Fn own cc nL rt nm d M pc lv st o K) : zs_Sim D hp_R ps_bd Fn own cc nL rt nm d M pc lv st ((hp_ck M a ci).bind fun _ => o) K := by
  cases hg : hp_ck M a ci with
  | none => exact zs_none
  | some x =>
    unfold hp_ck at hg
    cases hx : hp_at M a with
    | none => rw [hx] at hg; cases hg
    | some y =>
      obtain ⟨t, n, F⟩ := y
      rw [hx] at hg
      by_cases hq2 : t = ci
      · subst hq2
        exact kk (fun h hR => ⟨n, F, hp_dyn hR hx⟩)
      · simp only [if_neg hq2] at hg; cases hg
theorem hp_new {ci N i : Nat} {C : String} {T : u_T} {ty : Nat → FieldType} {f : Nat × ps_S → Option β} (hc : zs_cls ci C T N ty) (hq : Cond.classLink own i C ∈ lw_all) (hi : Cond.instantiable C N ∈ lw_all) (hini : Cond.initialized C ∈ lw_all) (hd : decode cc pc = .ok (.new i, 3)) (kk : ∀ z : Nat × ps_S, zs_Sim D hp_R ps_bd Fn own cc nL rt nm d z.2 (pc + 3) lv (.ref z.1 :: st) (f z) K) : zs_Sim D hp_R ps_bd Fn own cc nL rt nm d M pc lv st ((ps_nw M (ci, N, fun k => defaultValue (ty k)) N).bind f) K := by
  unfold ps_nw
  by_cases hb : 1 ≤ M.2.2.2.1 ∧ N ≤ M.2.2.2.2
  · rw [if_pos hb]
    exact zs_new (M1 := ps_ext M (ci, N, fun k => defaultValue (ty k)) N) hc hq hi hini ⟨by show M.2.2.2.1 = M.2.2.2.1 - 1 + 1; omega, by show M.2.2.2.2 = M.2.2.2.2 - N + N; omega⟩ (fun h hR => ⟨(hp_dext (ci, N, fun k => defaultValue (ty k)) N hR).1, fun _ => (hp_dext _ N hR).2⟩) hd (kk _)
  · rw [if_neg hb]; exact zs_none
theorem hp_newa {t : Nat} {atype : ArrayType} {ty : FieldType} {z : Int32} {f : Nat × ps_S → Option β} (ht : zs_T[t]? = some ty) (hty : newarray.typeOf atype = ty) (hpr : ∀ cA U, va_RA U cA ty ↔ U.vm.findClass ("[" ++ ty.toString) = some cA) (hq : Cond.arrayClass ty ∈ lw_all) (hby : componentBytes ty ≤ 8) (hd : decode cc pc = .ok (.newarray atype, 2)) (kk : ∀ z : Nat × ps_S, zs_Sim D hp_R ps_bd Fn own cc nL rt nm d z.2 (pc + 2) lv (.ref z.1 :: st) (f z) K) : zs_Sim D hp_R ps_bd Fn own cc nL rt nm d M pc lv (.int z :: st) ((ps_na M t (defaultValue ty) z).bind f) K := by
  unfold ps_na
  by_cases h0 : ¬ z < 0 ∧ z.toNatClampNeg ≤ 100000
  · rw [if_pos h0]
    unfold ps_nw
    by_cases hb : 1 ≤ M.2.2.2.1 ∧ z.toNatClampNeg ≤ M.2.2.2.2
    · rw [if_pos hb]
      exact zs_newa (M1 := ps_ext M (64 + t, z.toNatClampNeg, fun _ => defaultValue ty) z.toNatClampNeg) ht hty hpr hq (zs_nIc h0.1) (by omega) hby ⟨by show M.2.2.2.1 = M.2.2.2.1 - 1 + 1; omega, by show M.2.2.2.2 = M.2.2.2.2 - _ + _; omega⟩ (fun h hR => ⟨(hp_dext (64 + t, z.toNatClampNeg, fun _ => defaultValue ty) z.toNatClampNeg hR).1, fun _ => (hp_dext _ _ hR).2⟩) hd (kk _)
    · rw [if_neg hb]; exact zs_none
  · rw [if_neg h0]; exact zs_none
theorem hp_newq {t i : Nat} {C : String} {z : Int32} {f : Nat × ps_S → Option β} (ht : zs_T[t]? = some (.object C)) (hl : Cond.classLink own i C ∈ lw_all) (hq : Cond.arrayOver (.object C) ∈ lw_tbl) (hd : decode cc pc = .ok (.anewarray i, 3)) (kk : ∀ z : Nat × ps_S, zs_Sim D hp_R ps_bd Fn own cc nL rt nm d z.2 (pc + 3) lv (.ref z.1 :: st) (f z) K) : zs_Sim D hp_R ps_bd Fn own cc nL rt nm d M pc lv (.int z :: st) ((ps_na M t .null z).bind f) K := by
  unfold ps_na
  by_cases h0 : ¬ z < 0 ∧ z.toNatClampNeg ≤ 100000
  · rw [if_pos h0]
    unfold ps_nw
    by_cases hb : 1 ≤ M.2.2.2.1 ∧ z.toNatClampNeg ≤ M.2.2.2.2
    · rw [if_pos hb]
      exact zs_newq (M1 := ps_ext M (64 + t, z.toNatClampNeg, fun _ => .null) z.toNatClampNeg) ht hl hq (zs_nIc h0.1) (by omega) ⟨by show M.2.2.2.1 = M.2.2.2.1 - 1 + 1; omega, by show M.2.2.2.2 = M.2.2.2.2 - _ + _; omega⟩ (fun h hR => ⟨(hp_dext (64 + t, z.toNatClampNeg, fun _ => .null) z.toNatClampNeg hR).1, fun _ => (hp_dext _ _ hR).2⟩) hd (kk _)
    · rw [if_neg hb]; exact zs_none
  · rw [if_neg h0]; exact zs_none
theorem hp_mna {n k i : Nat} {zn zk : Int32} {f : Nat × ps_S → Option β} (hq : Cond.classLink own i "[[I" ∈ lw_all) (hzn : zn = nI n) (hzk : zk = nI k) (hn : n ≤ 1000) (hk : k ≤ 1000) (hd : decode cc pc = .ok (.multianewarray i 2, 4)) (kk : ∀ z : Nat × ps_S, zs_Sim D hp_R ps_bd Fn own cc nL rt nm d z.2 (pc + 4) lv (.ref z.1 :: st) (f z) K) : zs_Sim D hp_R ps_bd Fn own cc nL rt nm d M pc lv (.int zk :: .int zn :: st) ((ps_mn M n k).bind f) K := by
  unfold ps_mn
  by_cases hb : 1 + n ≤ M.2.2.2.1 ∧ n + n * k ≤ M.2.2.2.2
  · rw [if_pos hb]
    obtain ⟨hb1, hb2⟩ := hb
    exact zs_mna (M1 := ps_mext M n k) hq hzn hzk hn hk ⟨by show M.2.2.2.1 = M.2.2.2.1 - (1 + n) + (1 + n); omega, by show M.2.2.2.2 = M.2.2.2.2 - (n + n * k) + (n + n * k); omega⟩ (fun h hR => ⟨(hp_dmext n k hR).1, fun _ => (hp_dmext n k hR).2⟩) hd (kk _)
  · rw [if_neg hb]; exact zs_none
theorem hp_len {a t : Nat} {ty : FieldType} {f : Int32 → Option β} (ht : zs_T[t]? = some ty) (hd : decode cc pc = .ok (.arraylength, 1)) (kk : ∀ x, zs_Sim D hp_R ps_bd Fn own cc nL rt nm d M (pc + 1) lv (.int x :: st) (f x) K) : zs_Sim D hp_R ps_bd Fn own cc nL rt nm d M pc lv (.ref a :: st) ((hp_ln M a t).bind f) K := by
  cases hg : hp_ln M a t with
  | none => exact zs_none
  | some x =>
    unfold hp_ln at hg
    cases hx : hp_at M a with
    | none => rw [hx] at hg; cases hg
    | some y =>
      obtain ⟨t', n, F⟩ := y
      rw [hx] at hg
      by_cases hq2 : t' = 64 + t
      · subst hq2
        simp only [if_true] at hg
        cases hg
        exact zs_alen ht (fun h hR => hp_dyn hR hx) hd (kk _)
      · simp only [if_neg hq2] at hg; cases hg
theorem hp_aI_inv {a t : Nat} {i x : Int32} (hg : hp_aI M a t i = some x) : ∃ n F, hp_at M a = some (64 + t, n, F) ∧ zs_in i n = true ∧ F i.toNatClampNeg = .int x := by
  unfold hp_aI at hg
  cases hx : hp_at M a with
  | none => rw [hx] at hg; cases hg
  | some y =>
    obtain ⟨t', n, F⟩ := y
    rw [hx] at hg
    by_cases hq2 : t' = 64 + t ∧ zs_in i n = true
    · obtain ⟨rfl, h2⟩ := hq2
      simp only [true_and, if_pos h2] at hg
      cases hF : F i.toNatClampNeg with
      | int z => rw [hF] at hg; cases hg; exact ⟨n, F, rfl, h2, hF⟩
      | _ => rw [hF] at hg; cases hg
    · simp only [if_neg hq2] at hg; cases hg
theorem hp_bald {a : Nat} {i : Int32} {f : Int32 → Option β} (hd : decode cc pc = .ok (.baload, 1)) (kk : ∀ x, zs_Sim D hp_R ps_bd Fn own cc nL rt nm d M (pc + 1) lv (.int x :: st) (f x) K) : zs_Sim D hp_R ps_bd Fn own cc nL rt nm d M pc lv (.int i :: .ref a :: st) ((hp_aI M a 1 i).bind f) K := by
  cases hg : hp_aI M a 1 i with
  | none => exact zs_none
  | some x =>
    obtain ⟨n, F, e1, e2, e3⟩ := hp_aI_inv hg
    refine zs_hmap ?_ (kk x)
    intro p l e R s m args below meth c H locs cells slots Q h ls hx hb ho hw hK hR hZ k9
    exact W.bald (v := .int x) hx hb (zs_arr (t := 1) hZ (hp_dyn hR e1)) ((hK.2.1 1 .byte rfl).1 n _) (fun q => by cases q) (by rw [arrV_size]; exact zs_in_not e2) (by rw [arrV_read _ _ (zs_in_lt e2), e3]) rfl rfl hd k9
theorem hp_iald {a : Nat} {i : Int32} {f : Int32 → Option β} (hd : decode cc pc = .ok (.iaload, 1)) (kk : ∀ x, zs_Sim D hp_R ps_bd Fn own cc nL rt nm d M (pc + 1) lv (.int x :: st) (f x) K) : zs_Sim D hp_R ps_bd Fn own cc nL rt nm d M pc lv (.int i :: .ref a :: st) ((hp_aI M a 0 i).bind f) K := by
  cases hg : hp_aI M a 0 i with
  | none => exact zs_none
  | some x =>
    obtain ⟨n, F, e1, e2, e3⟩ := hp_aI_inv hg
    refine zs_hmap ?_ (kk x)
    intro p l e R s m args below meth c H locs cells slots Q h ls hx hb ho hw hK hR hZ k9
    exact W.iald (v := .int x) hx hb (zs_arr (t := 0) hZ (hp_dyn hR e1)) ((hK.2.1 0 .int rfl).1 n _) (fun q => by cases q) (by rw [arrV_size]; exact zs_in_not e2) (by rw [arrV_read _ _ (zs_in_lt e2), e3]) rfl rfl hd k9
theorem hp_aald {a t : Nat} {ty : FieldType} {i : Int32} {f : Nat → Option β} (ht : zs_T[t]? = some ty) (hr : ty.isReference = true) (hd : decode cc pc = .ok (.aaload, 1)) (kk : ∀ x, zs_Sim D hp_R ps_bd Fn own cc nL rt nm d M (pc + 1) lv (.ref x :: st) (f x) K) : zs_Sim D hp_R ps_bd Fn own cc nL rt nm d M pc lv (.int i :: .ref a :: st) ((hp_aR M a t i).bind f) K := by
  cases hg : hp_aR M a t i with
  | none => exact zs_none
  | some x =>
    unfold hp_aR at hg
    cases hx : hp_at M a with
    | none => rw [hx] at hg; cases hg
    | some y =>
      obtain ⟨t', n, F⟩ := y
      rw [hx] at hg
      by_cases hq2 : t' = 64 + t ∧ zs_in i n = true
      · obtain ⟨rfl, h2⟩ := hq2
        simp only [true_and, if_pos h2] at hg
        cases hF : F i.toNatClampNeg with
        | ref z =>
          rw [hF] at hg; cases hg
          refine zs_hmap ?_ (kk x)
          intro p l e R s m args below meth c H locs cells slots Q h ls hx' hb ho hw hK hR hZ k9
          exact W.aald (v := .ref x) (ty := ty) hx' hb (zs_arr hZ (hp_dyn hR hx)) ((hK.2.1 t ty ht).1 n _) hr (fun q => by cases q) (by rw [arrV_size]; exact zs_in_not h2) (by rw [arrV_read _ _ (zs_in_lt h2), hF]) rfl rfl hd k9
        | _ => rw [hF] at hg; cases hg
      · simp only [if_neg hq2] at hg; cases hg
theorem hp_pA_inv {a t : Nat} {i : Int32} {v : Value} {M1 : ps_S} (hg : hp_pA M a t i v = some M1) : ∃ n F, hp_at M a = some (64 + t, n, F) ∧ zs_in i n = true ∧ M.2.1.1 ≤ a ∧ n < 100000 ∧ M1 = ps_up M a (64 + t, n, updV F i.toNatClampNeg v) := by
  unfold hp_pA at hg
  cases hx : hp_at M a with
  | none => rw [hx] at hg; cases hg
  | some y =>
    obtain ⟨t', n, F⟩ := y
    rw [hx] at hg
    by_cases hq2 : t' = 64 + t ∧ zs_in i n = true ∧ M.2.1.1 ≤ a ∧ n < 100000
    · obtain ⟨rfl, h2, h3, h4⟩ := hq2
      simp only [true_and, if_pos (And.intro h2 (And.intro h3 h4))] at hg
      exact ⟨n, F, rfl, h2, h3, h4, (Option.some.inj hg).symm⟩
    · simp only [if_neg hq2] at hg; cases hg
theorem hp_bast {a : Nat} {i x : Int32} {f : ps_S → Option β} (hd : decode cc pc = .ok (.bastore, 1)) (kk : ∀ M1, zs_Sim D hp_R ps_bd Fn own cc nL rt nm d M1 (pc + 1) lv st (f M1) K) : zs_Sim D hp_R ps_bd Fn own cc nL rt nm d M pc lv (.int x :: .int i :: .ref a :: st) ((hp_pA M a 1 i (.int (vp_nar .byte x))).bind f) K := by
  cases hg : hp_pA M a 1 i (.int (vp_nar .byte x)) with
  | none => exact zs_none
  | some M1 =>
    obtain ⟨n, F, e1, e2, e3, e5, e4⟩ := hp_pA_inv hg
    subst e4
    refine zs_hput (M1 := ps_up M a (65, n, updV F i.toNatClampNeg (.int (vp_nar .byte x)))) (i := 0) rfl (65, n, updV F i.toNatClampNeg (.int (vp_nar .byte x))) (fun h hR => ⟨by rw [hp_base hR]; exact e3, hp_dput _ hR e1⟩) ?_ (kk _)
    intro p l e R s m args below meth c H locs cells slots Q h ls C hR hZ k9
    refine W.bast C.1 C.2.1 (zs_arr (t := 1) hZ (hp_dyn hR e1)) ((C.2.2.2.2.2.2.2.1.2.1 1 .byte rfl).1 n _) (fun q => by cases q) (by rw [arrV_size]; exact zs_in_not e2) rfl rfl hd (fun H1 g0 g1 g2 => k9 H1 _ (Or.inr ⟨Nat.le_of_ble_eq_true rfl, ?_⟩) g1 g2)
    rw [g0, arrV_store, show narrow .byte (.int x) = .int (vp_nar .byte x) from rfl]
    rfl
theorem hp_iast {a : Nat} {i x : Int32} {f : ps_S → Option β} (hd : decode cc pc = .ok (.iastore, 1)) (kk : ∀ M1, zs_Sim D hp_R ps_bd Fn own cc nL rt nm d M1 (pc + 1) lv st (f M1) K) : zs_Sim D hp_R ps_bd Fn own cc nL rt nm d M pc lv (.int x :: .int i :: .ref a :: st) ((hp_pA M a 0 i (.int x)).bind f) K := by
  cases hg : hp_pA M a 0 i (.int x) with
  | none => exact zs_none
  | some M1 =>
    obtain ⟨n, F, e1, e2, e3, e5, e4⟩ := hp_pA_inv hg
    subst e4
    refine zs_hput (M1 := ps_up M a (64, n, updV F i.toNatClampNeg (.int x))) (i := 0) rfl (64, n, updV F i.toNatClampNeg (.int x)) (fun h hR => ⟨by rw [hp_base hR]; exact e3, hp_dput _ hR e1⟩) ?_ (kk _)
    intro p l e R s m args below meth c H locs cells slots Q h ls C hR hZ k9
    refine W.iast C.1 C.2.1 (zs_arr (t := 0) hZ (hp_dyn hR e1)) ((C.2.2.2.2.2.2.2.1.2.1 0 .int rfl).1 n _) (fun q => by cases q) (by rw [arrV_size]; exact zs_in_not e2) rfl rfl hd (fun H1 g0 g1 g2 => k9 H1 _ (Or.inr ⟨Nat.le_of_ble_eq_true rfl, ?_⟩) g1 g2)
    rw [g0, arrV_store]
    rfl
theorem hp_aast {a v t ci N : Nat} {C E : String} {T : u_T} {ty : Nat → FieldType} {i : Int32} {f : ps_S → Option β} (ht : zs_T[t]? = some (.object E)) (hc : zs_cls ci C T N ty) (hw : C = E ∨ Cond.castable C E ∈ lw_tbl) (hv : ∀ h, hp_R M h → ∃ k f, h.2.2 v = some (ci, k, f)) (hd : decode cc pc = .ok (.aastore, 1)) (kk : ∀ M1, zs_Sim D hp_R ps_bd Fn own cc nL rt nm d M1 (pc + 1) lv st (f M1) K) : zs_Sim D hp_R ps_bd Fn own cc nL rt nm d M pc lv (.ref v :: .int i :: .ref a :: st) ((hp_pA M a t i (.ref v)).bind f) K := by
  cases hg : hp_pA M a t i (.ref v) with
  | none => exact zs_none
  | some M1 =>
    obtain ⟨n, F, e1, e2, e3, e5, e4⟩ := hp_pA_inv hg
    subst e4
    exact zs_aast (M1 := ps_up M a (64 + t, n, updV F i.toNatClampNeg (.ref v))) ht hc hw (zs_nIc (fun z => zs_in_not e2 (Or.inl z))) (zs_in_lt e2) (by omega) rfl hv (fun h hR => ⟨hp_dyn hR e1, by rw [hp_base hR]; exact e3, hp_dput _ hR e1⟩) hd (kk _)
end HQ
