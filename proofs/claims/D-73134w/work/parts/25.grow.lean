/-! the heap grows: new objects, new arrays; final fields, statics, constants, references stored and compared -/
set_option maxRecDepth 100000
def zs_ext (h : zs_AH) (x : zs_HC) : zs_AH := (h.1, h.2.1 + 1, fun q => if q = h.2.1 then some x else h.2.2 q)
theorem zs_A_lt {D : zs_D} {a : Nat} {x : zs_HC} {H : Heap} (h : zs_A D a x H) : a < H.size := by
  rcases h with ⟨-, r, -, -, cell, h1, -⟩ | ⟨-, h1⟩
  · exact (Array.getElem?_eq_some_iff.mp h1).1
  · exact (Array.getElem?_eq_some_iff.mp h1).1
theorem zs_R_ext {D : zs_D} {h : zs_AH} {H H1 : Heap} {x : zs_HC} (hZ : zs_R D h H) (e1 : H1.size = H.size + 1) (e2 : ∀ q, q < H.size → H1[q]? = H[q]?) (hx : zs_A D h.2.1 x H1) : zs_R D (zs_ext h x) H1 := by
  refine ⟨by show h.2.1 + 1 = _; rw [hZ.1, e1], fun q y hy => ?_⟩
  by_cases hq : q = h.2.1
  · subst hq
    have : some x = some y := by rw [← hy]; show some x = if h.2.1 = h.2.1 then some x else _; rw [if_pos rfl]
    rw [← Option.some.inj this]; exact hx
  · have h1 : h.2.2 q = some y := by rw [← hy]; show _ = if q = h.2.1 then some x else h.2.2 q; rw [if_neg hq]
    have h2 := hZ.2 q y h1
    exact zs_A_kept h2 (e2 q (zs_A_lt h2))
theorem zs_fresh {D : zs_D} {h : zs_AH} {H : Heap} (hZ : zs_R D h H) {q : Nat} (hq : h.2.1 ≤ q) : h.2.2 q = none := by
  cases e : h.2.2 q with
  | none => rfl
  | some x =>
    have h1 := zs_A_lt (hZ.2 q x e)
    rw [← hZ.1] at h1
    omega
section ZN
variable {σ α β τ : Type} {D : zs_D} {Rl : σ → zs_AH → Prop} {bd : σ → Nat × Nat} {Fn : zs_Q σ α} {own : String} {cc : ByteArray} {nL : Nat} {rt : Option FieldType} {nm : String} {d : Nat} {M : σ} {pc : Nat} {lv : List (Nat × Value)} {st : List Value} {o o1 o2 : Option β} {K : β → Option (α × σ)}
/-- a cell is made -/
theorem zs_hnew {M1 : σ} {pc' n sl : Nat} {st' : List Value} (x : zs_HC) (hbd : (bd M).1 = (bd M1).1 + 1 ∧ (bd M).2 = (bd M1).2 + sl) (hL : ∀ h, Rl M h → h.2.1 = n ∧ (h.2.2 n = none → Rl M1 (zs_ext h x)))
    (f : ∀ (p : Program) (l : Launch) (e : Env) (R : Room) (s : State) (m : MethodId) (args : Array Value) (below : List Frame) (meth : Method) (c : Code) (H : Heap) (locs : List Loc) (cells slots : Nat) (Q : State → Prop) (h : zs_AH) (ls : Array Slot), zs_Cx D own cc nL rt nm h.1 p l s m args meth c → H.size = n → cells + 1 ≤ R.cells → slots + sl ≤ R.slots → (∀ (H1 : Heap), zs_A D n x H1 → H1.size = H.size + 1 → (∀ q, q < H.size → H1[q]? = H[q]?) → W p l e R s m args below meth c H1 locs (cells + 1) (slots + sl) Q (F0 m pc' ls st')) → W p l e R s m args below meth c H locs cells slots Q (F0 m pc ls st))
    (k : zs_Sim D Rl bd Fn own cc nL rt nm d M1 pc' lv st' o K) : zs_Sim D Rl bd Fn own cc nL rt nm d M pc lv st o K := by
  intro r M' ee
  obtain ⟨hm, k⟩ := k r M' ee
  refine ⟨⟨by omega, by omega⟩, fun p l e R s m args below meth c H locs cells slots h ls C h1 h2 h3 h4 hR hZ hS hl => ?_⟩
  obtain ⟨hb, hR1⟩ := hL h hR
  have hR1 := hR1 (zs_fresh hZ (Nat.le_of_eq hb))
  refine f p l e R s m args below meth c H locs cells slots _ h ls C (by rw [← hZ.1]; exact hb) (by omega) (by omega) (fun H1 e0 e1 e2 => ?_)
  refine k p l e R s m args below meth c H1 _ _ _ (zs_ext h x) ls C h1 h2 (by omega) (by omega) hR1 (zs_R_ext hZ e1 e2 (by rw [hb]; exact e0)) ⟨hS.1, Nat.le_trans hS.2.1 (by omega), fun q hq hb => (e2 q (Nat.lt_of_lt_of_le hq hS.2.1)).trans (hS.2.2.1 q hq hb), hS.2.2.2⟩ hl
theorem zs_new {M1 : σ} {ci N i n : Nat} {C : String} {T : u_T} {ty : Nat → FieldType} (hc : zs_cls ci C T N ty) (hq : Cond.classLink own i C ∈ lw_all) (hi : Cond.instantiable C N ∈ lw_all) (hini : Cond.initialized C ∈ lw_all) (hbd : (bd M).1 = (bd M1).1 + 1 ∧ (bd M).2 = (bd M1).2 + N) (hL : ∀ h, Rl M h → h.2.1 = n ∧ (h.2.2 n = none → Rl M1 (zs_ext h (ci, N, fun k => defaultValue (ty k))))) (hd : decode cc pc = .ok (.new i, 3)) (k : zs_Sim D Rl bd Fn own cc nL rt nm d M1 (pc + 3) lv (.ref n :: st) o K) : zs_Sim D Rl bd Fn own cc nL rt nm d M pc lv st o K := by
  refine zs_hnew (ci, N, fun k => defaultValue (ty k)) hbd hL ?_ k
  intro p l e R s m args below meth c H locs cells slots Q h ls Cx hn g1 g2 kk
  obtain ⟨c1, c2, -, -, -, c6, c7, c8, -⟩ := Cx
  have hKn := c8.1 ci _ hc.2.1
  refine W.newcK c1 c2 c6 (c7 _ hq) (c7 _ hi) (c7 _ hini) rfl hd g1 g2 hKn.2.1 hn fun H1 kC hkC e1 z1 o1 => ?_
  exact kk H1 (Or.inl ⟨hc.1, _, hc.2.1, rfl, u_born ty c7 hc.2.2.1 hKn hkC e1 hc.2.2.2.1⟩) (by rw [hn]; exact z1) (by rw [hn]; exact o1)
theorem zs_newa {M1 : σ} {t n N : Nat} {atype : ArrayType} {ty : FieldType} {z : Int32} (ht : zs_T[t]? = some ty) (hty : newarray.typeOf atype = ty) (hpr : ∀ cA U, va_RA U cA ty ↔ U.vm.findClass ("[" ++ ty.toString) = some cA) (hq : Cond.arrayClass ty ∈ lw_all) (hz : z = nI N) (hN : N ≤ 100000) (hby : componentBytes ty ≤ 8) (hbd : (bd M).1 = (bd M1).1 + 1 ∧ (bd M).2 = (bd M1).2 + N) (hL : ∀ h, Rl M h → h.2.1 = n ∧ (h.2.2 n = none → Rl M1 (zs_ext h (64 + t, N, fun _ => defaultValue ty)))) (hd : decode cc pc = .ok (.newarray atype, 2)) (k : zs_Sim D Rl bd Fn own cc nL rt nm d M1 (pc + 2) lv (.ref n :: st) o K) : zs_Sim D Rl bd Fn own cc nL rt nm d M pc lv (.int z :: st) o K := by
  subst hty hz
  refine zs_hnew (64 + t, N, fun _ => defaultValue (newarray.typeOf atype)) hbd hL ?_ k
  intro p l e R s m args below meth c H locs cells slots Q h ls Cx hn g1 g2 kk
  obtain ⟨c1, c2, -, -, -, c6, c7, c8, -⟩ := Cx
  refine va_newaK c1 c2 (c7 _ hq) rfl hd rfl (nI_pos (by omega)) (nI_clamp (by omega)) (Nat.le_trans (Nat.mul_le_mul hN hby) (by decide)) g1 g2 hn fun H1 cA e1 z1 o1 hAr hNm => ?_
  have h1 := (hpr _ _).mp (c8.2.1 t _ ht).2
  cases h1.symm.trans hNm
  exact kk H1 (Or.inr ⟨Nat.le_add_right _ _, by show H1[n]? = some (arrV (D.2.1 (64 + t - 64)) N _); rw [Nat.add_sub_cancel_left]; exact e1⟩) (by rw [hn]; exact z1) (by rw [hn]; exact o1)
theorem zs_newq {M1 : σ} {t i n N : Nat} {C : String} {z : Int32} (ht : zs_T[t]? = some (.object C)) (hl : Cond.classLink own i C ∈ lw_all) (hq : Cond.arrayOver (.object C) ∈ lw_tbl) (hz : z = nI N) (hN : N ≤ 100000) (hbd : (bd M).1 = (bd M1).1 + 1 ∧ (bd M).2 = (bd M1).2 + N) (hL : ∀ h, Rl M h → h.2.1 = n ∧ (h.2.2 n = none → Rl M1 (zs_ext h (64 + t, N, fun _ => .null)))) (hd : decode cc pc = .ok (.anewarray i, 3)) (k : zs_Sim D Rl bd Fn own cc nL rt nm d M1 (pc + 3) lv (.ref n :: st) o K) : zs_Sim D Rl bd Fn own cc nL rt nm d M pc lv (.int z :: st) o K := by
  subst hz
  refine zs_hnew (64 + t, N, fun _ => .null) hbd hL ?_ k
  intro p l e R s m args below meth c H locs cells slots Q h ls Cx hn g1 g2 kk
  obtain ⟨c1, c2, -, -, -, c6, c7, c8, -⟩ := Cx
  have hcl : (nI N).toNatClampNeg = N := nI_clamp (by omega)
  refine W.anew c1 c2 c6 (c7 _ hl) (va_AO.use (c8.2.2.1.2.2.1 _ hq)) rfl hd rfl (nI_pos (by omega)) (by omega) g1 (by rw [hcl]; exact g2) fun cA kA comp f1 f2 f3 f4 => ?_
  rw [hcl]
  generalize hH1 : H.push ({ cls := cA, slots := Array.replicate N .null, vm := .none } : Cell) = H1
  have z1 : H1.size = H.size + 1 := by rw [← hH1, Array.size_push]
  have e1 : H1[H.size]? = some (arrV cA N (fun _ => .null)) := by rw [← hH1, Array.getElem?_push_size, ← arrV_new]
  have o1 : ∀ q : Nat, q < H.size → H1[q]? = H[q]? := fun q hq => by rw [← hH1, Array.getElem?_push, if_neg (Nat.ne_of_lt hq)]
  obtain ⟨kA', comp', r1, r2, r3, r4⟩ := (c8.2.1 t _ ht).2
  cases r4.symm.trans f1
  have := kk H1 (Or.inr ⟨Nat.le_add_right _ _, by show H1[n]? = some (arrV (D.2.1 (64 + t - 64)) N _); rw [Nat.add_sub_cancel_left, ← hn]; exact e1⟩) z1 o1
  rw [← hn] at this
  exact this
/-- a final field is written where its object is made -/
theorem zs_putfF {M1 : σ} {ci N i a : Nat} {C : String} {T : u_T} {ty : Nat → FieldType} {v : Value} {F : Nat → Value} (k0 : Nat) (hc : zs_cls ci C T N ty) (hk0 : k0 < N) (hq : Cond.fieldLink own i (T k0).1 (T k0).2.1 (T k0).2.2.1 ∈ lw_all) (hfin : (T k0).2.2.2 = true) (hdecl : (T k0).1 = own) (hin : nm = "<init>") (hn : narrow (ty k0) v = v) (hfit : fits (ty k0) v = true) (hbd : bd M1 = bd M) (hL : ∀ h, Rl M h → h.2.2 a = some (ci, N, F) ∧ h.1 ≤ a ∧ Rl M1 (zs_up h a (ci, N, updV F k0 v))) (hd : decode cc pc = .ok (.putfield i, 3)) (k : zs_Sim D Rl bd Fn own cc nL rt nm d M1 (pc + 3) lv st o K) : zs_Sim D Rl bd Fn own cc nL rt nm d M pc lv (v :: .ref a :: st) o K := by
  refine zs_hput (i := 0) hbd (ci, N, updV F k0 v) (fun h hR => (hL h hR).2) ?_ k
  intro p l e R s m args below meth c H locs cells slots Q h ls Cx hR hZ kk
  have hap := zs_apart hc Cx.2.2.2.2.2.2.1 Cx.2.2.2.2.2.2.2.1
  obtain ⟨hx, hb, -, -, -, hown, hts, hK, ⟨hnm, -⟩, -⟩ := Cx
  obtain ⟨h0, h1, h2, h3, h4⟩ := hc
  obtain ⟨r, q1, q2, cell, q3, q4, q5, q6⟩ := zs_obj hZ (hL h hR).1 h0
  obtain ⟨hS, hfc, kC, hkC, hkind⟩ := hK.1 ci _ h1
  obtain ⟨cf, kf, fi, f, hi, hsl⟩ := hS k0 hk0
  have hlay := hts _ (h2 _ (u_in_lay hk0))
  unfold u_lay at hlay
  rw [if_pos hfin] at hlay
  have hst := (u_facts hfc hkC (u_lays hts h2 hk0) hi).1
  have hcf : m.cls = cf := by
    obtain ⟨_, _, c', _, _, _, -, -, hf', -, -, -, hown2, -⟩ := Cond.laysFinal_spec hlay
    have e1 : c' = cf := by have := hi.symm.trans hf'; simp at this; exact this.1.symm
    rw [hdecl] at hown2
    rw [← e1]; exact Option.some.inj (hown.symm.trans hown2)
  have h6 := u_fits hfc hkC hkind (Or.inr hlay) hi (h3 k0 hk0) hn hfit
  refine W.putFinK hx hb hown (hts _ hq) hi hst hcf (hnm.trans hin) (by rw [q4]; exact h6) q3 q5 (by rw [hsl]; exact k2_hasslot (q6 k0 hk0)) rfl rfl hd fun H' e1 e2 e3 => ?_
  rw [hsl] at e1 ⊢
  exact kk H' _ (Or.inl ⟨h0, r, q1, q2, _, e1, q4, q5, t_set q6 hap hk0 v⟩) e2 e3
/-- a reference goes into an array -/
theorem zs_aast {M1 : σ} {t n a v ci N j : Nat} {C E : String} {T : u_T} {ty : Nat → FieldType} {F : Nat → Value} {z : Int32} (ht : zs_T[t]? = some (.object E)) (hc : zs_cls ci C T N ty) (hw : C = E ∨ Cond.castable C E ∈ lw_tbl) (hz : z = nI j) (hj : j < n) (hn : n < 2 ^ 31) (hbd : bd M1 = bd M) (hv : ∀ h, Rl M h → ∃ k f, h.2.2 v = some (ci, k, f)) (hL : ∀ h, Rl M h → h.2.2 a = some (64 + t, n, F) ∧ h.1 ≤ a ∧ Rl M1 (zs_up h a (64 + t, n, updV F j (.ref v)))) (hd : decode cc pc = .ok (.aastore, 1)) (k : zs_Sim D Rl bd Fn own cc nL rt nm d M1 (pc + 1) lv st o K) : zs_Sim D Rl bd Fn own cc nL rt nm d M pc lv (.ref v :: .int z :: .ref a :: st) o K := by
  subst hz
  refine zs_hput (i := 0) hbd (64 + t, n, updV F j (.ref v)) (fun h hR => (hL h hR).2) ?_ k
  intro p l e R s m args below meth c H locs cells slots Q h ls Cx hR hZ kk
  obtain ⟨hx, hb, -, -, -, hown, hts, hK, -⟩ := Cx
  have hcl : (nI j).toNatClampNeg = j := nI_clamp (by omega)
  obtain ⟨k9, f9, e9⟩ := hv h hR
  obtain ⟨r, q1, q2, cell, q3, q4, q5, -⟩ := zs_obj hZ e9 hc.1
  obtain ⟨kA, comp, r1, r2, r3, r4⟩ := (hK.2.1 t _ ht).2
  obtain ⟨kE, hkE, -⟩ := Vm.findClass_spec r3
  have hKn := (hK.1 ci _ hc.2.1).2
  obtain ⟨kC, hkC, -⟩ := hKn.2
  have hasg : s.vm.assignable (D.1.1 ci) comp = true := by
    rcases hw with h1 | h1
    · subst h1
      cases hKn.1.symm.trans r3
      exact va_asg _ _
    · obtain ⟨c0, t1, f1, f2, f3⟩ := Cond.castable_spec (va_Nw.use (A := args) rfl (hK.2.2.1.1 _ _ h1))
      cases hKn.1.symm.trans f1
      cases r3.symm.trans f2
      exact f3
  refine W.aast (cell := arrV (D.2.1 t) n F) hx hb (zs_arr hZ (hL h hR).1) (fun q h => by cases h) (fun h => by cases h) r1 r2 rfl hkE ⟨nI_pos (by omega), by rw [hcl, arrV_size]; exact hj⟩ q3 (fun q h => by rw [q5] at h; cases h) (by rw [q4]; exact hkC) (by rw [q4]; exact hasg) rfl rfl hd fun H1 e1 e2 e3 => ?_
  refine kk H1 _ (Or.inr ⟨Nat.le_add_right _ _, ?_⟩) e2 e3
  show H1[a]? = some (arrV (D.2.1 (64 + t - 64)) n _)
  rw [Nat.add_sub_cancel_left, e1, arrV_store, hcl]
theorem zs_gets {i k : Nat} {C n d0 : String} {v : Value} (hv : zs_Sv D k = some (C, n, d0, v)) (hq : Cond.fieldLink own i C n d0 ∈ lw_all) (hd : decode cc pc = .ok (.getstatic i, 3)) (kk : zs_Sim D Rl bd Fn own cc nL rt nm d M (pc + 3) lv (v :: st) o K) : zs_Sim D Rl bd Fn own cc nL rt nm d M pc lv st o K := by
  intro r M' ee
  obtain ⟨hm, kk⟩ := kk r M' ee
  refine ⟨hm, fun p l e R s m args below meth c H locs cells slots h ls C0 h1 h2 h3 h4 hR hZ hS hl => ?_⟩
  have Cx := C0
  obtain ⟨c1, c2, -, -, -, c6, c7, c8, -⟩ := C0
  exact va_gets c1 c2 (c8.2.2.2.1 k _ _ _ _ hv) hS.2 c6 (c7 _ hq) (fun x hx => hx) hd (kk p l e R s m args below meth c H locs cells slots h ls Cx h1 h2 h3 h4 hR hZ hS hl)
theorem zs_ldcs {i : Nat} {tx : String} (hq : Cond.stringRef own i tx ∈ lw_tbl) (hd : decode cc pc = .ok (.ldc i, 2)) (k : zs_Sim D Rl bd Fn own cc nL rt nm d M (pc + 2) lv (.ref (D.2.2.1 i) :: st) o K) : zs_Sim D Rl bd Fn own cc nL rt nm d M pc lv st o K := by
  refine zs_hmap ?_ k
  intro p l e R s m args below meth c H locs cells slots Q h ls hx hb ho hw hK hR hZ kk
  exact va_ldcS hx hb ho (hK.2.2.2.2.1 _ _ _ hq) hd kk
theorem zs_acmp_eq {x y : Nat} {off : Int} {tgt : Nat} (hd : decode cc pc = .ok (.if_acmp .eq off, 3)) (ht : (pc : Int) + off = (tgt : Int)) (k1 : zs_Sim D Rl bd Fn own cc nL rt nm d M tgt lv st o1 K) (k2 : zs_Sim D Rl bd Fn own cc nL rt nm d M (pc + 3) lv st o2 K) : zs_Sim D Rl bd Fn own cc nL rt nm d M pc lv (.ref y :: .ref x :: st) (if x = y then o1 else o2) K :=
  zs_br (fun _ _ _ _ _ _ _ _ _ _ _ _ _ _ _ _ hx hb a b => lv_acmp_eq (rx := some x) (ry := some y) hx hb hd ht (fun z => a (Option.some.inj z)) (fun z => b (fun w => z (congrArg some w)))) k1 k2
theorem zs_acmp_ne {x y : Nat} {off : Int} {tgt : Nat} (hd : decode cc pc = .ok (.if_acmp .ne off, 3)) (ht : (pc : Int) + off = (tgt : Int)) (k2 : zs_Sim D Rl bd Fn own cc nL rt nm d M (pc + 3) lv st o1 K) (k1 : zs_Sim D Rl bd Fn own cc nL rt nm d M tgt lv st o2 K) : zs_Sim D Rl bd Fn own cc nL rt nm d M pc lv (.ref y :: .ref x :: st) (if x = y then o1 else o2) K :=
  zs_br (fun _ _ _ _ _ _ _ _ _ _ _ _ _ _ _ _ hx hb a b => lv_acmp_ne (rx := some x) (ry := some y) hx hb hd ht (fun z => b (fun w => z (congrArg some w))) (fun z => a (Option.some.inj z))) k2 k1
theorem zs_instS {ci N a i : Nat} {C : String} {T : u_T} {ty : Nat → FieldType} (hc : zs_cls ci C T N ty) (hq : Cond.classLink own i C ∈ lw_all) (hL : ∀ h, Rl M h → ∃ k f, h.2.2 a = some (ci, k, f)) (hd : decode cc pc = .ok (.instanceof i, 3)) (k : zs_Sim D Rl bd Fn own cc nL rt nm d M (pc + 3) lv (.int 1 :: st) o K) : zs_Sim D Rl bd Fn own cc nL rt nm d M pc lv (.ref a :: st) o K := by
  refine zs_hmap ?_ k
  intro p l e R s m args below meth c H locs cells slots Q h ls hx hb ho hwd hK hR hZ kk
  obtain ⟨kb, fb, eb⟩ := hL h hR
  obtain ⟨rr, q1, q2, cell, q3, q4, q5, -⟩ := zs_obj hZ eb hc.1
  have hcl : s.vm.findClass C = some cell.cls := by rw [q4]; exact (hK.1 ci (C, T, N) hc.2.1).2.1
  exact va_instS hx hb ho (hwd _ hq) (hK.1 ci (C, T, N) hc.2.1).2 ⟨cell, q3, by rw [q5]; rfl, hcl⟩ hd kk
/-- Object's own constructor -/
theorem zs_objI {a i : Nat} (hl : Cond.methodLink own i Lib.objectInit ∈ lw_all) (hi : Cond.instanceMethod Lib.objectInit ∈ lw_all) (hcd : Cond.code Lib.objectInit ⟨#[0xb1]⟩ 1 none ∈ lw_all) (hd : decode cc pc = .ok (.invokespecial i, 3)) (hdd : 1 ≤ d) (hw : (st.map fun v => v.category).sum ≤ 8) (k : zs_Sim D Rl bd Fn own cc nL rt nm d M (pc + 3) lv st o K) : zs_Sim D Rl bd Fn own cc nL rt nm d M pc lv (.ref a :: st) o K := by
  intro r M' ee
  obtain ⟨hm, k⟩ := k r M' ee
  refine ⟨hm, fun p l e R s m args below meth c H locs cells slots h ls C0 h1 h2 h3 h4 hR hZ hS hl9 => ?_⟩
  have Cx := C0
  obtain ⟨c1, c2, -, -, c5, c6, c7, c8, -⟩ := C0
  exact W.objInit c1 c2 c6 (c7 _ hl) (c7 _ hi) (c7 _ hcd) rfl (hl9.1.trans c5.symm) rfl hd (by omega) (by show 2 * 0 + (st.map fun v => v.category).sum + 12 ≤ R.locals; omega) (k p l e R s m args below meth c H locs cells slots h ls Cx h1 h2 h3 h4 hR hZ hS hl9)
end ZN
