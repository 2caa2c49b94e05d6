/-! arrays of references, casts, the list's members -/
set_option maxRecDepth 100000
def zs_ix (n : Nat) (i : Int32) : Option Nat := if zs_in i n then some i.toNatClampNeg else none
section ZF
variable {σ α β : Type} {D : zs_D} {Rl : σ → zs_AH → Prop} {bd : σ → Nat × Nat} {Fn : zs_Q σ α} {own : String} {cc : ByteArray} {nL : Nat} {rt : Option FieldType} {nm : String} {d : Nat} {M : σ} {pc : Nat} {lv : List (Nat × Value)} {st : List Value} {o : Option β} {K : β → Option (α × σ)}
theorem zs_none : zs_Sim D Rl bd Fn own cc nL rt nm d M pc lv st (none : Option β) K := fun r M' ee => by cases ee
theorem zs_hix {n : Nat} {i : Int32} {f : Nat → Option β} {st0 : List Value} (k : ∀ j, zs_in i n = true → j = i.toNatClampNeg → j < n → zs_Sim D Rl bd Fn own cc nL rt nm d M pc lv st0 (f j) K) : zs_Sim D Rl bd Fn own cc nL rt nm d M pc lv st0 ((zs_ix n i).bind f) K := by
  by_cases hin : zs_in i n = true
  · exact zs_eqo (o2 := f i.toNatClampNeg) (by unfold zs_ix; rw [if_pos hin]; rfl) (k _ hin rfl (zs_in_lt hin))
  · exact zs_eqo (o2 := none) (by unfold zs_ix; rw [if_neg hin]; rfl) zs_none
/-- an element of an array of references -/
theorem zs_aald {t n a : Nat} {ty : FieldType} {i : Int32} {f : Nat → Option β} {F : Nat → Value} (ht : zs_T[t]? = some ty) (hr : ty.isReference = true) (hL : ∀ h, Rl M h → ∃ G, h.2.2 a = some (64 + t, n, G) ∧ ∀ k, k < n → G k = F k) (hd : decode cc pc = .ok (.aaload, 1)) (k : ∀ j, j < n → zs_Sim D Rl bd Fn own cc nL rt nm d M (pc + 1) lv (F j :: st) (f j) K) : zs_Sim D Rl bd Fn own cc nL rt nm d M pc lv (.int i :: .ref a :: st) ((zs_ix n i).bind f) K := by
  refine zs_hix fun j hin hj hlt => ?_
  subst hj
  refine zs_hmap ?_ (k _ hlt)
  intro p l e R s m args below meth c H locs cells slots Q h ls hx hb ho hw hK hR hZ kk
  obtain ⟨G, e1, e2⟩ := hL h hR
  exact W.aald (v := F i.toNatClampNeg) (ty := ty) hx hb (zs_arr hZ e1) ((hK.2.1 t ty ht).1 n _) hr (fun q => by cases q) (by rw [arrV_size]; exact zs_in_not hin) (by rw [arrV_read _ _ (zs_in_lt hin), e2 _ (zs_in_lt hin)]) rfl rfl hd kk
theorem zs_alen {t n a : Nat} {ty : FieldType} {F : Nat → Value} (ht : zs_T[t]? = some ty) (hL : ∀ h, Rl M h → h.2.2 a = some (64 + t, n, F)) (hd : decode cc pc = .ok (.arraylength, 1)) (k : zs_Sim D Rl bd Fn own cc nL rt nm d M (pc + 1) lv (.int (Int32.ofNat n) :: st) o K) : zs_Sim D Rl bd Fn own cc nL rt nm d M pc lv (.ref a :: st) o K := by
  refine zs_hmap ?_ k
  intro p l e R s m args below meth c H locs cells slots Q h ls hx hb ho hw hK hR hZ kk
  exact W.alen hx hb (zs_arr hZ (hL h hR)) ((hK.2.1 t ty ht).1 n _) (by rw [arrV_size]) rfl rfl hd kk
/-- a cast of an object of a known class -/
theorem zs_cast {ci N a i : Nat} {C nm' : String} {T : u_T} {ty : Nat → FieldType} (hc : zs_cls ci C T N ty) (hq : Cond.classLink own i nm' ∈ lw_all) (hw : Cond.castable C nm' ∈ lw_tbl) (hL : ∀ h, Rl M h → ∃ k f, h.2.2 a = some (ci, k, f)) (hd : decode cc pc = .ok (.checkcast i, 3)) (k : zs_Sim D Rl bd Fn own cc nL rt nm d M (pc + 3) lv (.ref a :: st) o K) : zs_Sim D Rl bd Fn own cc nL rt nm d M pc lv (.ref a :: st) o K := by
  refine zs_hmap ?_ k
  intro p l e R s m args below meth c H locs cells slots Q h ls hx hb ho hwd hK hR hZ kk
  obtain ⟨kb, fb, eb⟩ := hL h hR
  obtain ⟨rr, q1, q2, cell, q3, q4, q5, -⟩ := zs_obj hZ eb hc.1
  have hcl : s.vm.findClass C = some cell.cls := by rw [q4]; exact (hK.1 ci (C, T, N) hc.2.1).2.1
  exact va_castY hx hb ho (hwd _ hq) (hK.2.2.1.1 _ _ hw) ⟨cell, q3, by rw [q5]; rfl, hcl⟩ hd kk
theorem zs_castS {ci N a i : Nat} {C : String} {T : u_T} {ty : Nat → FieldType} (hc : zs_cls ci C T N ty) (hq : Cond.classLink own i C ∈ lw_all) (hL : ∀ h, Rl M h → ∃ k f, h.2.2 a = some (ci, k, f)) (hd : decode cc pc = .ok (.checkcast i, 3)) (k : zs_Sim D Rl bd Fn own cc nL rt nm d M (pc + 3) lv (.ref a :: st) o K) : zs_Sim D Rl bd Fn own cc nL rt nm d M pc lv (.ref a :: st) o K := by
  refine zs_hmap ?_ k
  intro p l e R s m args below meth c H locs cells slots Q h ls hx hb ho hwd hK hR hZ kk
  obtain ⟨kb, fb, eb⟩ := hL h hR
  obtain ⟨rr, q1, q2, cell, q3, q4, q5, -⟩ := zs_obj hZ eb hc.1
  have hcl : s.vm.findClass C = some cell.cls := by rw [q4]; exact (hK.1 ci (C, T, N) hc.2.1).2.1
  exact va_castS hx hb ho (hwd _ hq) (hK.1 ci (C, T, N) hc.2.1).2 ⟨cell, q3, by rw [q5]; rfl, hcl⟩ hd kk
theorem zs_ifnonnull {x : Nat} {off : Int} {tgt : Nat} (hd : decode cc pc = .ok (.ifnonnull off, 3)) (ht : (pc : Int) + off = (tgt : Int)) (k : zs_Sim D Rl bd Fn own cc nL rt nm d M tgt lv st o K) : zs_Sim D Rl bd Fn own cc nL rt nm d M pc lv (.ref x :: st) o K :=
  zs_map (fun _ _ _ _ _ _ _ _ _ _ _ _ _ _ _ ls hx hb _ _ h kk => lv_ifnonnull hx hb hd ht (kk ls h)) k
theorem zs_ifnonnullN {off : Int} (hd : decode cc pc = .ok (.ifnonnull off, 3)) (k : zs_Sim D Rl bd Fn own cc nL rt nm d M (pc + 3) lv st o K) : zs_Sim D Rl bd Fn own cc nL rt nm d M pc lv (.null :: st) o K :=
  zs_map (fun _ _ _ _ _ _ _ _ _ _ _ _ _ _ _ ls hx hb _ _ h kk => lv_ifnonnullN hx hb hd (kk ls h)) k
theorem zs_aload_nN {j : Fin 4} {i : Nat} (q : Nat) (hd : decode cc pc = .ok (.aload_n j, 1)) (hi : (j : Nat) = i) (hl : lv[q]? = some (i, .null)) (k : zs_Sim D Rl bd Fn own cc nL rt nm d M (pc + 1) lv (.null :: st) o K) : zs_Sim D Rl bd Fn own cc nL rt nm d M pc lv st o K :=
  zs_map (fun _ _ _ _ _ _ _ _ _ _ _ _ _ _ _ ls hx hb _ _ h kk => lv_aload_nN hx hb hd hi (lv_at h q hl) (kk ls h)) k
def zs_max (x y : Int32) : Int32 := if x < y then y else x
def zs_min (x y : Int32) : Int32 := if y < x then y else x
theorem zs_mcode {n : String} {b b' : ByteArray} (h : Cond.code ⟨"java/lang/Math", n, "(II)I"⟩ b 2 (some .int) ∈ lw_all) (e : b = b') : Cond.code ⟨"java/lang/Math", n, "(II)I"⟩ b' 2 (some .int) ∈ lw_all := e ▸ h
theorem zs_mmax {i : Nat} {x y : Int32} (hl : Cond.methodLink own i ⟨"java/lang/Math", "max", "(II)I"⟩ ∈ lw_all) (hd : decode cc pc = .ok (.invokestatic i, 3)) (hdd : 0 + 1 ≤ d) (hw : (st.map fun v => v.category).sum ≤ 8) (k : zs_Sim D Rl bd Fn own cc nL rt nm d M (pc + 3) lv (.int (zs_max x y) :: st) o K) : zs_Sim D Rl bd Fn own cc nL rt nm d M pc lv (.int y :: .int x :: st) o K := by
  intro r M' ee
  obtain ⟨hm, k⟩ := k r M' ee
  refine ⟨hm, fun p l e R s m args below meth c H locs cells slots h ls C h1 h2 h3 h4 hR hZ hS hlv => ?_⟩
  have C0 := C
  obtain ⟨c1, c2, c3, c4, c5, c6, c7, c8, -⟩ := C
  exact va_mmax c1 c2 (c5.trans hlv.1.symm) c6 (c7 _ hl) (c7 _ q900) (c7 _ q165) (c7 _ (zs_mcode q901 (by decide +kernel))) (by omega) (by omega) (by omega) (by omega) hd (k p l e R s m args below meth c H locs cells slots h ls C0 h1 h2 h3 h4 hR hZ hS hlv)
theorem zs_mmin {i : Nat} {x y : Int32} (hl : Cond.methodLink own i ⟨"java/lang/Math", "min", "(II)I"⟩ ∈ lw_all) (hd : decode cc pc = .ok (.invokestatic i, 3)) (hdd : 0 + 1 ≤ d) (hw : (st.map fun v => v.category).sum ≤ 8) (k : zs_Sim D Rl bd Fn own cc nL rt nm d M (pc + 3) lv (.int (zs_min x y) :: st) o K) : zs_Sim D Rl bd Fn own cc nL rt nm d M pc lv (.int y :: .int x :: st) o K := by
  intro r M' ee
  obtain ⟨hm, k⟩ := k r M' ee
  refine ⟨hm, fun p l e R s m args below meth c H locs cells slots h ls C h1 h2 h3 h4 hR hZ hS hlv => ?_⟩
  have C0 := C
  obtain ⟨c1, c2, c3, c4, c5, c6, c7, c8, -⟩ := C
  exact va_mmin c1 c2 (c5.trans hlv.1.symm) c6 (c7 _ hl) (c7 _ q918) (c7 _ q165) (c7 _ (zs_mcode q919 (by decide +kernel))) (by omega) (by omega) (by omega) (by omega) hd (k p l e R s m args below meth c H locs cells slots h ls C0 h1 h2 h3 h4 hR hZ hS hlv)
/-- System.arraycopy of whole int arrays of one length -/
theorem zs_copyi {M1 : σ} {i a0 a n : Nat} {sp dp z : Int32} {F G : Nat → Int32} (hl : Cond.methodLink own i arraycopyName ∈ lw_all) (hd : decode cc pc = .ok (.invokestatic i, 3)) (hdd : 0 + 1 ≤ d) (hw : (st.map fun v => v.category).sum ≤ 8) (hs : sp = 0) (hp : dp = 0) (hz : z = Int32.ofNat n) (hn : n < 2 ^ 31) (hbd : bd M1 = bd M) (h0 : ∀ h, Rl M h → h.2.2 a0 = some (64, n, fun j => .int (F j))) (hL : ∀ h, Rl M h → h.2.2 a = some (64, n, fun j => .int (G j)) ∧ h.1 ≤ a ∧ Rl M1 (zs_up h a (64, n, fun j => .int (va_cpy F G 0 0 n j)))) (k : zs_Sim D Rl bd Fn own cc nL rt nm d M1 (pc + 3) lv st o K) : zs_Sim D Rl bd Fn own cc nL rt nm d M pc lv (.int z :: .int dp :: .ref a :: .int sp :: .ref a0 :: st) o K := by
  intro r M' ee
  obtain ⟨hm, k⟩ := k r M' ee
  rw [hbd] at hm k
  refine ⟨hm, fun p l e R s m args below meth c H locs cells slots h ls C h1 h2 h3 h4 hR hZ hS hlv => ?_⟩
  have C0 := C
  obtain ⟨c1, c2, c3, c4, c5, c6, c7, c8, -⟩ := C
  obtain ⟨e1, e2, e3⟩ := hL h hR
  have hc0 := zs_arr (t := 0) hZ (h0 h hR)
  have hc1 := zs_arr (t := 0) hZ e1
  obtain ⟨-, k0, hk0, cm0, hkk0⟩ := (c8.2.1 0 .int rfl).1 n (fun j => .int (F j))
  subst hs hp hz
  have hcl : (Int32.ofNat n).toNatClampNeg = n := nI_clamp hn
  have hti : (Int32.ofNat n).toInt = (n : Int) := nI_toInt hn
  have hnw : nativeFrameWords "java/lang/System" "arraycopy" 5 ≤ 40 := by decide +kernel
  intro T hT X
  obtain ⟨vm', X', step⟩ := X.arraycopy c1 c6 (c7 _ hl) (c7 _ q922) (c7 _ q921) (c7 _ q167) (src := a0) (dst := a) (cs := arrV (D.2.1 0) n (fun j => .int (F j))) (cd := arrV (D.2.1 0) n (fun j => .int (G j))) (srcPos := 0) (destPos := 0) (n := Int32.ofNat n) (by rw [hT]; exact hc0) (by rw [hT]; exact hc1)
    (fun _ h => by cases h) (fun _ h => by cases h) (fun h => by cases h) (fun h => by cases h) hk0 hk0 hkk0 hkk0 (by simp [refKind]) (by decide) (by decide) (nI_pos hn)
    (by rw [hti, arrV_size]; show ¬ ((0 : Int) + n > n); omega) (by rw [hti, arrV_size]; show ¬ ((0 : Int) + n > n); omega)
    (fun vm₁ _ i hi => by
      have e : (arrV (D.2.1 0) n (fun j => Value.int (F j))).slots.getD ((0 : Int32).toNatClampNeg + i) .null = .int (F (0 + i)) := by
        rw [hcl] at hi
        rw [Array.getD_eq_getD_getElem?, show (0 : Int32).toNatClampNeg = 0 from rfl, arrV_read _ _ (by omega)]
        rfl
      exact ⟨by rw [e]; rfl, by rw [e]; exact trivial⟩)
    (g := F0 m pc ls (.int (Int32.ofNat n) :: .int 0 :: .ref a :: .int 0 :: .ref a0 :: st)) rfl (by rw [c5]; exact hlv.1) (rest := st) rfl (by rw [c2]; exact hd) (by omega) (by show 2 * 0 + _ + _ ≤ _; omega)
  have e9 : copied (arrV (D.2.1 0) n (fun j => Value.int (F j))) (arrV (D.2.1 0) n (fun j => .int (G j))) 0 0 (Int32.ofNat n) = arrV (D.2.1 0) n (fun j => .int (va_cpy F G 0 0 n j)) := by
    have h9 := va_copied (fun z => Value.int z) (D.2.1 0) (D.2.1 0) (n0 := n) (n1 := n) (sp := 0) (dp := 0) (n := n) F G (by omega)
    unfold copied
    rw [hcl]
    exact h9
  rw [e9] at X' step
  have hla : a < H.size := (Array.getElem?_eq_some_iff.mp hc1).1
  have hheap : ((T.setVm vm').setCell a (arrV (D.2.1 0) n (fun j => .int (va_cpy F G 0 0 n j)))).heap = H.setIfInBounds a (arrV (D.2.1 0) n (fun j => .int (va_cpy F G 0 0 n j))) := by rw [← hT]; rfl
  have oq : ∀ q : Nat, q ≠ a → (H.setIfInBounds a (arrV (D.2.1 0) n (fun j => .int (va_cpy F G 0 0 n j))))[q]? = H[q]? := fun q hq => by simp [Array.getElem?_setIfInBounds, Ne.symm hq]
  have oz : (H.setIfInBounds a (arrV (D.2.1 0) n (fun j => .int (va_cpy F G 0 0 n j)))).size = H.size := by simp
  have ha : (H.setIfInBounds a (arrV (D.2.1 0) n (fun j => .int (va_cpy F G 0 0 n j))))[a]? = some (arrV (D.2.1 0) n (fun j => .int (va_cpy F G 0 0 n j))) := by simp [Array.getElem?_setIfInBounds, hla]
  have hX : ∀ L : List Loc, (∀ q ∈ L, h.1 ≤ q.base) → zs_S h.1 s.heap (H.setIfInBounds a (arrV (D.2.1 0) n (fun j => .int (va_cpy F G 0 0 n j)))) (locs ++ L) := fun L hL => zs_S_call hS (Nat.le_of_eq oz.symm) (fun q _ hb => oq q (fun z => hb (z ▸ e2))) hL
  rw [hcl] at X'
  obtain ⟨t, a1, b1⟩ := k p l e R s m args below meth c _ _ cells slots (zs_up h a (64, n, fun j => .int (va_cpy F G 0 0 n j))) ls C0 h1 h2 h3 h4 e3 (zs_R_up hZ oz oq (Or.inr ⟨Nat.le_refl 64, ha⟩)) (hX _ (by intro q hq; obtain ⟨z, -, hz⟩ := List.mem_map.mp hq; rw [← hz]; exact e2)) hlv _ hheap X'
  exact ⟨t, step t a1, b1⟩
end ZF
theorem pl_J5 : plainName RJ5 = true := by decide +kernel
theorem pl_J6 : plainName RJ6 = true := by decide +kernel
theorem pl_J7 : plainName RJ7 = true := by decide +kernel
theorem pl_J16 : plainName RJ16 = true := by decide +kernel
theorem pl_X0 : plainName RX0 = true := by decide +kernel
theorem pl_X5 : plainName RX5 = true := by decide +kernel
theorem kv_J16_bitCount : zs_mS yJ16_bitCount cJ16_bitCount 1 (some .int) 1 := ⟨q1397, q168, q1398, by decide, by decide +kernel⟩
def g_J16_bitCount (a0 : Int32) : Option (Int32) :=
(some (a0 - ((zs_ushr a0 1) &&& 1431655765))).bind fun x1 =>
(some ((x1 &&& 858993459) + ((zs_ushr x1 2) &&& 858993459))).bind fun x2 =>
(some ((x2 + (zs_ushr x2 4)) &&& 252645135)).bind fun x3 =>
(some (x3 + (zs_ushr x3 8))).bind fun x4 =>
(some (x4 + (zs_ushr x4 16))).bind fun x5 =>
some (x5 &&& 63)
set_option maxHeartbeats 4000000 in
theorem k_J16_bitCount {σ : Type} (D : zs_D) (Rl : σ → zs_AH → Prop) (bd : σ → Nat × Nat) (M : σ) (a0 : Int32) : zs_Con D Rl bd zs_eI yJ16_bitCount cJ16_bitCount 1 (some .int) 0 [.int a0] M ((g_J16_bitCount a0).map fun x => (x, M)) := by
  unfold g_J16_bitCount
  refine zs_conR (own := RJ16) (nm := "bitCount") pl_J16 rfl rfl (Nat.le_of_ble_eq_true rfl) ?_
  refine zs_lv (lv' := [(0, .int a0)]) rfl ?_
  refine zs_iload_n (pc := 0) 0 dJ16_bitCount_0 rfl rfl ?_
  refine zs_iload_n (pc := 1) 0 dJ16_bitCount_1 rfl rfl ?_
  refine zs_iconst (pc := 2) (v := 1) dJ16_bitCount_2 rfl ?_
  refine zs_iushr (pc := 3) dJ16_bitCount_3 ?_
  refine zs_ldcw (pc := 4) (v := 1431655765) q1399 dJ16_bitCount_4 ?_
  refine zs_iand (pc := 7) dJ16_bitCount_7 ?_
  refine zs_isub (pc := 8) dJ16_bitCount_8 ?_
  refine zs_nm (fun x1 => ?_)
  refine zs_istore_n (pc := 9) (lv' := [(0, .int x1)]) [0] dJ16_bitCount_9 rfl (by decide) rfl ?_
  refine zs_iload_n (pc := 10) 0 dJ16_bitCount_10 rfl rfl ?_
  refine zs_ldcw (pc := 11) (v := 858993459) q1400 dJ16_bitCount_11 ?_
  refine zs_iand (pc := 14) dJ16_bitCount_14 ?_
  refine zs_iload_n (pc := 15) 0 dJ16_bitCount_15 rfl rfl ?_
  refine zs_iconst (pc := 16) (v := 2) dJ16_bitCount_16 rfl ?_
  refine zs_iushr (pc := 17) dJ16_bitCount_17 ?_
  refine zs_ldcw (pc := 18) (v := 858993459) q1400 dJ16_bitCount_18 ?_
  refine zs_iand (pc := 21) dJ16_bitCount_21 ?_
  refine zs_iadd (pc := 22) dJ16_bitCount_22 ?_
  refine zs_nm (fun x2 => ?_)
  refine zs_istore_n (pc := 23) (lv' := [(0, .int x2)]) [0] dJ16_bitCount_23 rfl (by decide) rfl ?_
  refine zs_iload_n (pc := 24) 0 dJ16_bitCount_24 rfl rfl ?_
  refine zs_iload_n (pc := 25) 0 dJ16_bitCount_25 rfl rfl ?_
  refine zs_iconst (pc := 26) (v := 4) dJ16_bitCount_26 rfl ?_
  refine zs_iushr (pc := 27) dJ16_bitCount_27 ?_
  refine zs_iadd (pc := 28) dJ16_bitCount_28 ?_
  refine zs_ldcw (pc := 29) (v := 252645135) q1401 dJ16_bitCount_29 ?_
  refine zs_iand (pc := 32) dJ16_bitCount_32 ?_
  refine zs_nm (fun x3 => ?_)
  refine zs_istore_n (pc := 33) (lv' := [(0, .int x3)]) [0] dJ16_bitCount_33 rfl (by decide) rfl ?_
  refine zs_iload_n (pc := 34) 0 dJ16_bitCount_34 rfl rfl ?_
  refine zs_iload_n (pc := 35) 0 dJ16_bitCount_35 rfl rfl ?_
  refine zs_bipush (pc := 36) (v := 8) dJ16_bitCount_36 (by decide) ?_
  refine zs_iushr (pc := 38) dJ16_bitCount_38 ?_
  refine zs_iadd (pc := 39) dJ16_bitCount_39 ?_
  refine zs_nm (fun x4 => ?_)
  refine zs_istore_n (pc := 40) (lv' := [(0, .int x4)]) [0] dJ16_bitCount_40 rfl (by decide) rfl ?_
  refine zs_iload_n (pc := 41) 0 dJ16_bitCount_41 rfl rfl ?_
  refine zs_iload_n (pc := 42) 0 dJ16_bitCount_42 rfl rfl ?_
  refine zs_bipush (pc := 43) (v := 16) dJ16_bitCount_43 (by decide) ?_
  refine zs_iushr (pc := 45) dJ16_bitCount_45 ?_
  refine zs_iadd (pc := 46) dJ16_bitCount_46 ?_
  refine zs_nm (fun x5 => ?_)
  refine zs_istore_n (pc := 47) (lv' := [(0, .int x5)]) [0] dJ16_bitCount_47 rfl (by decide) rfl ?_
  refine zs_iload_n (pc := 48) 0 dJ16_bitCount_48 rfl rfl ?_
  refine zs_bipush (pc := 49) (v := 63) dJ16_bitCount_49 (by decide) ?_
  refine zs_iand (pc := 51) dJ16_bitCount_51 ?_
  exact zs_iret (pc := 52) dJ16_bitCount_52 rfl rfl rfl
theorem kv_J16_numberOfTrailingZeros : zs_mS yJ16_numberOfTrailingZeros cJ16_numberOfTrailingZeros 2 (some .int) 1 := ⟨q1371, q168, q1372, by decide, by decide +kernel⟩
def g_J16_numberOfTrailingZeros (a0 : Int32) : Option (Int32) :=
(some ((a0 ^^^ (-1)) &&& (a0 - 1))).bind fun x1 =>
if 0 < x1 then ((if 65536 < x1 then ((some (zs_ushr x1 16)).bind fun x9 =>
some (x9, (1 + 16)))
else (some (x1, 1))).bind fun (p2 : Int32 × Int32) =>
(if 256 < p2.1 then ((some (zs_ushr p2.1 8)).bind fun x8 =>
some (x8, (p2.2 + 8)))
else (some (p2.1, p2.2))).bind fun (p3 : Int32 × Int32) =>
(if 16 < p3.1 then ((some (zs_ushr p3.1 4)).bind fun x7 =>
some (x7, (p3.2 + 4)))
else (some (p3.1, p3.2))).bind fun (p4 : Int32 × Int32) =>
(if 4 < p4.1 then ((some (zs_ushr p4.1 2)).bind fun x6 =>
some (x6, (p4.2 + 2)))
else (some (p4.1, p4.2))).bind fun (p5 : Int32 × Int32) =>
some (p5.2 + (zs_ushr p5.1 1)))
else (some (x1 &&& 32))
set_option maxHeartbeats 4000000 in
theorem k_J16_numberOfTrailingZeros {σ : Type} (D : zs_D) (Rl : σ → zs_AH → Prop) (bd : σ → Nat × Nat) (M : σ) (a0 : Int32) : zs_Con D Rl bd zs_eI yJ16_numberOfTrailingZeros cJ16_numberOfTrailingZeros 2 (some .int) 0 [.int a0] M ((g_J16_numberOfTrailingZeros a0).map fun x => (x, M)) := by
  unfold g_J16_numberOfTrailingZeros
  refine zs_conR (own := RJ16) (nm := "numberOfTrailingZeros") pl_J16 rfl rfl (Nat.le_of_ble_eq_true rfl) ?_
  refine zs_lv (lv' := [(0, .int a0)]) rfl ?_
  refine zs_iload_n (pc := 0) 0 dJ16_numberOfTrailingZeros_0 rfl rfl ?_
  refine zs_iconst (pc := 1) (v := (-1)) dJ16_numberOfTrailingZeros_1 rfl ?_
  refine zs_ixor (pc := 2) dJ16_numberOfTrailingZeros_2 ?_
  refine zs_iload_n (pc := 3) 0 dJ16_numberOfTrailingZeros_3 rfl rfl ?_
  refine zs_iconst (pc := 4) (v := 1) dJ16_numberOfTrailingZeros_4 rfl ?_
  refine zs_isub (pc := 5) dJ16_numberOfTrailingZeros_5 ?_
  refine zs_iand (pc := 6) dJ16_numberOfTrailingZeros_6 ?_
  refine zs_nm (fun x1 => ?_)
  refine zs_istore_n (pc := 7) (lv' := [(0, .int x1)]) [0] dJ16_numberOfTrailingZeros_7 rfl (by decide) rfl ?_
  refine zs_iload_n (pc := 8) 0 dJ16_numberOfTrailingZeros_8 rfl rfl ?_
  refine zs_if_gt (pc := 9) (tgt := 17) dJ16_numberOfTrailingZeros_9 (by decide) ?_ ?_
  · refine zs_iconst (pc := 17) (v := 1) dJ16_numberOfTrailingZeros_17 rfl ?_
    refine zs_istore_n (pc := 18) (lv' := [(0, .int x1), (1, .int 1)]) [1, 0] dJ16_numberOfTrailingZeros_18 rfl (by decide) rfl ?_
    refine zs_iload_n (pc := 19) 0 dJ16_numberOfTrailingZeros_19 rfl rfl ?_
    refine zs_ldcw (pc := 20) (v := 65536) q1373 dJ16_numberOfTrailingZeros_20 ?_
    refine zs_join (pc := 23) (fun (p2 : Int32 × Int32) => M) 34 (fun (p2 : Int32 × Int32) => [(0, .int p2.1), (1, .int p2.2)]) (fun (p2 : Int32 × Int32) => []) (fun p2 => ?_) (fun h34 => ?_)
    · refine zs_iload_n (pc := 34) 0 dJ16_numberOfTrailingZeros_34 rfl rfl ?_
      refine zs_sipush (pc := 35) (v := 256) dJ16_numberOfTrailingZeros_35 (by decide) ?_
      refine zs_join (pc := 38) (fun (p3 : Int32 × Int32) => M) 49 (fun (p3 : Int32 × Int32) => [(0, .int p3.1), (1, .int p3.2)]) (fun (p3 : Int32 × Int32) => []) (fun p3 => ?_) (fun h49 => ?_)
      · refine zs_iload_n (pc := 49) 0 dJ16_numberOfTrailingZeros_49 rfl rfl ?_
        refine zs_bipush (pc := 50) (v := 16) dJ16_numberOfTrailingZeros_50 (by decide) ?_
        refine zs_join (pc := 52) (fun (p4 : Int32 × Int32) => M) 62 (fun (p4 : Int32 × Int32) => [(0, .int p4.1), (1, .int p4.2)]) (fun (p4 : Int32 × Int32) => []) (fun p4 => ?_) (fun h62 => ?_)
        · refine zs_iload_n (pc := 62) 0 dJ16_numberOfTrailingZeros_62 rfl rfl ?_
          refine zs_iconst (pc := 63) (v := 4) dJ16_numberOfTrailingZeros_63 rfl ?_
          refine zs_join (pc := 64) (fun (p5 : Int32 × Int32) => M) 74 (fun (p5 : Int32 × Int32) => [(0, .int p5.1), (1, .int p5.2)]) (fun (p5 : Int32 × Int32) => []) (fun p5 => ?_) (fun h74 => ?_)
          · refine zs_iload_n (pc := 74) 1 dJ16_numberOfTrailingZeros_74 rfl rfl ?_
            refine zs_iload_n (pc := 75) 0 dJ16_numberOfTrailingZeros_75 rfl rfl ?_
            refine zs_iconst (pc := 76) (v := 1) dJ16_numberOfTrailingZeros_76 rfl ?_
            refine zs_iushr (pc := 77) dJ16_numberOfTrailingZeros_77 ?_
            refine zs_iadd (pc := 78) dJ16_numberOfTrailingZeros_78 ?_
            exact zs_iret (pc := 79) dJ16_numberOfTrailingZeros_79 rfl rfl rfl
          · refine zs_icmp_le (pc := 64) (tgt := 74) dJ16_numberOfTrailingZeros_64 (by decide) ?_ ?_
            · refine zs_iinc (pc := 67) (lv' := [(0, .int p4.1), (1, .int (p4.2 + 2))]) 1 [1, 0] dJ16_numberOfTrailingZeros_67 rfl rfl (by decide) rfl ?_
              refine zs_iload_n (pc := 70) 0 dJ16_numberOfTrailingZeros_70 rfl rfl ?_
              refine zs_iconst (pc := 71) (v := 2) dJ16_numberOfTrailingZeros_71 rfl ?_
              refine zs_iushr (pc := 72) dJ16_numberOfTrailingZeros_72 ?_
              refine zs_nm (fun x6 => ?_)
              refine zs_istore_n (pc := 73) (lv' := [(0, .int x6), (1, .int (p4.2 + 2))]) [0, 1] dJ16_numberOfTrailingZeros_73 rfl (by decide) rfl ?_
              exact h74 (x6, (p4.2 + 2))
            · exact h74 (p4.1, p4.2)
        · refine zs_icmp_le (pc := 52) (tgt := 62) dJ16_numberOfTrailingZeros_52 (by decide) ?_ ?_
          · refine zs_iinc (pc := 55) (lv' := [(0, .int p3.1), (1, .int (p3.2 + 4))]) 1 [1, 0] dJ16_numberOfTrailingZeros_55 rfl rfl (by decide) rfl ?_
            refine zs_iload_n (pc := 58) 0 dJ16_numberOfTrailingZeros_58 rfl rfl ?_
            refine zs_iconst (pc := 59) (v := 4) dJ16_numberOfTrailingZeros_59 rfl ?_
            refine zs_iushr (pc := 60) dJ16_numberOfTrailingZeros_60 ?_
            refine zs_nm (fun x7 => ?_)
            refine zs_istore_n (pc := 61) (lv' := [(0, .int x7), (1, .int (p3.2 + 4))]) [0, 1] dJ16_numberOfTrailingZeros_61 rfl (by decide) rfl ?_
            exact h62 (x7, (p3.2 + 4))
          · exact h62 (p3.1, p3.2)
      · refine zs_icmp_le (pc := 38) (tgt := 49) dJ16_numberOfTrailingZeros_38 (by decide) ?_ ?_
        · refine zs_iinc (pc := 41) (lv' := [(0, .int p2.1), (1, .int (p2.2 + 8))]) 1 [1, 0] dJ16_numberOfTrailingZeros_41 rfl rfl (by decide) rfl ?_
          refine zs_iload_n (pc := 44) 0 dJ16_numberOfTrailingZeros_44 rfl rfl ?_
          refine zs_bipush (pc := 45) (v := 8) dJ16_numberOfTrailingZeros_45 (by decide) ?_
          refine zs_iushr (pc := 47) dJ16_numberOfTrailingZeros_47 ?_
          refine zs_nm (fun x8 => ?_)
          refine zs_istore_n (pc := 48) (lv' := [(0, .int x8), (1, .int (p2.2 + 8))]) [0, 1] dJ16_numberOfTrailingZeros_48 rfl (by decide) rfl ?_
          exact h49 (x8, (p2.2 + 8))
        · exact h49 (p2.1, p2.2)
    · refine zs_icmp_le (pc := 23) (tgt := 34) dJ16_numberOfTrailingZeros_23 (by decide) ?_ ?_
      · refine zs_iinc (pc := 26) (lv' := [(0, .int x1), (1, .int (1 + 16))]) 1 [1, 0] dJ16_numberOfTrailingZeros_26 rfl rfl (by decide) rfl ?_
        refine zs_iload_n (pc := 29) 0 dJ16_numberOfTrailingZeros_29 rfl rfl ?_
        refine zs_bipush (pc := 30) (v := 16) dJ16_numberOfTrailingZeros_30 (by decide) ?_
        refine zs_iushr (pc := 32) dJ16_numberOfTrailingZeros_32 ?_
        refine zs_nm (fun x9 => ?_)
        refine zs_istore_n (pc := 33) (lv' := [(0, .int x9), (1, .int (1 + 16))]) [0, 1] dJ16_numberOfTrailingZeros_33 rfl (by decide) rfl ?_
        exact h34 (x9, (1 + 16))
      · exact h34 (x1, 1)
  · refine zs_iload_n (pc := 12) 0 dJ16_numberOfTrailingZeros_12 rfl rfl ?_
    refine zs_bipush (pc := 13) (v := 32) dJ16_numberOfTrailingZeros_13 (by decide) ?_
    refine zs_iand (pc := 15) dJ16_numberOfTrailingZeros_15 ?_
    exact zs_iret (pc := 16) dJ16_numberOfTrailingZeros_16 rfl rfl rfl
theorem kv_J7_checkIndex : zs_mS yJ7_checkIndex cJ7_checkIndex 3 (some .int) 3 := ⟨q522, q151, q523, by decide, by decide +kernel⟩
theorem kv_J6_checkIndex : zs_mS yJ6_checkIndex cJ6_checkIndex 2 (some .int) 2 := ⟨q519, q150, q520, by decide, by decide +kernel⟩
theorem kv_J5_size : zs_mV RJ5 yJ5_size cJ5_size 1 (some .int) 0 := ⟨q511, q512, q144, q513, by decide, by decide +kernel⟩
theorem kv_J5_get : zs_mV RJ5 yJ5_get cJ5_get 2 (some (.object "java/lang/Object")) 1 := ⟨q515, q516, q144, q517, by decide, by decide +kernel⟩
theorem kv_J5_elementData : zs_mV RJ5 yJ5_elementData cJ5_elementData 2 (some (.object "java/lang/Object")) 1 := ⟨q525, q526, q144, q527, by decide, by decide +kernel⟩
def g_ckix (a n : Int32) : Option Int32 := if a < 0 then none else if a < n then some a else none
theorem k_J7_checkIndex {σ : Type} (D : zs_D) (Rl : σ → zs_AH → Prop) (bd : σ → Nat × Nat) (M : σ) (a n : Int32) : zs_Con D Rl bd zs_eI yJ7_checkIndex cJ7_checkIndex 3 (some .int) 1 [.int a, .int n, .null] M ((g_ckix a n).map fun x => (x, M)) := by
  unfold g_ckix
  refine zs_conR (own := RJ7) (nm := "checkIndex") pl_J7 rfl rfl (Nat.le_of_ble_eq_true rfl) ?_
  refine zs_lv (lv' := [(0, .int a), (1, .int n), (2, .null)]) rfl ?_
  refine zs_iload_n (pc := 0) 0 dJ7_checkIndex_0 rfl rfl ?_
  refine zs_if_lt (pc := 1) (tgt := 9) dJ7_checkIndex_1 (by decide) zs_none ?_
  refine zs_iload_n (pc := 4) 0 dJ7_checkIndex_4 rfl rfl ?_
  refine zs_iload_n (pc := 5) 1 dJ7_checkIndex_5 rfl rfl ?_
  refine zs_icmp_lt (pc := 6) (tgt := 16) dJ7_checkIndex_6 (by decide) ?_ zs_none
  refine zs_iload_n (pc := 16) 0 dJ7_checkIndex_16 rfl rfl ?_
  exact zs_iret (pc := 17) dJ7_checkIndex_17 rfl rfl rfl
theorem k_J6_checkIndex {σ : Type} (D : zs_D) (Rl : σ → zs_AH → Prop) (bd : σ → Nat × Nat) (M : σ) (a n : Int32) : zs_Con D Rl bd zs_eI yJ6_checkIndex cJ6_checkIndex 2 (some .int) 2 [.int a, .int n] M ((g_ckix a n).map fun x => (x, M)) := by
  refine zs_conR (own := RJ6) (nm := "checkIndex") pl_J6 rfl rfl (Nat.le_of_ble_eq_true rfl) ?_
  refine zs_lv (lv' := [(0, .int a), (1, .int n)]) rfl ?_
  refine zs_eqo (o2 := (g_ckix a n).bind fun x => some x) (by cases g_ckix a n <;> rfl) ?_
  refine zs_iload_n (pc := 0) 0 dJ6_checkIndex_0 rfl rfl ?_
  refine zs_iload_n (pc := 1) 1 dJ6_checkIndex_1 rfl rfl ?_
  refine zs_null (pc := 2) dJ6_checkIndex_2 ?_
  refine zs_callSrI (pc := 3) [.int a, .int n, .null] [] (k_J7_checkIndex D _ _ M a n) kv_J7_checkIndex q521 dJ6_checkIndex_3 rfl rfl (Nat.le_of_ble_eq_true rfl) (Nat.le_of_ble_eq_true rfl) (fun x1 => ?_)
  exact zs_iret (pc := 6) dJ6_checkIndex_6 rfl rfl rfl
theorem k_J5_size {σ : Type} (D : zs_D) (Rl : σ → zs_AH → Prop) (bd : σ → Nat × Nat) (M : σ) (a : Nat) (n : Int32) (hL : ∀ h, Rl M h → ∃ f, h.2.2 a = some (17, 3, f) ∧ f 2 = .int n) : zs_Con D Rl bd zs_eI yJ5_size cJ5_size 1 (some .int) 0 [.ref a] M ((some n).map fun x => (x, M)) := by
  refine zs_conR (own := RJ5) (nm := "size") pl_J5 rfl rfl (Nat.le_of_ble_eq_true rfl) ?_
  refine zs_lv (lv' := [(0, .ref a)]) rfl ?_
  refine zs_aload_n (pc := 0) 0 dJ5_size_0 rfl rfl ?_
  refine zs_getf (pc := 1) (v := .int n) 2 zc_J5 (by decide) q361 hL dJ5_size_1 ?_
  exact zs_iret (pc := 4) dJ5_size_4 rfl rfl rfl
theorem k_J5_elementData {σ : Type} (D : zs_D) (Rl : σ → zs_AH → Prop) (bd : σ → Nat × Nat) (M : σ) (a e n : Nat) (i : Int32) (F : Nat → Nat) (hL : ∀ h, Rl M h → ∃ f, h.2.2 a = some (17, 3, f) ∧ f 1 = .ref e) (hE : ∀ h, Rl M h → ∃ G, h.2.2 e = some (73, n, G) ∧ (zs_in i n = true → G i.toNatClampNeg = .ref (F i.toNatClampNeg))) : zs_Con D Rl bd zs_eR yJ5_elementData cJ5_elementData 2 (some (.object "java/lang/Object")) 0 [.ref a, .int i] M (((zs_ix n i).map F).map fun x => (x, M)) := by
  refine zs_conR (own := RJ5) (nm := "elementData") pl_J5 rfl rfl (Nat.le_of_ble_eq_true rfl) ?_
  refine zs_lv (lv' := [(0, .ref a), (1, .int i)]) rfl ?_
  refine zs_aload_n (pc := 0) 0 dJ5_elementData_0 rfl rfl ?_
  refine zs_getf (pc := 1) (v := .ref e) 1 zc_J5 (by decide) q360 hL dJ5_elementData_1 ?_
  refine zs_iload_n (pc := 4) 1 dJ5_elementData_4 rfl rfl ?_
  refine zs_eqo (o2 := (zs_ix n i).bind fun x => some (F x)) (by cases zs_ix n i <;> rfl) ?_
  refine zs_hix fun j hin hj hlt => ?_
  subst hj
  refine zs_hmap (pc' := 5 + 1) (st' := [.ref (F i.toNatClampNeg)]) ?_ ?_
  · intro p l e' R s m args below meth c H locs cells slots Q h ls hx hb ho hw hK hR hZ kk
    obtain ⟨G, e1, e2⟩ := hE h hR
    exact W.aald (v := .ref (F i.toNatClampNeg)) (ty := .object "java/lang/Object") hx hb (zs_arr (t := 9) hZ e1) ((hK.2.1 9 _ rfl).1 n _) rfl (fun q => by cases q) (by rw [arrV_size]; exact zs_in_not hin) (by rw [arrV_read _ _ (zs_in_lt hin), e2 hin]) rfl rfl dJ5_elementData_5 kk
  · exact zs_aret (pc := 6) dJ5_elementData_6 rfl rfl (Or.inl ⟨_, rfl⟩) (Or.inr ⟨_, rfl⟩)
/-- get(i) of a list of c elements -/
theorem k_J5_get {σ : Type} (D : zs_D) (Rl : σ → zs_AH → Prop) (bd : σ → Nat × Nat) (M : σ) (a e n c : Nat) (i : Int32) (F : Nat → Nat) (hc : c ≤ n) (hn : n < 2 ^ 31) (hL : ∀ h, Rl M h → ∃ f, h.2.2 a = some (17, 3, f) ∧ f 1 = .ref e ∧ f 2 = .int (nI c)) (hE : ∀ h, Rl M h → ∃ G, h.2.2 e = some (73, n, G) ∧ ∀ k, k < c → G k = .ref (F k)) : zs_Con D Rl bd zs_eR yJ5_get cJ5_get 2 (some (.object "java/lang/Object")) 3 [.ref a, .int i] M (((zs_ix c i).map F).map fun x => (x, M)) := by
  refine zs_conR (own := RJ5) (nm := "get") pl_J5 rfl rfl (Nat.le_of_ble_eq_true rfl) ?_
  refine zs_lv (lv' := [(0, .ref a), (1, .int i)]) rfl ?_
  refine zs_iload_n (pc := 0) 1 dJ5_get_0 rfl rfl ?_
  refine zs_aload_n (pc := 1) 0 dJ5_get_1 rfl rfl ?_
  refine zs_getf (pc := 2) (v := .int (nI c)) 2 zc_J5 (by decide) q361 (fun h hR => by obtain ⟨f, e1, e2, e3⟩ := hL h hR; exact ⟨f, e1, e3⟩) dJ5_get_2 ?_
  have hcl : (nI c).toNatClampNeg = c := nI_clamp (by omega)
  by_cases hin : zs_in i c = true
  · have h1 : g_ckix i (nI c) = some i := by
      have h2 := zs_in_not hin
      have h3 := zs_in_lt hin
      unfold g_ckix
      rw [if_neg (fun z => h2 (Or.inl z)), if_pos]
      obtain ⟨j, hj, rfl⟩ := vp_in_of h2 (by omega)
      exact nI_lt hj (by omega)
    refine zs_eqo (o2 := (g_ckix i (nI c)).bind fun _ => ((zs_ix n i).map F).bind fun x => some x) ?_ ?_
    · have h3 := zs_in_lt hin
      have h4 : zs_in i n = true := by
        simp only [zs_in, Bool.and_eq_true, decide_eq_true_eq] at hin ⊢
        exact ⟨hin.1, by omega⟩
      rw [h1]
      unfold zs_ix
      rw [if_pos hin, if_pos h4]
      rfl
    · refine zs_callSrI (pc := 5) [.int i, .int (nI c)] [] (k_J6_checkIndex D _ _ M i (nI c)) kv_J6_checkIndex q518 dJ5_get_5 rfl rfl (Nat.le_of_ble_eq_true rfl) (Nat.le_of_ble_eq_true rfl) (fun x1 => ?_)
      refine zs_pop (pc := 8) dJ5_get_8 rfl ?_
      refine zs_aload_n (pc := 9) 0 dJ5_get_9 rfl rfl ?_
      refine zs_iload_n (pc := 10) 1 dJ5_get_10 rfl rfl ?_
      refine zs_callVrR (pc := 11) [.int i] [] (k_J5_elementData D _ _ M a e n i F (fun h hR => by obtain ⟨f, e1, e2, e3⟩ := hL h hR; exact ⟨f, e1, e2⟩) (fun h hR => by obtain ⟨G, e1, e2⟩ := hE h hR; exact ⟨G, e1, fun _ => e2 _ (zs_in_lt hin)⟩)) kv_J5_elementData q524 zc_J5 (fun h hR => by obtain ⟨f, e1, e2, e3⟩ := hL h hR; exact ⟨3, f, e1⟩) dJ5_get_11 rfl rfl (Nat.le_of_ble_eq_true rfl) (Nat.le_of_ble_eq_true rfl) (fun x2 => ?_)
      exact zs_aret (pc := 14) dJ5_get_14 rfl rfl (Or.inl ⟨_, rfl⟩) (Or.inr ⟨_, rfl⟩)
  · refine zs_eqo (o2 := none) (by unfold zs_ix; rw [if_neg hin]; rfl) zs_none
