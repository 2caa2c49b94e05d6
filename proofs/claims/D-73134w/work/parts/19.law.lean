/-! a law is asked, arrays are copied, the skies -/
set_option maxRecDepth 100000
section ZJ
variable {σ α β : Type} {D : zs_D} {Rl : σ → zs_AH → Prop} {bd : σ → Nat × Nat} {Fn : zs_Q σ α} {own : String} {cc : ByteArray} {nL : Nat} {rt : Option FieldType} {nm : String} {d : Nat} {M : σ} {pc : Nat} {lv : List (Nat × Value)} {st : List Value} {o : Option β} {K : β → Option (α × σ)}
/-- an element at a known place -/
theorem zs_aaldK {t n a j : Nat} {ty : FieldType} {v : Value} (ht : zs_T[t]? = some ty) (hr : ty.isReference = true) (hj : j < n) (hn : n < 2 ^ 31) (hL : ∀ h, Rl M h → ∃ G, h.2.2 a = some (64 + t, n, G) ∧ G j = v) (hd : decode cc pc = .ok (.aaload, 1)) (k : zs_Sim D Rl bd Fn own cc nL rt nm d M (pc + 1) lv (v :: st) o K) : zs_Sim D Rl bd Fn own cc nL rt nm d M pc lv (.int (nI j) :: .ref a :: st) o K := by
  refine zs_hmap ?_ k
  intro p l e R s m args below meth c H locs cells slots Q h ls hx hb ho hw hK hR hZ kk
  obtain ⟨G, e1, e2⟩ := hL h hR
  have hc : (nI j).toNatClampNeg = j := nI_clamp (by omega)
  exact W.aald (v := v) (ty := ty) hx hb (zs_arr hZ e1) ((hK.2.1 t ty ht).1 n _) hr (fun q => by cases q) (by rw [arrV_size]; exact nI_in hj hn) (by rw [hc, arrV_read _ _ hj, e2]) rfl rfl hd kk
end ZJ
def gl_fin (v : Nat → Int32) (code : zl_C) (b : Bool) : Int32 × Bool := (if (b || zl_brk v code) = true then 0 else zs_max 0 (zl_val v code), b || zl_brk v code)
def gl_go (v : Nat → Int32) (e : zl_C) : List (zl_C × zl_C × zl_C) → Bool → Int32 × Bool
  | [], b => gl_fin v e b
  | q :: qs, b => if zl_val v q.1 < zl_val v q.2.1 then gl_fin v q.2.2 (b || zl_brk v q.1 || zl_brk v q.2.1) else gl_go v e qs (b || zl_brk v q.1 || zl_brk v q.2.1)
def gl_law (i : Nat) (M : cs_S) (L : zl_L) : Int32 × cs_S := ((gl_go (M.2 (10 + i) 11) L.2 L.1 false).1, gs_br (cs_sF M (110 + i) 1 0) (110 + i) (gl_go (M.2 (10 + i) 11) L.2 L.1 false).2)
def gl_of (T : zt_T) (i : Nat) (M : cs_S) (k : Nat) : Option (Int32 × cs_S) := match zt_lw T k with
  | none => none
  | some L => some (gl_law i M L)
theorem gs_br_nought (M : cs_S) (o : Nat) (b : Bool) : (gs_br (cs_sF M o 1 0) o b).1 o 1 = zs_b b := by
  cases b
  · show (if o = o ∧ 1 = 1 then (0 : Int32) else M.1 o 1) = _
    rw [if_pos ⟨rfl, rfl⟩]; rfl
  · show (if o = o ∧ 1 = 1 then (1 : Int32) else _) = _
    rw [if_pos ⟨rfl, rfl⟩]; rfl
theorem cs_ald_l (n : Nat) : n < 5 → n < 2 ^ 31 := fun h => by omega
section KK
variable {α β : Type} {D : zs_D} {W : cs_W} {P : Nat → Bool} {h0 : zs_AH} {c : Nat} {Fn : zs_Q cs_S α} {own : String} {cc : ByteArray} {nL : Nat} {rt : Option FieldType} {nm : String} {d : Nat} {M : cs_S} {pc : Nat} {lv : List (Nat × Value)} {st : List Value} {o : Option β} {K : β → Option (α × cs_S)}
theorem cs_putiK (j ob k : Nat) {i ci N : Nat} {C : String} {T : u_T} {ty : Nat → FieldType} {x : Int32} (p : cs_po j ob) (hc : zs_cls ci C T N ty) (hcl : cs_cl ob = ci ∧ cs_nf ob = N) (hk : k < N) (hs : cs_sc ob k = true) (hq : Cond.fieldLink own i (T k).1 (T k).2.1 (T k).2.2.1 ∈ lw_all) (hfin : (T k).2.2.2 = false) (hn : narrow (ty k) (.int x) = .int x) (hfit : fits (ty k) (.int x) = true) (hd : decode cc pc = .ok (.putfield i, 3)) (kk : zs_Sim D (cs_R W P h0 c) cs_bd Fn own cc nL rt nm d (cs_sF M ob k x) (pc + 3) lv st o K) : zs_Sim D (cs_R W P h0 c) cs_bd Fn own cc nL rt nm d M pc lv (.int x :: .ref (c + j) :: st) o K := by
  obtain ⟨rfl, rfl⟩ := hcl
  exact zs_putf (M1 := cs_sF M ob k x) k hc hk hq hfin hn hfit rfl (fun h hR => cs_stF p hs hR) hd kk
end KK
section KL
variable {D : zs_D} {W : cs_W} {P : Nat → Bool} {h0 : zs_AH} {c i a : Nat}
set_option maxHeartbeats 4000000 in
/-- from the last term's place on -/
theorem kl_fin (hi : i < 45) {M : cs_S} {n a3 b3 : Nat} {code : zl_C} {f f3 : Nat → Value} {b : Bool} (hn : n < 5) (e1 : cs_rs P h0 a = some (11, 4, f)) (e2 : f 2 = .ref a3) (e3 : cs_rs P h0 a3 = some (70, 5, f3)) (e4 : f3 n = .ref b3) (e5 : zl_at (cs_rs P h0) 420 b3 code) :
    zs_Sim D (cs_R W P h0 c) cs_bd (zs_Fn D (cs_R W P h0 c) zs_eI) RX11 cX11_of 4 (some .int) "of" 421 (gs_br (cs_sF M (110 + i) 1 0) (110 + i) b) 44 [(0, .ref a), (1, .ref (c + (cs_va i + 8))), (2, .int (nI n))] [] (some ((gl_fin (M.2 (10 + i) 11) code b).1, gs_br (cs_sF M (110 + i) 1 0) (110 + i) (gl_fin (M.2 (10 + i) 11) code b).2)) some := by
  have hv : ∀ b, (gs_br (cs_sF M (110 + i) 1 0) (110 + i) b).2 = M.2 := fun b => by rw [gs_br_arr]; rfl
  refine zs_aload_n (pc := 44) 0 dX11_of_44 rfl rfl ?_
  refine zs_getf (pc := 45) (v := .ref a3) 2 zc_X11 (by decide) q748 (fun h hR => ⟨f, cs_out hR e1, e2⟩) dX11_of_45 ?_
  refine zs_iload_n (pc := 48) 2 dX11_of_48 rfl rfl ?_
  refine zs_aaldK (pc := 49) (t := 6) (n := 5) (v := .ref b3) rfl rfl hn (by decide) (fun h hR => ⟨f3, cs_out hR e3, e4⟩) dX11_of_49 ?_
  refine zs_aload_n (pc := 50) 1 dX11_of_50 rfl rfl ?_
  refine zs_callSum (pc := 51) (kl_sum D W P h0 c i hi 420 b3 code e5 _) q1160 dX11_of_51 (Nat.le_refl _) (Nat.le_of_ble_eq_true rfl) ?_
  rw [hv, gs_br_or]
  unfold gl_fin
  generalize (b || zl_brk (M.2 (10 + i) 11) code) = b'
  generalize zl_val (M.2 (10 + i) 11) code = x
  refine zs_istore_n (pc := 54) (lv' := [(0, .ref a), (1, .ref (c + (cs_va i + 8))), (3, .int x)]) [1, 2, 0] dX11_of_54 rfl (by decide) rfl ?_
  refine zs_aload_n (pc := 55) 1 dX11_of_55 rfl rfl ?_
  refine cs_geti (pc := 56) (cs_va i + 8) (110 + i) 1 (cs_pq hi) zc_X6 (cs_qcl hi) (by decide) (cs_qsc hi 1 true (by decide)) q432 dX11_of_56 ?_
  rw [gs_br_nought]
  refine zs_eqo (o2 := if b' = true then some (0, gs_br (cs_sF M (110 + i) 1 0) (110 + i) b') else some (zs_max 0 x, gs_br (cs_sF M (110 + i) 1 0) (110 + i) b')) (by by_cases hb : b' = true <;> simp [hb]) ?_
  refine zs_if_f (pc := 59) (tgt := 66) dX11_of_59 (by decide) ?_ ?_
  · refine zs_iconst (pc := 62) (v := 0) dX11_of_62 rfl ?_
    refine zs_goto (pc := 63) (tgt := 71) dX11_of_63 (by decide) ?_
    exact zs_iret (pc := 71) dX11_of_71 rfl rfl rfl
  · refine zs_iconst (pc := 66) (v := 0) dX11_of_66 rfl ?_
    refine zs_iload_n (pc := 67) 2 dX11_of_67 rfl rfl ?_
    refine zs_mmax (pc := 68) q1173 dX11_of_68 (Nat.le_of_ble_eq_true rfl) (Nat.le_of_ble_eq_true rfl) ?_
    exact zs_iret (pc := 71) dX11_of_71 rfl rfl rfl
set_option maxHeartbeats 4000000 in
theorem kl_go (hi : i < 45) {L : zl_L} (hL : zl_law (cs_rs P h0) a L) {M : cs_S} : ∀ (qs : List (zl_C × zl_C × zl_C)) (n : Nat) (b : Bool), L.1.drop n = qs → n ≤ L.1.length →
    zs_Sim D (cs_R W P h0 c) cs_bd (zs_Fn D (cs_R W P h0 c) zs_eI) RX11 cX11_of 4 (some .int) "of" 421 (gs_br (cs_sF M (110 + i) 1 0) (110 + i) b) 7 [(0, .ref a), (1, .ref (c + (cs_va i + 8))), (2, .int (nI n))] [] (some ((gl_go (M.2 (10 + i) 11) L.2 qs b).1, gs_br (cs_sF M (110 + i) 1 0) (110 + i) (gl_go (M.2 (10 + i) 11) L.2 qs b).2)) some := by
  have hv : ∀ b, (gs_br (cs_sF M (110 + i) 1 0) (110 + i) b).2 = M.2 := fun b => by rw [gs_br_arr]; rfl
  obtain ⟨f, f1, f2, f3, a1, a2, a3, e0, e1, e2, e3, e4, e5, g1, g2, g3, e6, b9, e7, e8⟩ := hL
  intro qs
  induction qs with
  | nil =>
    intro n b hq hn
    have hn' : n = L.1.length := by have := congrArg List.length hq; rw [List.length_drop] at this; simp at this; omega
    refine zs_iload_n (pc := 7) 2 dX11_of_7 rfl rfl ?_
    refine zs_aload_n (pc := 8) 0 dX11_of_8 rfl rfl ?_
    refine zs_getf (pc := 9) (v := .int (nI L.1.length)) 3 zc_X11 (by decide) q750 (fun h hR => ⟨f, cs_out hR e0, e4⟩) dX11_of_9 ?_
    refine zs_eqo (o2 := if nI n < nI L.1.length then none else some ((gl_go (M.2 (10 + i) 11) L.2 [] b).1, gs_br (cs_sF M (110 + i) 1 0) (110 + i) (gl_go (M.2 (10 + i) 11) L.2 [] b).2)) (by rw [if_neg (by rw [nI_ltI (by omega) (by omega)]; omega)]) ?_
    refine zs_icmp_ge (pc := 12) (tgt := 44) dX11_of_12 (by decide) zs_none ?_
    subst hn'
    exact kl_fin hi (by omega) e0 e3 g3 e7 e8
  | cons q qs ih =>
    intro n b hq hn
    have hlt : n < L.1.length := by have := congrArg List.length hq; rw [List.length_drop] at this; simp at this; omega
    have hk : L.1[n]? = some q := by
      have h1 : (L.1.drop n)[0]? = some q := by rw [hq]; rfl
      rw [List.getElem?_drop] at h1
      simpa using h1
    obtain ⟨b1, b2, b3, x1, x2, x3, y1, y2, y3⟩ := e6 n q hk
    refine zs_iload_n (pc := 7) 2 dX11_of_7 rfl rfl ?_
    refine zs_aload_n (pc := 8) 0 dX11_of_8 rfl rfl ?_
    refine zs_getf (pc := 9) (v := .int (nI L.1.length)) 3 zc_X11 (by decide) q750 (fun h hR => ⟨f, cs_out hR e0, e4⟩) dX11_of_9 ?_
    refine zs_eqo (o2 := if nI n < nI L.1.length then some ((gl_go (M.2 (10 + i) 11) L.2 (q :: qs) b).1, gs_br (cs_sF M (110 + i) 1 0) (110 + i) (gl_go (M.2 (10 + i) 11) L.2 (q :: qs) b).2) else none) (by rw [if_pos (by rw [nI_ltI (by omega) (by omega)]; omega)]) ?_
    refine zs_icmp_ge (pc := 12) (tgt := 44) dX11_of_12 (by decide) ?_ zs_none
    refine zs_aload_n (pc := 15) 0 dX11_of_15 rfl rfl ?_
    refine zs_getf (pc := 16) (v := .ref a1) 0 zc_X11 (by decide) q744 (fun h hR => ⟨f, cs_out hR e0, e1⟩) dX11_of_16 ?_
    refine zs_iload_n (pc := 19) 2 dX11_of_19 rfl rfl ?_
    refine zs_aaldK (pc := 20) (t := 6) (n := 4) (v := .ref b1) rfl rfl (by omega) (by decide) (fun h hR => ⟨f1, cs_out hR g1, x1⟩) dX11_of_20 ?_
    refine zs_aload_n (pc := 21) 1 dX11_of_21 rfl rfl ?_
    refine zs_callSum (pc := 22) (kl_sum D W P h0 c i hi 420 b1 q.1 y1 _) q1160 dX11_of_22 (Nat.le_refl _) (Nat.le_of_ble_eq_true rfl) ?_
    rw [hv, gs_br_or]
    refine zs_aload_n (pc := 25) 0 dX11_of_25 rfl rfl ?_
    refine zs_getf (pc := 26) (v := .ref a2) 1 zc_X11 (by decide) q746 (fun h hR => ⟨f, cs_out hR e0, e2⟩) dX11_of_26 ?_
    refine zs_iload_n (pc := 29) 2 dX11_of_29 rfl rfl ?_
    refine zs_aaldK (pc := 30) (t := 6) (n := 4) (v := .ref b2) rfl rfl (by omega) (by decide) (fun h hR => ⟨f2, cs_out hR g2, x2⟩) dX11_of_30 ?_
    refine zs_aload_n (pc := 31) 1 dX11_of_31 rfl rfl ?_
    refine zs_callSum (pc := 32) (kl_sum D W P h0 c i hi 420 b2 q.2.1 y2 _) q1160 dX11_of_32 (Nat.le_refl _) (Nat.le_of_ble_eq_true rfl) ?_
    rw [hv, gs_br_or]
    refine zs_eqo (o2 := if zl_val (M.2 (10 + i) 11) q.1 < zl_val (M.2 (10 + i) 11) q.2.1 then some ((gl_fin (M.2 (10 + i) 11) q.2.2 (b || zl_brk (M.2 (10 + i) 11) q.1 || zl_brk (M.2 (10 + i) 11) q.2.1)).1, gs_br (cs_sF M (110 + i) 1 0) (110 + i) (gl_fin (M.2 (10 + i) 11) q.2.2 (b || zl_brk (M.2 (10 + i) 11) q.1 || zl_brk (M.2 (10 + i) 11) q.2.1)).2) else some ((gl_go (M.2 (10 + i) 11) L.2 qs (b || zl_brk (M.2 (10 + i) 11) q.1 || zl_brk (M.2 (10 + i) 11) q.2.1)).1, gs_br (cs_sF M (110 + i) 1 0) (110 + i) (gl_go (M.2 (10 + i) 11) L.2 qs (b || zl_brk (M.2 (10 + i) 11) q.1 || zl_brk (M.2 (10 + i) 11) q.2.1)).2)) ?_ ?_
    · show some ((if _ then _ else _ : Int32 × Bool).1, gs_br _ _ (if _ then _ else _ : Int32 × Bool).2) = _
      by_cases hc : zl_val (M.2 (10 + i) 11) q.1 < zl_val (M.2 (10 + i) 11) q.2.1
      · rw [if_pos hc, if_pos hc]
      · rw [if_neg hc, if_neg hc]
    refine zs_icmp_lt (pc := 35) (tgt := 44) dX11_of_35 (by decide) ?_ ?_
    · exact kl_fin hi (by omega) e0 e3 g3 x3 y3
    · refine zs_iinc (pc := 38) (lv' := [(0, .ref a), (1, .ref (c + (cs_va i + 8))), (2, .int (nI (n + 1)))]) 2 [1, 2, 0] dX11_of_38 rfl (nI_1 n) (by decide) rfl ?_
      refine zs_goto (pc := 41) (tgt := 7) dX11_of_41 (by decide) ?_
      exact ih (n + 1) _ (by rw [← List.drop_drop, hq]; rfl) hlt
theorem kv_lawof : zs_mV RX11 yX11_of cX11_of 4 (some .int) 1 := ⟨q1157, q1158, q156, q1159, by decide, by decide +kernel⟩
theorem kl_law (hi : i < 45) {L : zl_L} (hL : zl_law (cs_rs P h0) a L) (M : cs_S) : zs_Con D (cs_R W P h0 c) cs_bd zs_eI yX11_of cX11_of 4 (some .int) 421 [.ref a, .ref (c + (cs_va i + 8))] M (some (gl_law i M L)) := by
  refine zs_con (own := RX11) (nm := "of") pl_X11 rfl rfl (Nat.le_of_ble_eq_true rfl) ?_
  refine zs_lv (lv' := [(0, .ref a), (1, .ref (c + (cs_va i + 8)))]) rfl ?_
  refine zs_aload_n (pc := 0) 1 dX11_of_0 rfl rfl ?_
  refine zs_iconst (pc := 1) (v := 0) dX11_of_1 rfl ?_
  refine cs_putiK (pc := 2) (cs_va i + 8) (110 + i) 1 (cs_pq hi) zc_X6 (cs_qcl hi) (by decide) (cs_qsc hi 1 true (by decide)) q432 rfl rfl rfl dX11_of_2 ?_
  refine zs_iconst (pc := 5) (v := 0) dX11_of_5 rfl ?_
  refine zs_istore_n (pc := 6) (lv' := [(0, .ref a), (1, .ref (c + (cs_va i + 8))), (2, .int (nI 0))]) [1, 2, 0] dX11_of_6 rfl (by decide) rfl ?_
  exact kl_go (M := M) hi hL L.1 0 false rfl (Nat.zero_le _)
end KL
section KM
variable {α β : Type} {D : zs_D} {W : cs_W} {P : Nat → Bool} {h0 : zs_AH} {c : Nat} {Fn : zs_Q cs_S α} {own : String} {cc : ByteArray} {nL : Nat} {rt : Option FieldType} {nm : String} {d : Nat} {M : cs_S} {pc : Nat} {lv : List (Nat × Value)} {st : List Value} {o o1 o2 : Option β} {K : β → Option (α × cs_S)}
/-- laws[k].of(asked) of a village i -/
theorem ct_law {i k ix : Nat} {f : Int32 × cs_S → Option β} (hi : i < 45) (hk : k < 4) (hl : Cond.methodLink own ix yX11_of ∈ lw_all) (hd : decode cc pc = .ok (.invokevirtual ix, 3)) (hdd : 421 + 1 ≤ d) (hw : (st.map fun v => v.category).sum ≤ 8) (kk : ∀ z : Int32 × cs_S, zs_Sim D (cs_R W P h0 c) cs_bd Fn own cc nL rt nm d z.2 (pc + 3) lv (.int z.1 :: st) (f z) K) : zs_Sim D (cs_R W P h0 c) cs_bd Fn own cc nL rt nm d M pc lv (.ref (c + (cs_va i + 8)) :: zt_lv W.2.1 k :: st) ((gl_of W.2.1 i M k).bind f) K := by
  cases hq : zt_lw W.2.1 k with
  | none => exact zs_eqo (o2 := none) (by unfold gl_of; rw [hq]; rfl) zs_none
  | some L =>
    refine cs_know fun hex => ?_
    obtain ⟨h9, hR9⟩ := hex
    obtain ⟨-, -, -, -, -, ⟨G, e1, e2⟩, -⟩ := hR9.2.2.2
    obtain ⟨-, hL⟩ := (e2 k hk).2 L hq
    have e : zt_lv W.2.1 k = .ref (zt_ad W.2.1 (20 + k)) := by unfold zt_lv; rw [hq]
    rw [e]
    refine zs_eqo (o2 := (some (gl_law i M L)).bind f) (by unfold gl_of; rw [hq]) ?_
    obtain ⟨fL, f1, f2, f3, a1, a2, a3, e0, -⟩ := hL
    have hL := ((e2 k hk).2 L hq).2
    refine zs_callV0 [.ref (c + (cs_va i + 8))] st (kl_law hi hL M) kv_lawof hl zc_X11 (fun h hR => ⟨4, fL, cs_out hR e0⟩) hd rfl rfl hdd hw (fun r M1 _ => ?_)
    exact kk (r, M1)
def cs_sW (S : cs_S) (o k : Nat) (F : Nat → Int32) : cs_S := (S.1, fun p q => if p = o ∧ q = k then F else S.2 p q)
def gv_copies (M : cs_S) (i j k : Nat) : cs_S := cs_sW M (10 + j) k (va_cpy (M.2 (10 + i) k) (M.2 (10 + j) k) 0 0 6)
theorem cs_stW {h : zs_AH} {S : cs_S} {j o k t n : Nat} {F : Nat → Int32} (p : cs_pa j o k t n) (hR : cs_R W P h0 c S h) : h.2.2 (c + j) = some (t, n, fun q => .int (S.2 o k q)) ∧ h.1 ≤ c + j ∧ cs_R W P h0 c (cs_sW S o k F) (zs_up h (c + j) (t, n, fun q => .int (F q))) := by
  have e := cs_cellA p hR
  obtain ⟨p1, p2, p3, p4⟩ := p
  obtain ⟨r1, r2, r3, r4⟩ := hR
  refine ⟨e, by rw [r3]; exact Nat.le_trans r1 (Nat.le_add_right _ _), r1, r2, ?_, r4⟩
  rw [r3]
  refine cs_up j p1 _ ?_ (fun i hi hne => ?_)
  · unfold cs_cell
    rw [p2]
    show _ = (cs_tg o k, cs_ln o k, _)
    rw [p3, p4]
    refine Prod.ext rfl (Prod.ext rfl (funext fun q => ?_))
    show _ = Value.int ((if o = o ∧ k = k then F else S.2 o k) q)
    rw [if_pos ⟨rfl, rfl⟩]
  · unfold cs_cell
    cases hk : cs_key i with
    | some q =>
      have hq : ¬ (q.1 = o ∧ q.2 = k) := by
        rintro ⟨rfl, rfl⟩
        exact hne ((cs_kinv hi hk).symm.trans (cs_kinv p1.1 p2))
      show (_, _, _) = (_, _, _)
      refine Prod.ext rfl (Prod.ext rfl (funext fun p => ?_))
      show Value.int (S.2 q.1 q.2 p) = Value.int ((if q.1 = o ∧ q.2 = k then F else S.2 q.1 q.2) p)
      rw [if_neg hq]
    | none =>
      cases cs_ob i with
      | some o => rfl
      | none => rfl
theorem wv_copies : zs_mS yX5_copies cX5_copies 2 none 2 := ⟨q1221, q145, q1222, by decide, by decide +kernel⟩
theorem kl_copies {i j s : Nat} (hi : i < 45) (hj : j < 45) (hs : 0 < s ∧ s < 8) (M : cs_S) : zs_Con D (cs_R W P h0 c) cs_bd zs_eV yX5_copies cX5_copies 2 none 1 [.ref (c + (cs_va i + s)), .ref (c + (cs_va j + s))] M ((some (gv_copies M i j (cs_vf s))).map fun x => ((), x)) := by
  refine zs_conV (own := RX5) (nm := "copies") pl_X5 rfl rfl (Nat.le_of_ble_eq_true rfl) ?_
  refine zs_lv (lv' := [(0, .ref (c + (cs_va i + s))), (1, .ref (c + (cs_va j + s)))]) rfl ?_
  have p1 := cs_pva hi s ⟨hs.1, by omega, by omega⟩ 6 (by rw [if_neg (by omega)])
  have p2 := cs_pva hj s ⟨hs.1, by omega, by omega⟩ 6 (by rw [if_neg (by omega)])
  refine zs_aload_n (pc := 0) 0 dX5_copies_0 rfl rfl ?_
  refine zs_iconst (pc := 1) (v := 0) dX5_copies_1 rfl ?_
  refine zs_aload_n (pc := 2) 1 dX5_copies_2 rfl rfl ?_
  refine zs_iconst (pc := 3) (v := 0) dX5_copies_3 rfl ?_
  refine zs_aload_n (pc := 4) 0 dX5_copies_4 rfl rfl ?_
  refine zs_alen (pc := 5) (t := 0) (n := 6) rfl (fun h hR => cs_cellA p1 hR) dX5_copies_5 ?_
  refine zs_copyi (pc := 6) (M1 := gv_copies M i j (cs_vf s)) (n := 6) (F := M.2 (10 + i) (cs_vf s)) (G := M.2 (10 + j) (cs_vf s)) q1223 dX5_copies_6 (Nat.le_of_ble_eq_true rfl) (Nat.le_of_ble_eq_true rfl) rfl rfl rfl (by decide) rfl (fun h hR => cs_cellA p1 hR) (fun h hR => cs_stW p2 hR) ?_
  exact zs_vret (pc := 9) dX5_copies_9 rfl rfl
end KM
theorem wh_mixed : zs_mS yX0_mixed cX0_mixed 3 (some .int) 2 := ⟨q1291, q134, q1292, by decide, by decide +kernel⟩
def gh_mixed (a0 : Int32) (a1 : Int32) : Option (Int32) :=
(some (((a0 ^^^ a1) * 1103515245) + 12345)).bind fun x1 =>
some (x1 ^^^ (zs_ushr x1 15))
set_option maxHeartbeats 4000000 in
theorem kh_mixed {σ : Type} (D : zs_D) (Rl : σ → zs_AH → Prop) (bd : σ → Nat × Nat) (M : σ) (a0 : Int32) (a1 : Int32) : zs_Con D Rl bd zs_eI yX0_mixed cX0_mixed 3 (some .int) 0 [.int a0, .int a1] M ((gh_mixed a0 a1).map fun x => (x, M)) := by
  unfold gh_mixed
  refine zs_conR (own := RX0) (nm := "mixed") pl_X0 rfl rfl (Nat.le_of_ble_eq_true rfl) ?_
  refine zs_lv (lv' := [(0, .int a0), (1, .int a1)]) rfl ?_
  refine zs_iload_n (pc := 0) 0 dX0_mixed_0 rfl rfl ?_
  refine zs_iload_n (pc := 1) 1 dX0_mixed_1 rfl rfl ?_
  refine zs_ixor (pc := 2) dX0_mixed_2 ?_
  refine zs_ldc (pc := 3) (v := 1103515245) q1293 dX0_mixed_3 ?_
  refine zs_imul (pc := 5) dX0_mixed_5 ?_
  refine zs_sipush (pc := 6) (v := 12345) dX0_mixed_6 (by decide) ?_
  refine zs_iadd (pc := 9) dX0_mixed_9 ?_
  refine zs_nm (fun x1 => ?_)
  refine zs_istore_n (pc := 10) (lv' := [(0, .int a0), (1, .int a1), (2, .int x1)]) [1, 2, 0] dX0_mixed_10 rfl (by decide) rfl ?_
  refine zs_iload_n (pc := 11) 2 dX0_mixed_11 rfl rfl ?_
  refine zs_iload_n (pc := 12) 2 dX0_mixed_12 rfl rfl ?_
  refine zs_bipush (pc := 13) (v := 15) dX0_mixed_13 (by decide) ?_
  refine zs_iushr (pc := 15) dX0_mixed_15 ?_
  refine zs_ixor (pc := 16) dX0_mixed_16 ?_
  exact zs_iret (pc := 17) dX0_mixed_17 rfl rfl rfl
theorem wh_lot : zs_mS yX0_lot cX0_lot 3 (some .int) 3 := ⟨q1288, q134, q1289, by decide, by decide +kernel⟩
def gh_lot (a0 : Int32) (a1 : Int32) (a2 : Int32) : Option (Int32) :=
(gh_mixed a0 219).bind fun x1 =>
(gh_mixed x1 a1).bind fun x2 =>
(zs_mod (zs_ushr x2 1) a2).bind fun x3 =>
some x3
set_option maxHeartbeats 4000000 in
theorem kh_lot {σ : Type} (D : zs_D) (Rl : σ → zs_AH → Prop) (bd : σ → Nat × Nat) (M : σ) (a0 : Int32) (a1 : Int32) (a2 : Int32) : zs_Con D Rl bd zs_eI yX0_lot cX0_lot 3 (some .int) 1 [.int a0, .int a1, .int a2] M ((gh_lot a0 a1 a2).map fun x => (x, M)) := by
  unfold gh_lot
  refine zs_conR (own := RX0) (nm := "lot") pl_X0 rfl rfl (Nat.le_of_ble_eq_true rfl) ?_
  refine zs_lv (lv' := [(0, .int a0), (1, .int a1), (2, .int a2)]) rfl ?_
  refine zs_iload_n (pc := 0) 0 dX0_lot_0 rfl rfl ?_
  refine zs_sipush (pc := 1) (v := 219) dX0_lot_1 (by decide) ?_
  refine zs_callSrI (pc := 4) [.int a0, .int 219] [] (kh_mixed D _ _ M a0 219) wh_mixed q1290 dX0_lot_4 rfl rfl (Nat.le_of_ble_eq_true rfl) (Nat.le_of_ble_eq_true rfl) (fun x1 => ?_)
  refine zs_iload_n (pc := 7) 1 dX0_lot_7 rfl rfl ?_
  refine zs_callSrI (pc := 8) [.int x1, .int a1] [] (kh_mixed D _ _ M x1 a1) wh_mixed q1290 dX0_lot_8 rfl rfl (Nat.le_of_ble_eq_true rfl) (Nat.le_of_ble_eq_true rfl) (fun x2 => ?_)
  refine zs_iconst (pc := 11) (v := 1) dX0_lot_11 rfl ?_
  refine zs_iushr (pc := 12) dX0_lot_12 ?_
  refine zs_iload_n (pc := 13) 2 dX0_lot_13 rfl rfl ?_
  refine zs_irem (pc := 14) dX0_lot_14 (fun x3 => ?_)
  exact zs_iret (pc := 15) dX0_lot_15 rfl rfl rfl
theorem pl_X8 : plainName RX8 = true := by decide +kernel
theorem pl_X9 : plainName RX9 = true := by decide +kernel
def cs_sk (b : Bool) : Nat := if b then 73 else 72
def yY_blights : MethodName := ⟨"HairRope$Sky", "blights", "(LHairRope$Village;LHairRope$Text;I)Z"⟩
theorem ka_X8 : zs_mA RX8 yY_blights yX8_blights cX8_blights 4 (some .boolean) 3 := ⟨q1280, q1284, q1285, q148, q1286, by decide, q1279, by decide +kernel⟩
theorem ka_X9 : zs_mA RX9 yY_blights yX9_blights cX9_blights 4 (some .boolean) 3 := ⟨q1280, q1281, q1282, q149, q1283, by decide, q1279, by decide +kernel⟩
/-- whether a house is blighted under a sky (true: clear) -/
def gv_blights (T : zt_T) (M : cs_S) (i : Nat) (h : Int32) (sk : Bool) : Option Bool := if sk then some false else (gh_lot (M.1 (10 + i) 8) (8 * M.1 (10 + i) 6 + h) 100).bind fun x => some (decide (x < zt_f T 6))
section KN
variable {α β : Type} {D : zs_D} {W : cs_W} {P : Nat → Bool} {h0 : zs_AH} {c : Nat} {Fn : zs_Q cs_S α} {own : String} {cc : ByteArray} {nL : Nat} {rt : Option FieldType} {nm : String} {d : Nat} {M : cs_S} {pc : Nat} {lv : List (Nat × Value)} {st : List Value} {o o1 o2 : Option β} {K : β → Option (α × cs_S)}
theorem kl_clear {i : Nat} (M : cs_S) (h : Int32) : zs_Con D (cs_R W P h0 c) cs_bd zs_eB yX9_blights cX9_blights 4 (some .boolean) 2 [.ref (c + 73), .ref (c + cs_va i), .ref (zt_ad W.2.1 0), .int h] M ((gv_blights W.2.1 M i h true).map fun x => (x, M)) := by
  refine zs_conR (own := RX9) (nm := "blights") pl_X9 rfl rfl (Nat.le_of_ble_eq_true rfl) ?_
  refine zs_lv (lv' := [(0, .ref (c + 73)), (1, .ref (c + cs_va i)), (2, .ref (zt_ad W.2.1 0)), (3, .int h)]) rfl ?_
  refine zs_iconst (pc := 0) (v := 0) dX9_blights_0 rfl ?_
  exact zs_iret (pc := 1) dX9_blights_1 rfl rfl rfl
set_option maxHeartbeats 4000000 in
theorem kl_drawn {i : Nat} (hi : i < 45) (M : cs_S) (h : Int32) : zs_Con D (cs_R W P h0 c) cs_bd zs_eB yX8_blights cX8_blights 4 (some .boolean) 2 [.ref (c + 72), .ref (c + cs_va i), .ref (zt_ad W.2.1 0), .int h] M ((gv_blights W.2.1 M i h false).map fun x => (x, M)) := by
  refine zs_conR (own := RX8) (nm := "blights") pl_X8 rfl rfl (Nat.le_of_ble_eq_true rfl) ?_
  refine zs_lv (lv' := [(0, .ref (c + 72)), (1, .ref (c + cs_va i)), (2, .ref (zt_ad W.2.1 0)), (3, .int h)]) rfl ?_
  refine zs_aload_n (pc := 0) 1 dX8_blights_0 rfl rfl ?_
  refine cs_geti (pc := 1) (cs_va i) (10 + i) 8 (cs_pv hi) zc_X5 (cs_vcl hi) (by decide) (cs_vsc hi 8 true (by decide)) q456 dX8_blights_1 ?_
  refine zs_bipush (pc := 4) (v := 8) dX8_blights_4 (by decide) ?_
  refine zs_aload_n (pc := 6) 1 dX8_blights_6 rfl rfl ?_
  refine cs_geti (pc := 7) (cs_va i) (10 + i) 6 (cs_pv hi) zc_X5 (cs_vcl hi) (by decide) (cs_vsc hi 6 true (by decide)) q451 dX8_blights_7 ?_
  refine zs_imul (pc := 10) dX8_blights_10 ?_
  refine zs_iload_n (pc := 11) 3 dX8_blights_11 rfl rfl ?_
  refine zs_iadd (pc := 12) dX8_blights_12 ?_
  refine zs_bipush (pc := 13) (v := 100) dX8_blights_13 (by decide) ?_
  refine zs_eqo (o2 := ((gh_lot (M.1 (10 + i) 8) (8 * M.1 (10 + i) 6 + h) 100).map fun x => (x, M)).bind fun z => if z.1 < zt_f W.2.1 6 then some true else some false) ?_ ?_
  · unfold gv_blights
    cases gh_lot (M.1 (10 + i) 8) (8 * M.1 (10 + i) 6 + h) 100 with
    | none => rfl
    | some x =>
      show some (decide _) = if _ then _ else _
      by_cases hx : x < zt_f W.2.1 6 <;> simp [hx]
  refine zs_callSN0 (pc := 15) [.int (M.1 (10 + i) 8), .int (8 * M.1 (10 + i) 6 + h), .int 100] [] (kh_lot D _ _ M (M.1 (10 + i) 8) (8 * M.1 (10 + i) 6 + h) 100) wh_lot q1287 dX8_blights_15 rfl rfl (Nat.le_of_ble_eq_true rfl) (Nat.le_of_ble_eq_true rfl) (fun r M1 e => ?_)
  obtain rfl := zs_mape e
  refine zs_aload_n (pc := 18) 2 dX8_blights_18 rfl rfl ?_
  refine ct_num (pc := 19) 6 (by decide) q394 dX8_blights_19 ?_
  refine zs_icmp_ge (pc := 22) (tgt := 29) dX8_blights_22 (by decide) ?_ ?_
  · refine zs_iconst (pc := 25) (v := 1) dX8_blights_25 rfl ?_
    refine zs_goto (pc := 26) (tgt := 30) dX8_blights_26 (by decide) ?_
    exact zs_iret (pc := 30) dX8_blights_30 rfl rfl rfl
  · refine zs_iconst (pc := 29) (v := 0) dX8_blights_29 rfl ?_
    exact zs_iret (pc := 30) dX8_blights_30 rfl rfl rfl
theorem cs_psk (b : Bool) : cs_po (cs_sk b) (if b then 201 else 200) := by cases b <;> exact ⟨⟨by decide, by decide⟩, rfl⟩
/-- a sky is asked -/
theorem ct_blights {i ix : Nat} {sk : Bool} {x : Int32} {f : Bool → Option β} (hi : i < 45) (hl : Cond.methodLink own ix yY_blights ∈ lw_all) (hd : decode cc pc = .ok (.invokevirtual ix, 3)) (hdd : 2 + 1 ≤ d) (hw : (st.map fun v => v.category).sum ≤ 8) (kk : ∀ b : Bool, zs_Sim D (cs_R W P h0 c) cs_bd Fn own cc nL rt nm d M (pc + 3) lv (.int (zs_b b) :: st) (f b) K) : zs_Sim D (cs_R W P h0 c) cs_bd Fn own cc nL rt nm d M pc lv (.int x :: .ref (zt_ad W.2.1 0) :: .ref (c + cs_va i) :: .ref (c + cs_sk sk) :: st) ((gv_blights W.2.1 M i x sk).bind f) K := by
  refine zs_eqo (zs_mapb (M := M)).symm ?_
  cases sk with
  | true => exact zs_callA0 [.ref (c + cs_va i), .ref (zt_ad W.2.1 0), .int x] st (kl_clear (i := i) M x) ka_X9 hl zc_X9 (fun h hR => ⟨_, _, cs_cellO (cs_psk true) hR⟩) hd rfl rfl hdd hw (fun r M1 e => by rw [zs_mape e]; exact kk r)
  | false => exact zs_callA0 [.ref (c + cs_va i), .ref (zt_ad W.2.1 0), .int x] st (kl_drawn hi M x) ka_X8 hl zc_X8 (fun h hR => ⟨_, _, cs_cellO (cs_psk false) hR⟩) hd rfl rfl hdd hw (fun r M1 e => by rw [zs_mape e]; exact kk r)
end KN
