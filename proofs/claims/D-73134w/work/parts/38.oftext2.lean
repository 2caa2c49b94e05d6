/-! a text read off the heap, whole -/
set_option maxRecDepth 100000
def zs_bI (v : Value) : Bool := match v with | .int _ => true | _ => false
def zs_bR (v : Value) : Bool := match v with | .ref _ => true | _ => false
theorem zs_bI_of {v : Value} (h : zs_bI v = true) : v = .int (zs_vx v) := by
  cases v with
  | int y => rfl
  | _ => cases h
theorem zs_bR_of {v : Value} (h : zs_bR v = true) : v = .ref (zs_v0 v) := by
  cases v with
  | ref y => rfl
  | _ => cases h
def zt_c1 (g : Nat → Option zs_HC) (a : Nat) : Bool := match g a with
  | some (16, 3, f) => zs_bI (f 1) && zs_bI (f 2)
  | _ => false
def zt_c2 (g : Nat → Option zs_HC) (a : Nat) : Bool := match g a with
  | some (64, 6, f) => (List.range 6).all (fun j => zs_bI (f j))
  | _ => false
def zt_c3 (g : Nat → Option zs_HC) (v : Value) : Bool := match v with
  | .null => true
  | .ref a => (zl_lawof g a).isSome
  | _ => false
def zt_c4 (g : Nat → Option zs_HC) (G : Nat → Value) (n : Nat) : Bool := match g (zs_v0 (G 1)) with
  | some (73, cap, E) => zs_bR (G 1) && decide (n ≤ cap ∧ cap < 2 ^ 31) && (List.range n).all (fun k => zs_bR (E k) && zt_c1 g (zs_v0 (E k)))
  | _ => false
def zt_E (g : Nat → Option zs_HC) (e : Nat) : Nat × (Nat → Value) := match g e with
  | some (73, cap, E) => (cap, E)
  | _ => (0, fun _ => .null)
theorem zt_E_of {g : Nat → Option zs_HC} {e cap : Nat} {E : Nat → Value} (h : g e = some (73, cap, E)) : zt_E g e = (cap, E) := by
  unfold zt_E
  rw [h]
  try rfl
def zt_F (g : Nat → Option zs_HC) (a j : Nat) : Int32 := match g a with
  | some (_, _, f) => zs_vx (f j)
  | none => 0
def zt_L (g : Nat → Option zs_HC) (v : Value) : Option zl_L := match v with
  | .ref a => zl_lawof g a
  | _ => none
def zt_mk (g : Nat → Option zs_HC) (x l la lk : Nat) (n : Int32) (F G LF KF : Nat → Value) : zt_T :=
  (fun j => if j = 0 then x else if j = 1 then l else if j = 2 then zs_v0 (G 1) else if j = 3 then la else if j = 4 then lk else if j < 20 then zs_v0 (KF (j - 5)) else zs_v0 (LF (j - 20)),
   n.toNatClampNeg, (zt_E g (zs_v0 (G 1))).1, (fun k => zs_v0 ((zt_E g (zs_v0 (G 1))).2 k)), (fun k j => zt_F g (zs_v0 ((zt_E g (zs_v0 (G 1))).2 k)) j), (fun k j => zt_F g (zs_v0 (KF k)) j), (fun k => zs_vx (F k)), (fun k => zt_L g (LF k)))
def zt_of (g : Nat → Option zs_HC) (x : Nat) : Option zt_T := match g x with
  | some (4, 8, F) => (zs_vr (F 0)).bind fun l => (zs_vr (F 1)).bind fun la => (zs_vr (F 2)).bind fun lk => (match g l, g la, g lk with
    | some (17, 3, G), some (69, 4, LF), some (74, 6, KF) => (zs_vi (G 2)).bind fun n => if (n = nI n.toNatClampNeg ∧ n.toNatClampNeg ≤ 6) ∧ (List.range 5).all (fun k => zs_bI (F (k + 3))) = true ∧ (n.toNatClampNeg = 0 ∨ zt_c4 g G n.toNatClampNeg = true) ∧ (List.range 4).all (fun k => zt_c3 g (LF k)) = true ∧ (List.range 6).all (fun k => zs_bR (KF k) && zt_c2 g (zs_v0 (KF k))) = true then some (zt_mk g x l la lk n F G LF KF) else none
    | _, _, _ => none)
  | _ => none
theorem zs_allr {n : Nat} {p : Nat → Bool} (h : (List.range n).all p = true) {k : Nat} (hk : k < n) : p k = true := List.all_eq_true.mp h k (List.mem_range.mpr hk)
theorem zt_c1_at {g : Nat → Option zs_HC} {a : Nat} (h : zt_c1 g a = true) : ∃ f, g a = some (16, 3, f) ∧ f 1 = .int (zt_F g a 1) ∧ f 2 = .int (zt_F g a 2) := by
  unfold zt_c1 at h
  split at h
  · rename_i f hg
    rw [Bool.and_eq_true] at h
    refine ⟨f, hg, ?_, ?_⟩
    · unfold zt_F; rw [hg]; exact zs_bI_of h.1
    · unfold zt_F; rw [hg]; exact zs_bI_of h.2
  · cases h
theorem zt_c2_at {g : Nat → Option zs_HC} {a : Nat} (h : zt_c2 g a = true) : ∃ f, g a = some (64, 6, f) ∧ ∀ j, j < 6 → f j = .int (zt_F g a j) := by
  unfold zt_c2 at h
  split at h
  · rename_i f hg
    refine ⟨f, hg, fun j hj => ?_⟩
    unfold zt_F; rw [hg]; exact zs_bI_of (zs_allr h hj)
  · cases h
theorem zt_of_at {g : Nat → Option zs_HC} {x : Nat} {T : zt_T} (h : zt_of g x = some T) : zt_at g T ∧ zt_ad T 0 = x := by
  unfold zt_of at h
  split at h
  · rename_i F hg
    obtain ⟨l, h1, h⟩ := zs_bsome h
    obtain ⟨la, h2, h⟩ := zs_bsome h
    obtain ⟨lk, h3, h⟩ := zs_bsome h
    split at h
    · rename_i G LF KF g1 g2 g3
      obtain ⟨n, h4, h⟩ := zs_bsome h
      split at h
      · rename_i hc
        obtain ⟨⟨c1, c2⟩, c3, c4, c5, c6⟩ := hc
        cases h
        refine ⟨⟨⟨F, hg, zs_vr_of h1, zs_vr_of h2, zs_vr_of h3, fun k k1 k2 => ?_⟩, ⟨G, g1, ?_, fun h0 => ?_⟩, c2, fun h0 => ?_, fun k hk => ?_, ⟨LF, g2, fun k hk => ⟨fun hn => ?_, fun L hL => ?_⟩⟩, ⟨KF, g3, fun k hk => ?_⟩, fun k hk => ?_⟩, rfl⟩
        · have := zs_bI_of (zs_allr c3 (k := k - 3) (by omega))
          rw [show k - 3 + 3 = k by omega] at this
          exact this
        · rw [zs_vi_of h4]
          show Value.int n = .int (nI n.toNatClampNeg)
          rw [← c1]
        · rcases c4 with c4 | c4
          · exact absurd (show n.toNatClampNeg = 0 from c4) (Nat.ne_of_gt h0)
          · unfold zt_c4 at c4
            split at c4
            · rename_i cap E hE
              rw [Bool.and_eq_true, Bool.and_eq_true] at c4
              exact zs_bR_of c4.1.1
            · cases c4
        · rcases c4 with c4 | c4
          · exact absurd (show n.toNatClampNeg = 0 from c4) (Nat.ne_of_gt h0)
          · unfold zt_c4 at c4
            split at c4
            · rename_i cap E hE
              rw [Bool.and_eq_true, Bool.and_eq_true] at c4
              have hz : zt_E g (zs_v0 (G 1)) = (cap, E) := zt_E_of hE
              have hd := of_decide_eq_true c4.1.2
              refine ⟨E, ?_, ?_, ?_, fun k hk => ?_⟩
              · show g (zs_v0 (G 1)) = some (73, (zt_E g (zs_v0 (G 1))).1, E)
                rw [hz]; exact hE
              · show n.toNatClampNeg ≤ (zt_E g (zs_v0 (G 1))).1
                rw [hz]; exact hd.1
              · show (zt_E g (zs_v0 (G 1))).1 < 2 ^ 31
                rw [hz]; exact hd.2
              · show E k = .ref (zs_v0 ((zt_E g (zs_v0 (G 1))).2 k))
                rw [hz]
                have := zs_allr c4.2 hk
                rw [Bool.and_eq_true] at this
                exact zs_bR_of this.1
            · cases c4
        · have h0 : 0 < n.toNatClampNeg := Nat.lt_of_le_of_lt (Nat.zero_le k) hk
          rcases c4 with c4 | c4
          · exact absurd (show n.toNatClampNeg = 0 from c4) (Nat.ne_of_gt h0)
          · unfold zt_c4 at c4
            split at c4
            · rename_i cap E hE
              rw [Bool.and_eq_true, Bool.and_eq_true] at c4
              have hz : zt_E g (zs_v0 (G 1)) = (cap, E) := zt_E_of hE
              have := zs_allr c4.2 hk
              rw [Bool.and_eq_true] at this
              have := zt_c1_at this.2
              show ∃ f, g (zs_v0 ((zt_E g (zs_v0 (G 1))).2 k)) = some (16, 3, f) ∧ f 1 = .int (zt_F g (zs_v0 ((zt_E g (zs_v0 (G 1))).2 k)) 1) ∧ f 2 = .int (zt_F g (zs_v0 ((zt_E g (zs_v0 (G 1))).2 k)) 2)
              rw [hz]
              exact this
            · cases c4
        · have h5 := zs_allr c5 hk
          have hn' : zt_L g (LF k) = none := hn
          unfold zt_c3 at h5
          unfold zt_L at hn'
          cases hv : LF k with
          | null => rfl
          | ref a =>
            rw [hv] at h5 hn'
            simp only at h5 hn'
            rw [hn'] at h5
            cases h5
          | _ => rw [hv] at h5; cases h5
        · have hL' : zt_L g (LF k) = some L := hL
          unfold zt_L at hL'
          cases hv : LF k with
          | ref a =>
            rw [hv] at hL'
            have e : zt_ad (zt_mk g x l la lk n F G LF KF) (20 + k) = a := by
              show (if 20 + k = 0 then x else if 20 + k = 1 then l else if 20 + k = 2 then zs_v0 (G 1) else if 20 + k = 3 then la else if 20 + k = 4 then lk else if 20 + k < 20 then zs_v0 (KF (20 + k - 5)) else zs_v0 (LF (20 + k - 20))) = a
              rw [if_neg (by omega), if_neg (by omega), if_neg (by omega), if_neg (by omega), if_neg (by omega), if_neg (by omega), Nat.add_sub_cancel_left, hv]
              rfl
            rw [e]
            exact ⟨rfl, zl_lawof_at hL'⟩
          | _ => rw [hv] at hL'; cases hL'
        · have h6 := zs_allr c6 hk
          rw [Bool.and_eq_true] at h6
          show KF k = .ref (if 5 + k = 0 then x else if 5 + k = 1 then l else if 5 + k = 2 then zs_v0 (G 1) else if 5 + k = 3 then la else if 5 + k = 4 then lk else if 5 + k < 20 then zs_v0 (KF (5 + k - 5)) else zs_v0 (LF (5 + k - 20)))
          rw [if_neg (by omega), if_neg (by omega), if_neg (by omega), if_neg (by omega), if_neg (by omega), if_pos (by omega), Nat.add_sub_cancel_left]
          exact zs_bR_of h6.1
        · have h6 := zs_allr c6 hk
          rw [Bool.and_eq_true] at h6
          have := zt_c2_at h6.2
          show ∃ f, g (if 5 + k = 0 then x else if 5 + k = 1 then l else if 5 + k = 2 then zs_v0 (G 1) else if 5 + k = 3 then la else if 5 + k = 4 then lk else if 5 + k < 20 then zs_v0 (KF (5 + k - 5)) else zs_v0 (LF (5 + k - 20))) = some (64, 6, f) ∧ ∀ j, j < 6 → f j = .int (zt_F g (zs_v0 (KF k)) j)
          rw [if_neg (by omega), if_neg (by omega), if_neg (by omega), if_neg (by omega), if_neg (by omega), if_pos (by omega), Nat.add_sub_cancel_left]
          exact this
      · cases h
    · cases h
  · cases h
