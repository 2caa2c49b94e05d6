/-! THE MODEL OBJECT as numbers: fields, int arrays (bytes, truth values too), long arrays, by the field's number -/
set_option maxRecDepth 100000
abbrev zm_S : Type := (Nat → Int32) × (Nat → Nat → Int32) × (Nat → Nat → Int64)
def zm_off : Nat → Nat
  | 1 => 1
  | 3 => 2
  | 5 => 3
  | 6 => 4
  | 7 => 5
  | 8 => 6
  | 9 => 7
  | 21 => 8
  | 22 => 9
  | 23 => 10
  | 24 => 11
  | 25 => 12
  | 26 => 13
  | 27 => 14
  | 28 => 15
  | 29 => 16
  | 30 => 17
  | 31 => 18
  | 32 => 19
  | 34 => 20
  | 35 => 21
  | 36 => 22
  | 37 => 23
  | 38 => 24
  | 40 => 25
  | 41 => 26
  | 42 => 27
  | 44 => 28
  | 45 => 29
  | 47 => 30
  | 48 => 31
  | 51 => 32
  | 52 => 33
  | 54 => 34
  | 55 => 35
  | 56 => 36
  | 57 => 37
  | 58 => 38
  | 59 => 39
  | 60 => 40
  | 62 => 41
  | 64 => 42
  | 65 => 43
  | 66 => 44
  | 67 => 45
  | 68 => 46
  | 69 => 47
  | 70 => 48
  | _ => 0
def zm_fld : Nat → Nat
  | 1 => 1
  | 2 => 3
  | 3 => 5
  | 4 => 6
  | 5 => 7
  | 6 => 8
  | 7 => 9
  | 8 => 21
  | 9 => 22
  | 10 => 23
  | 11 => 24
  | 12 => 25
  | 13 => 26
  | 14 => 27
  | 15 => 28
  | 16 => 29
  | 17 => 30
  | 18 => 31
  | 19 => 32
  | 20 => 34
  | 21 => 35
  | 22 => 36
  | 23 => 37
  | 24 => 38
  | 25 => 40
  | 26 => 41
  | 27 => 42
  | 28 => 44
  | 29 => 45
  | 30 => 47
  | 31 => 48
  | 32 => 51
  | 33 => 52
  | 34 => 54
  | 35 => 55
  | 36 => 56
  | 37 => 57
  | 38 => 58
  | 39 => 59
  | 40 => 60
  | 41 => 62
  | 42 => 64
  | 43 => 65
  | 44 => 66
  | 45 => 67
  | 46 => 68
  | 47 => 69
  | 48 => 70
  | _ => 0
def zm_tag : Nat → Nat
  | 1 => 65
  | 3 => 65
  | 5 => 64
  | 6 => 64
  | 7 => 64
  | 8 => 68
  | 9 => 68
  | 21 => 68
  | 22 => 64
  | 23 => 64
  | 24 => 64
  | 25 => 64
  | 26 => 64
  | 27 => 64
  | 28 => 64
  | 29 => 64
  | 30 => 64
  | 31 => 64
  | 32 => 64
  | 34 => 67
  | 35 => 64
  | 36 => 64
  | 37 => 64
  | 38 => 64
  | 40 => 64
  | 41 => 64
  | 42 => 64
  | 44 => 64
  | 45 => 64
  | 47 => 64
  | 48 => 64
  | 51 => 64
  | 52 => 64
  | 54 => 64
  | 55 => 64
  | 56 => 64
  | 57 => 64
  | 58 => 64
  | 59 => 64
  | 60 => 64
  | 62 => 64
  | 64 => 64
  | 65 => 64
  | 66 => 67
  | 67 => 64
  | 68 => 64
  | 69 => 67
  | 70 => 64
  | _ => 64
def zm_len : Nat → Nat
  | 1 => 2000
  | 3 => 2000
  | 5 => 403
  | 6 => 403
  | 7 => 403
  | 8 => 403
  | 9 => 22
  | 21 => 6
  | 22 => 2
  | 23 => 12
  | 24 => 12
  | 25 => 2
  | 26 => 72
  | 27 => 2
  | 28 => 2
  | 29 => 2
  | 30 => 2
  | 31 => 8
  | 32 => 8
  | 34 => 260
  | 35 => 260
  | 36 => 260
  | 37 => 260
  | 38 => 260
  | 40 => 840
  | 41 => 840
  | 42 => 64
  | 44 => 9
  | 45 => 400
  | 47 => 33
  | 48 => 33
  | 51 => 6
  | 52 => 6
  | 54 => 1320
  | 55 => 6
  | 56 => 6
  | 57 => 36
  | 58 => 36
  | 59 => 36
  | 60 => 6
  | 62 => 6
  | 64 => 20
  | 65 => 20
  | 66 => 20
  | 67 => 6
  | 68 => 6
  | 69 => 3
  | 70 => 99
  | _ => 0
def zm_obj (m : Nat) (M : zm_S) : Nat → Value := fun k => if zm_off k = 0 then .int (M.1 k) else .ref (m + zm_off k)
def zm_arr (M : zm_S) (k : Nat) : zs_HC := if zm_tag k = 68 then (68, zm_len k, fun j => .long (M.2.2 k j)) else (zm_tag k, zm_len k, fun j => .int (M.2.1 k j))
def zm_cell (m : Nat) (M : zm_S) (j : Nat) : zs_HC := if j = 0 then (10, 71, zm_obj m M) else zm_arr M (zm_fld j)
/-- the heap h0 with the model M at m, m + 1 .. -/
def zm_h (h0 : zs_AH) (m : Nat) (M : zm_S) : zs_AH := (h0.1, h0.2.1, fun a => if m ≤ a ∧ a < m + 49 then some (zm_cell m M (a - m)) else h0.2.2 a)
def zm_R (h0 : zs_AH) (m : Nat) : zm_S → zs_AH → Prop := fun M h => h0.1 ≤ m ∧ h = zm_h h0 m M
def zm_bd : zm_S → Nat × Nat := fun _ => (0, 0)
def zm_sF (M : zm_S) (k : Nat) (x : Int32) : zm_S := (fun j => if j = k then x else M.1 j, M.2.1, M.2.2)
def zm_sA (M : zm_S) (k : Nat) (i x : Int32) : zm_S := (M.1, fun j => if j = k then upd (M.2.1 k) i.toNatClampNeg x else M.2.1 j, M.2.2)
def zm_sL (M : zm_S) (k : Nat) (i : Int32) (x : Int64) : zm_S := (M.1, M.2.1, fun j => if j = k then vp_updL (M.2.2 k) i.toNatClampNeg x else M.2.2 j)
theorem zm_at {h0 : zs_AH} {m : Nat} {M : zm_S} (j : Nat) (hj : j < 49) : (zm_h h0 m M).2.2 (m + j) = some (zm_cell m M j) := by
  show (if m ≤ m + j ∧ m + j < m + 49 then some (zm_cell m M (m + j - m)) else h0.2.2 (m + j)) = _
  rw [if_pos ⟨Nat.le_add_right _ _, Nat.add_lt_add_left hj _⟩, Nat.add_sub_cancel_left]
theorem zm_up {h0 : zs_AH} {m : Nat} {M M1 : zm_S} (j : Nat) (hj : j < 49) (x : zs_HC) (hx : x = zm_cell m M1 j) (ho : ∀ i, i < 49 → i ≠ j → zm_cell m M i = zm_cell m M1 i) : zs_up (zm_h h0 m M) (m + j) x = zm_h h0 m M1 := by
  refine Prod.ext rfl (Prod.ext rfl (funext fun q => ?_))
  show (if q = m + j then some x else if m ≤ q ∧ q < m + 49 then some (zm_cell m M (q - m)) else h0.2.2 q) = if m ≤ q ∧ q < m + 49 then some (zm_cell m M1 (q - m)) else h0.2.2 q
  by_cases h1 : q = m + j
  · subst h1
    rw [if_pos rfl, if_pos ⟨Nat.le_add_right _ _, Nat.add_lt_add_left hj _⟩, Nat.add_sub_cancel_left, hx]
  · rw [if_neg h1]
    by_cases h2 : m ≤ q ∧ q < m + 49
    · rw [if_pos h2, if_pos h2, ho (q - m) (by omega) (by omega)]
    · rw [if_neg h2, if_neg h2]
/-- the table of the arrays' places is one to one -/
theorem zm_tab : ∀ i, i < 49 → 0 < i → zm_off (zm_fld i) = i := by decide +kernel
theorem zm_fld_ne {i j k : Nat} (hi : i < 49) (hj : zm_off k = j) (h : i ≠ j) (h0 : 0 < i) : zm_fld i ≠ k := by
  intro e
  have h1 := zm_tab i hi h0
  rw [e, hj] at h1
  exact h h1.symm
theorem zm_cell_sF {m : Nat} {M : zm_S} {k : Nat} {x : Int32} {i : Nat} (hi : i ≠ 0) : zm_cell m M i = zm_cell m (zm_sF M k x) i := by
  unfold zm_cell
  rw [if_neg hi, if_neg hi]
  rfl
theorem zm_cell_sA {m : Nat} {M : zm_S} {k j : Nat} {z x : Int32} {i : Nat} (hi : i < 49) (hj : zm_off k = j) (h : i ≠ j) : zm_cell m M i = zm_cell m (zm_sA M k z x) i := by
  unfold zm_cell
  by_cases h0 : i = 0
  · rw [if_pos h0, if_pos h0]
    rfl
  · rw [if_neg h0, if_neg h0]
    have hne := zm_fld_ne hi hj h (Nat.pos_of_ne_zero h0)
    unfold zm_arr zm_sA
    simp only [if_neg hne]
theorem zm_cell_sL {m : Nat} {M : zm_S} {k j : Nat} {z : Int32} {x : Int64} {i : Nat} (hi : i < 49) (hj : zm_off k = j) (h : i ≠ j) : zm_cell m M i = zm_cell m (zm_sL M k z x) i := by
  unfold zm_cell
  by_cases h0 : i = 0
  · rw [if_pos h0, if_pos h0]
    rfl
  · rw [if_neg h0, if_neg h0]
    have hne := zm_fld_ne hi hj h (Nat.pos_of_ne_zero h0)
    unfold zm_arr zm_sL
    simp only [if_neg hne]
theorem zc_X10 : zs_cls 10 RX10 TX10 71 tyX10 := ⟨by decide, rfl, in_X10, tyX10_ok, nmX10⟩
theorem zm_recv {h0 : zs_AH} {m : Nat} {M : zm_S} : ∀ h, zm_R h0 m M h → ∃ k f, h.2.2 m = some (10, k, f) := fun h hR => ⟨71, zm_obj m M, by rw [hR.2]; exact zm_at 0 (by decide)⟩
section ZM
variable {α β : Type} {D : zs_D} {h0 : zs_AH} {m : Nat} {Fn : zs_Q zm_S α} {own : String} {cc : ByteArray} {nL : Nat} {rt : Option FieldType} {nm : String} {d : Nat} {M : zm_S} {pc : Nat} {lv : List (Nat × Value)} {st : List Value} {o : Option β} {K : β → Option (α × zm_S)}
/-- this.k, a number -/
theorem zm_geti (k : Nat) {i : Nat} (hk : k < 71) (ho : zm_off k = 0) (hq : Cond.fieldLink own i (TX10 k).1 (TX10 k).2.1 (TX10 k).2.2.1 ∈ lw_all) (hd : decode cc pc = .ok (.getfield i, 3)) (kk : zs_Sim D (zm_R h0 m) zm_bd Fn own cc nL rt nm d M (pc + 3) lv (.int (M.1 k) :: st) o K) : zs_Sim D (zm_R h0 m) zm_bd Fn own cc nL rt nm d M pc lv (.ref m :: st) o K :=
  zs_getf k zc_X10 hk hq (fun h hR => ⟨zm_obj m M, by rw [hR.2]; exact zm_at 0 (by decide), if_pos ho⟩) hd kk
/-- this.k, an array -/
theorem zm_geta (k j : Nat) {i : Nat} (hk : k < 71) (ho : zm_off k = j + 1) (hq : Cond.fieldLink own i (TX10 k).1 (TX10 k).2.1 (TX10 k).2.2.1 ∈ lw_all) (hd : decode cc pc = .ok (.getfield i, 3)) (kk : zs_Sim D (zm_R h0 m) zm_bd Fn own cc nL rt nm d M (pc + 3) lv (.ref (m + (j + 1)) :: st) o K) : zs_Sim D (zm_R h0 m) zm_bd Fn own cc nL rt nm d M pc lv (.ref m :: st) o K :=
  zs_getf k zc_X10 hk hq (fun h hR => ⟨zm_obj m M, by rw [hR.2]; exact zm_at 0 (by decide), by show (if zm_off k = 0 then _ else _) = _; rw [if_neg (by rw [ho]; exact Nat.succ_ne_zero j), ho]⟩) hd kk
/-- this.k = x -/
theorem zm_puti (k : Nat) {i : Nat} {x : Int32} (hk : k < 71) (ho : zm_off k = 0) (hq : Cond.fieldLink own i (TX10 k).1 (TX10 k).2.1 (TX10 k).2.2.1 ∈ lw_all) (hfin : (TX10 k).2.2.2 = false) (hn : narrow (tyX10 k) (.int x) = .int x) (hfit : fits (tyX10 k) (.int x) = true) (hd : decode cc pc = .ok (.putfield i, 3)) (kk : zs_Sim D (zm_R h0 m) zm_bd Fn own cc nL rt nm d (zm_sF M k x) (pc + 3) lv st o K) : zs_Sim D (zm_R h0 m) zm_bd Fn own cc nL rt nm d M pc lv (.int x :: .ref m :: st) o K := by
  refine zs_putf (M1 := zm_sF M k x) (F := zm_obj m M) k zc_X10 hk hq hfin hn hfit rfl (fun h hR => ?_) hd kk
  obtain ⟨hb, rfl⟩ := hR
  refine ⟨zm_at 0 (by decide), hb, hb, ?_⟩
  refine zm_up 0 (by decide) _ ?_ (fun i _ h => zm_cell_sF h)
  show _ = (10, 71, zm_obj m (zm_sF M k x))
  refine Prod.ext rfl (Prod.ext rfl (funext fun q => ?_))
  show updV (zm_obj m M) k (.int x) q = zm_obj m (zm_sF M k x) q
  by_cases hq : q = k
  · subst hq
    simp [updV, zm_obj, zm_sF, ho]
  · simp [updV, zm_obj, zm_sF, hq]
theorem zm_cellA {h : zs_AH} (hR : zm_R h0 m M h) (k j : Nat) (ho : zm_off k = j + 1) (hj : j + 1 < 49) (hf : zm_fld (j + 1) = k) (t : Nat) (ht : zm_tag k = t) (h8 : t ≠ 68) (n : Nat) (hn : zm_len k = n) : h.2.2 (m + (j + 1)) = some (t, n, fun q => .int (M.2.1 k q)) := by
  rw [hR.2, zm_at (j + 1) hj]
  unfold zm_cell
  rw [if_neg (Nat.succ_ne_zero j), hf]
  unfold zm_arr
  rw [ht, if_neg h8, hn]
theorem zm_cellL {h : zs_AH} (hR : zm_R h0 m M h) (k j : Nat) (ho : zm_off k = j + 1) (hj : j + 1 < 49) (hf : zm_fld (j + 1) = k) (ht : zm_tag k = 68) (n : Nat) (hn : zm_len k = n) : h.2.2 (m + (j + 1)) = some (68, n, fun q => .long (M.2.2 k q)) := by
  rw [hR.2, zm_at (j + 1) hj]
  unfold zm_cell
  rw [if_neg (Nat.succ_ne_zero j), hf]
  unfold zm_arr
  rw [ht, if_pos rfl, hn]
/-- what is asked of an array's place -/
def zm_pl (k j t n : Nat) : Prop := zm_off k = j + 1 ∧ j + 1 < 49 ∧ zm_fld (j + 1) = k ∧ zm_tag k = t ∧ zm_len k = n
theorem zm_iald (k j : Nat) {n : Nat} {i : Int32} {f : Int32 → Option β} (h : zm_pl k j 64 n) (hd : decode cc pc = .ok (.iaload, 1)) (kk : ∀ x, zs_Sim D (zm_R h0 m) zm_bd Fn own cc nL rt nm d M (pc + 1) lv (.int x :: st) (f x) K) : zs_Sim D (zm_R h0 m) zm_bd Fn own cc nL rt nm d M pc lv (.int i :: .ref (m + (j + 1)) :: st) ((zs_ald n (M.2.1 k) i).bind f) K :=
  zs_iald (fun _ hR => zm_cellA hR k j h.1 h.2.1 h.2.2.1 64 h.2.2.2.1 (by decide) n h.2.2.2.2) hd kk
theorem zm_bald (k j : Nat) {n : Nat} {i : Int32} {f : Int32 → Option β} (h : zm_pl k j 65 n) (hd : decode cc pc = .ok (.baload, 1)) (kk : ∀ x, zs_Sim D (zm_R h0 m) zm_bd Fn own cc nL rt nm d M (pc + 1) lv (.int x :: st) (f x) K) : zs_Sim D (zm_R h0 m) zm_bd Fn own cc nL rt nm d M pc lv (.int i :: .ref (m + (j + 1)) :: st) ((zs_ald n (M.2.1 k) i).bind f) K :=
  zs_bald (fun _ hR => zm_cellA hR k j h.1 h.2.1 h.2.2.1 65 h.2.2.2.1 (by decide) n h.2.2.2.2) hd kk
theorem zm_zald (k j : Nat) {n : Nat} {i : Int32} {f : Int32 → Option β} (h : zm_pl k j 67 n) (hd : decode cc pc = .ok (.baload, 1)) (kk : ∀ x, zs_Sim D (zm_R h0 m) zm_bd Fn own cc nL rt nm d M (pc + 1) lv (.int x :: st) (f x) K) : zs_Sim D (zm_R h0 m) zm_bd Fn own cc nL rt nm d M pc lv (.int i :: .ref (m + (j + 1)) :: st) ((zs_ald n (M.2.1 k) i).bind f) K :=
  zs_zald (fun _ hR => zm_cellA hR k j h.1 h.2.1 h.2.2.1 67 h.2.2.2.1 (by decide) n h.2.2.2.2) hd kk
theorem zm_lald (k j : Nat) {n : Nat} {i : Int32} {f : Int64 → Option β} (h : zm_pl k j 68 n) (hd : decode cc pc = .ok (.laload, 1)) (kk : ∀ x, zs_Sim D (zm_R h0 m) zm_bd Fn own cc nL rt nm d M (pc + 1) lv (.long x :: st) (f x) K) : zs_Sim D (zm_R h0 m) zm_bd Fn own cc nL rt nm d M pc lv (.int i :: .ref (m + (j + 1)) :: st) ((zs_ald n (M.2.2 k) i).bind f) K :=
  zs_lald (fun _ hR => zm_cellL hR k j h.1 h.2.1 h.2.2.1 h.2.2.2.1 n h.2.2.2.2) hd kk
theorem zm_stA {k j t n : Nat} {i x : Int32} (h : zm_pl k j t n) (h8 : t ≠ 68) {h1 : zs_AH} (hR : zm_R h0 m M h1) : h1.2.2 (m + (j + 1)) = some (t, n, fun q => .int (M.2.1 k q)) ∧ h1.1 ≤ m + (j + 1) ∧ zm_R h0 m (zm_sA M k i x) (zs_up h1 (m + (j + 1)) (t, n, fun q => .int (upd (M.2.1 k) i.toNatClampNeg x q))) := by
  refine ⟨zm_cellA hR k j h.1 h.2.1 h.2.2.1 t h.2.2.2.1 h8 n h.2.2.2.2, ?_, hR.1, ?_⟩
  · rw [hR.2]; exact Nat.le_trans hR.1 (Nat.le_add_right _ _)
  · rw [hR.2]
    refine zm_up (j + 1) h.2.1 _ ?_ (fun q hq hne => zm_cell_sA hq h.1 hne)
    unfold zm_cell
    rw [if_neg (Nat.succ_ne_zero j), h.2.2.1]
    unfold zm_arr zm_sA
    rw [h.2.2.2.1, if_neg h8, h.2.2.2.2]
    simp only [if_true]
theorem zm_stL {k j n : Nat} {i : Int32} {x : Int64} (h : zm_pl k j 68 n) {h1 : zs_AH} (hR : zm_R h0 m M h1) : h1.2.2 (m + (j + 1)) = some (68, n, fun q => .long (M.2.2 k q)) ∧ h1.1 ≤ m + (j + 1) ∧ zm_R h0 m (zm_sL M k i x) (zs_up h1 (m + (j + 1)) (68, n, fun q => .long (vp_updL (M.2.2 k) i.toNatClampNeg x q))) := by
  refine ⟨zm_cellL hR k j h.1 h.2.1 h.2.2.1 h.2.2.2.1 n h.2.2.2.2, ?_, hR.1, ?_⟩
  · rw [hR.2]; exact Nat.le_trans hR.1 (Nat.le_add_right _ _)
  · rw [hR.2]
    refine zm_up (j + 1) h.2.1 _ ?_ (fun q hq hne => zm_cell_sL hq h.1 hne)
    unfold zm_cell
    rw [if_neg (Nat.succ_ne_zero j), h.2.2.1]
    unfold zm_arr zm_sL
    rw [h.2.2.2.1, if_pos rfl, h.2.2.2.2]
    simp only [if_true]
theorem zm_iast (k j : Nat) {n : Nat} {i x : Int32} {f : zm_S → Option β} (h : zm_pl k j 64 n) (hd : decode cc pc = .ok (.iastore, 1)) (kk : ∀ M1, zs_Sim D (zm_R h0 m) zm_bd Fn own cc nL rt nm d M1 (pc + 1) lv st (f M1) K) : zs_Sim D (zm_R h0 m) zm_bd Fn own cc nL rt nm d M pc lv (.int x :: .int i :: .ref (m + (j + 1)) :: st) ((zs_ast n i (zm_sA M k i x)).bind f) K :=
  zs_iast (F := M.2.1 k) rfl (fun _ hR => zm_stA h (by decide) hR) hd (kk _)
theorem zm_bast (k j : Nat) {n : Nat} {i x : Int32} {f : zm_S → Option β} (h : zm_pl k j 65 n) (hd : decode cc pc = .ok (.bastore, 1)) (kk : ∀ M1, zs_Sim D (zm_R h0 m) zm_bd Fn own cc nL rt nm d M1 (pc + 1) lv st (f M1) K) : zs_Sim D (zm_R h0 m) zm_bd Fn own cc nL rt nm d M pc lv (.int x :: .int i :: .ref (m + (j + 1)) :: st) ((zs_ast n i (zm_sA M k i (vp_nar .byte x))).bind f) K :=
  zs_bast (F := M.2.1 k) rfl (fun _ hR => zm_stA h (by decide) hR) hd (kk _)
theorem zm_zast (k j : Nat) {n : Nat} {i x : Int32} {f : zm_S → Option β} (h : zm_pl k j 67 n) (hd : decode cc pc = .ok (.bastore, 1)) (kk : ∀ M1, zs_Sim D (zm_R h0 m) zm_bd Fn own cc nL rt nm d M1 (pc + 1) lv st (f M1) K) : zs_Sim D (zm_R h0 m) zm_bd Fn own cc nL rt nm d M pc lv (.int x :: .int i :: .ref (m + (j + 1)) :: st) ((zs_ast n i (zm_sA M k i (vp_nar .boolean x))).bind f) K :=
  zs_zast (F := M.2.1 k) rfl (fun _ hR => zm_stA h (by decide) hR) hd (kk _)
theorem zm_last (k j : Nat) {n : Nat} {i : Int32} {x : Int64} {f : zm_S → Option β} (h : zm_pl k j 68 n) (hd : decode cc pc = .ok (.lastore, 1)) (kk : ∀ M1, zs_Sim D (zm_R h0 m) zm_bd Fn own cc nL rt nm d M1 (pc + 1) lv st (f M1) K) : zs_Sim D (zm_R h0 m) zm_bd Fn own cc nL rt nm d M pc lv (.long x :: .int i :: .ref (m + (j + 1)) :: st) ((zs_ast n i (zm_sL M k i x)).bind f) K :=
  zs_last (F := M.2.2 k) rfl (fun _ hR => zm_stL h hR) hd (kk _)
end ZM
theorem zm_p1 : zm_pl 1 0 65 2000 := ⟨rfl, by decide, rfl, rfl, rfl⟩
theorem zm_p3 : zm_pl 3 1 65 2000 := ⟨rfl, by decide, rfl, rfl, rfl⟩
theorem zm_p5 : zm_pl 5 2 64 403 := ⟨rfl, by decide, rfl, rfl, rfl⟩
theorem zm_p6 : zm_pl 6 3 64 403 := ⟨rfl, by decide, rfl, rfl, rfl⟩
theorem zm_p7 : zm_pl 7 4 64 403 := ⟨rfl, by decide, rfl, rfl, rfl⟩
theorem zm_p8 : zm_pl 8 5 68 403 := ⟨rfl, by decide, rfl, rfl, rfl⟩
theorem zm_p9 : zm_pl 9 6 68 22 := ⟨rfl, by decide, rfl, rfl, rfl⟩
theorem zm_p21 : zm_pl 21 7 68 6 := ⟨rfl, by decide, rfl, rfl, rfl⟩
theorem zm_p22 : zm_pl 22 8 64 2 := ⟨rfl, by decide, rfl, rfl, rfl⟩
theorem zm_p23 : zm_pl 23 9 64 12 := ⟨rfl, by decide, rfl, rfl, rfl⟩
theorem zm_p24 : zm_pl 24 10 64 12 := ⟨rfl, by decide, rfl, rfl, rfl⟩
theorem zm_p25 : zm_pl 25 11 64 2 := ⟨rfl, by decide, rfl, rfl, rfl⟩
theorem zm_p26 : zm_pl 26 12 64 72 := ⟨rfl, by decide, rfl, rfl, rfl⟩
theorem zm_p27 : zm_pl 27 13 64 2 := ⟨rfl, by decide, rfl, rfl, rfl⟩
theorem zm_p28 : zm_pl 28 14 64 2 := ⟨rfl, by decide, rfl, rfl, rfl⟩
theorem zm_p29 : zm_pl 29 15 64 2 := ⟨rfl, by decide, rfl, rfl, rfl⟩
theorem zm_p30 : zm_pl 30 16 64 2 := ⟨rfl, by decide, rfl, rfl, rfl⟩
theorem zm_p31 : zm_pl 31 17 64 8 := ⟨rfl, by decide, rfl, rfl, rfl⟩
theorem zm_p32 : zm_pl 32 18 64 8 := ⟨rfl, by decide, rfl, rfl, rfl⟩
theorem zm_p34 : zm_pl 34 19 67 260 := ⟨rfl, by decide, rfl, rfl, rfl⟩
theorem zm_p35 : zm_pl 35 20 64 260 := ⟨rfl, by decide, rfl, rfl, rfl⟩
theorem zm_p36 : zm_pl 36 21 64 260 := ⟨rfl, by decide, rfl, rfl, rfl⟩
theorem zm_p37 : zm_pl 37 22 64 260 := ⟨rfl, by decide, rfl, rfl, rfl⟩
theorem zm_p38 : zm_pl 38 23 64 260 := ⟨rfl, by decide, rfl, rfl, rfl⟩
theorem zm_p40 : zm_pl 40 24 64 840 := ⟨rfl, by decide, rfl, rfl, rfl⟩
theorem zm_p41 : zm_pl 41 25 64 840 := ⟨rfl, by decide, rfl, rfl, rfl⟩
theorem zm_p42 : zm_pl 42 26 64 64 := ⟨rfl, by decide, rfl, rfl, rfl⟩
theorem zm_p44 : zm_pl 44 27 64 9 := ⟨rfl, by decide, rfl, rfl, rfl⟩
theorem zm_p45 : zm_pl 45 28 64 400 := ⟨rfl, by decide, rfl, rfl, rfl⟩
theorem zm_p47 : zm_pl 47 29 64 33 := ⟨rfl, by decide, rfl, rfl, rfl⟩
theorem zm_p48 : zm_pl 48 30 64 33 := ⟨rfl, by decide, rfl, rfl, rfl⟩
theorem zm_p51 : zm_pl 51 31 64 6 := ⟨rfl, by decide, rfl, rfl, rfl⟩
theorem zm_p52 : zm_pl 52 32 64 6 := ⟨rfl, by decide, rfl, rfl, rfl⟩
theorem zm_p54 : zm_pl 54 33 64 1320 := ⟨rfl, by decide, rfl, rfl, rfl⟩
theorem zm_p55 : zm_pl 55 34 64 6 := ⟨rfl, by decide, rfl, rfl, rfl⟩
theorem zm_p56 : zm_pl 56 35 64 6 := ⟨rfl, by decide, rfl, rfl, rfl⟩
theorem zm_p57 : zm_pl 57 36 64 36 := ⟨rfl, by decide, rfl, rfl, rfl⟩
theorem zm_p58 : zm_pl 58 37 64 36 := ⟨rfl, by decide, rfl, rfl, rfl⟩
theorem zm_p59 : zm_pl 59 38 64 36 := ⟨rfl, by decide, rfl, rfl, rfl⟩
theorem zm_p60 : zm_pl 60 39 64 6 := ⟨rfl, by decide, rfl, rfl, rfl⟩
theorem zm_p62 : zm_pl 62 40 64 6 := ⟨rfl, by decide, rfl, rfl, rfl⟩
theorem zm_p64 : zm_pl 64 41 64 20 := ⟨rfl, by decide, rfl, rfl, rfl⟩
theorem zm_p65 : zm_pl 65 42 64 20 := ⟨rfl, by decide, rfl, rfl, rfl⟩
theorem zm_p66 : zm_pl 66 43 67 20 := ⟨rfl, by decide, rfl, rfl, rfl⟩
theorem zm_p67 : zm_pl 67 44 64 6 := ⟨rfl, by decide, rfl, rfl, rfl⟩
theorem zm_p68 : zm_pl 68 45 64 6 := ⟨rfl, by decide, rfl, rfl, rfl⟩
theorem zm_p69 : zm_pl 69 46 67 3 := ⟨rfl, by decide, rfl, rfl, rfl⟩
theorem zm_p70 : zm_pl 70 47 64 99 := ⟨rfl, by decide, rfl, rfl, rfl⟩
