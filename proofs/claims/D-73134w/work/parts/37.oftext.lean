/-! a text read off the heap -/
set_option maxRecDepth 100000
def zs_vi (v : Value) : Option Int32 := match v with | .int x => some x | _ => none
def zs_vr (v : Value) : Option Nat := match v with | .ref x => some x | _ => none
def zs_v0 (v : Value) : Nat := match v with | .ref x => x | _ => 0
def zs_vx (v : Value) : Int32 := match v with | .int x => x | _ => 0
theorem zs_vi_of {v : Value} {x : Int32} (h : zs_vi v = some x) : v = .int x := by
  cases v with
  | int y => cases h; rfl
  | _ => cases h
theorem zs_vr_of {v : Value} {x : Nat} (h : zs_vr v = some x) : v = .ref x := by
  cases v with
  | ref y => cases h; rfl
  | _ => cases h
def zl_of (g : Nat → Option zs_HC) : Nat → Nat → Option zl_C
  | 0, _ => none
  | d + 1, a => match g a with
    | some (13, 1, F) => (zs_vi (F 0)).bind fun v => some [(0, v)]
    | some (14, 1, F) => (zs_vi (F 0)).bind fun k => if zs_in k 9 = true then some [(1, k)] else none
    | some (15, 3, F) => (zs_vi (F 0)).bind fun op => (zs_vr (F 1)).bind fun a1 => (zs_vr (F 2)).bind fun a2 => (zl_of g d a1).bind fun c1 => (zl_of g d a2).bind fun c2 => some (c1 ++ c2 ++ [(zl_op op, 0)])
    | _ => none
theorem zs_bsome {α β : Type} {x : Option α} {f : α → Option β} {y : β} (h : x.bind f = some y) : ∃ z, x = some z ∧ f z = some y := by
  cases x with
  | none => cases h
  | some z => exact ⟨z, rfl, h⟩
theorem zl_of_at {g : Nat → Option zs_HC} : ∀ (d a : Nat) (c : zl_C), zl_of g d a = some c → zl_at g d a c := by
  intro d
  induction d with
  | zero => intro a c h; cases h
  | succ d ih =>
    intro a c h
    unfold zl_of at h
    split at h
    · rename_i F hg
      obtain ⟨v, h1, h2⟩ := zs_bsome h
      cases h2
      exact Or.inl ⟨F, v, hg, zs_vi_of h1, rfl⟩
    · rename_i F hg
      obtain ⟨k, h1, h2⟩ := zs_bsome h
      by_cases hk : zs_in k 9 = true
      · rw [if_pos hk] at h2
        cases h2
        exact Or.inr (Or.inl ⟨F, k, hg, zs_vi_of h1, hk, rfl⟩)
      · rw [if_neg hk] at h2; cases h2
    · rename_i F hg
      obtain ⟨op, h1, h⟩ := zs_bsome h
      obtain ⟨a1, h2, h⟩ := zs_bsome h
      obtain ⟨a2, h3, h⟩ := zs_bsome h
      obtain ⟨c1, h4, h⟩ := zs_bsome h
      obtain ⟨c2, h5, h⟩ := zs_bsome h
      cases h
      exact Or.inr (Or.inr ⟨F, op, a1, a2, c1, c2, hg, zs_vi_of h1, zs_vr_of h2, zs_vr_of h3, ih _ _ h4, ih _ _ h5, rfl⟩)
    · cases h
/-- the ifs from the k-th on -/
def zl_ifs (g : Nat → Option zs_HC) (f1 f2 f3 : Nat → Value) : Nat → Nat → Option (List (zl_C × zl_C × zl_C))
  | _, 0 => some []
  | k, n + 1 => (zs_vr (f1 k)).bind fun b1 => (zs_vr (f2 k)).bind fun b2 => (zs_vr (f3 k)).bind fun b3 => (zl_of g 420 b1).bind fun c1 => (zl_of g 420 b2).bind fun c2 => (zl_of g 420 b3).bind fun c3 => (zl_ifs g f1 f2 f3 (k + 1) n).bind fun r => some ((c1, c2, c3) :: r)
theorem zl_ifs_at {g : Nat → Option zs_HC} {f1 f2 f3 : Nat → Value} : ∀ (n k : Nat) (L : List (zl_C × zl_C × zl_C)), zl_ifs g f1 f2 f3 k n = some L → L.length = n ∧ ∀ j q, L[j]? = some q → ∃ b1 b2 b3, f1 (k + j) = .ref b1 ∧ f2 (k + j) = .ref b2 ∧ f3 (k + j) = .ref b3 ∧ zl_at g 420 b1 q.1 ∧ zl_at g 420 b2 q.2.1 ∧ zl_at g 420 b3 q.2.2 := by
  intro n
  induction n with
  | zero =>
    intro k L h
    cases h
    exact ⟨rfl, fun j q hj => by simp at hj⟩
  | succ n ih =>
    intro k L h
    unfold zl_ifs at h
    obtain ⟨b1, h1, h⟩ := zs_bsome h
    obtain ⟨b2, h2, h⟩ := zs_bsome h
    obtain ⟨b3, h3, h⟩ := zs_bsome h
    obtain ⟨c1, h4, h⟩ := zs_bsome h
    obtain ⟨c2, h5, h⟩ := zs_bsome h
    obtain ⟨c3, h6, h⟩ := zs_bsome h
    obtain ⟨r, h7, h⟩ := zs_bsome h
    cases h
    obtain ⟨g1, g2⟩ := ih (k + 1) r h7
    refine ⟨by rw [List.length_cons, g1], fun j q hj => ?_⟩
    cases j with
    | zero =>
      have : (c1, c2, c3) = q := Option.some.inj hj
      subst this
      exact ⟨b1, b2, b3, zs_vr_of h1, zs_vr_of h2, zs_vr_of h3, zl_of_at _ _ _ h4, zl_of_at _ _ _ h5, zl_of_at _ _ _ h6⟩
    | succ j =>
      have hj' : r[j]? = some q := by simpa using hj
      have := g2 j q hj'
      rw [show k + 1 + j = k + (j + 1) by omega] at this
      exact this
def zl_lawof (g : Nat → Option zs_HC) (a : Nat) : Option zl_L := match g a with
  | some (11, 4, F) => (zs_vr (F 0)).bind fun a1 => (zs_vr (F 1)).bind fun a2 => (zs_vr (F 2)).bind fun a3 => (zs_vi (F 3)).bind fun z => if z = nI z.toNatClampNeg ∧ z.toNatClampNeg ≤ 4 then (match g a1, g a2, g a3 with
    | some (70, 4, f1), some (70, 4, f2), some (70, 5, f3) => (zl_ifs g f1 f2 f3 0 z.toNatClampNeg).bind fun L => (zs_vr (f3 z.toNatClampNeg)).bind fun b => (zl_of g 420 b).bind fun e => some (L, e)
    | _, _, _ => none) else none
  | _ => none
theorem zl_lawof_at {g : Nat → Option zs_HC} {a : Nat} {L : zl_L} (h : zl_lawof g a = some L) : zl_law g a L := by
  unfold zl_lawof at h
  split at h
  · rename_i F hg
    obtain ⟨a1, h1, h⟩ := zs_bsome h
    obtain ⟨a2, h2, h⟩ := zs_bsome h
    obtain ⟨a3, h3, h⟩ := zs_bsome h
    obtain ⟨z, h4, h⟩ := zs_bsome h
    by_cases hz : z = nI z.toNatClampNeg ∧ z.toNatClampNeg ≤ 4
    · rw [if_pos hz] at h
      split at h
      · rename_i f1 f2 f3 g1 g2 g3
        obtain ⟨L1, h5, h⟩ := zs_bsome h
        obtain ⟨b, h6, h⟩ := zs_bsome h
        obtain ⟨e, h7, h⟩ := zs_bsome h
        cases h
        obtain ⟨k1, k2⟩ := zl_ifs_at _ _ _ h5
        refine ⟨F, f1, f2, f3, a1, a2, a3, hg, zs_vr_of h1, zs_vr_of h2, zs_vr_of h3, ?_, ?_, g1, g2, g3, fun k q hk => ?_, b, ?_, zl_of_at _ _ _ h7⟩
        · rw [zs_vi_of h4]
          show Value.int z = .int (nI L1.length)
          rw [k1, ← hz.1]
        · show L1.length ≤ 4
          rw [k1]; exact hz.2
        · have := k2 k q hk
          rw [Nat.zero_add] at this
          exact this
        · show f3 L1.length = .ref b
          rw [k1]; exact zs_vr_of h6
      · cases h
    · rw [if_neg hz] at h; cases h
  · cases h
