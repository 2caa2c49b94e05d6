/-! what the tables say at the start: classes, arrays -/
set_option maxRecDepth 100000
section ST
variable {s : State} {args : Array Value}
theorem st_arr (ty : FieldType) (hw : (Cond.arrayClass ty).before args s = true) (hr : ∀ C, ty ≠ .object C) : ∃ cA, ArrOfT s cA ty ∧ va_RA s cA ty := by
  obtain ⟨c, k, comp, h1, h2, h3⟩ := Cond.arrayClass_spec hw
  refine ⟨c, fun n z => ⟨(fun q h => by cases h), k, h2, comp, h3⟩, ?_⟩
  cases ty with
  | object C => exact absurd rfl (hr C)
  | _ => exact h1
theorem st_arrO (C : String) (hw : (Cond.arrayOver (.object C)).before args s = true) : ∃ cA, ArrOfT s cA (.object C) ∧ va_RA s cA (.object C) := by
  obtain ⟨comp, c, k, h1, h2, h3, h4, h5⟩ := Cond.arrayOver_spec hw
  exact ⟨c, fun n z => ⟨(fun q h => by cases h), k, h3, comp, h4⟩, k, comp, h3, h4, h1, h5⟩
theorem st_arrA (hw : (Cond.arrayOver (.array .int)).before args s = true) : ∃ cA, ArrOfT s cA (.array .int) ∧ va_RA s cA (.array .int) := by
  obtain ⟨comp, c, k, h1, h2, h3, h4, h5⟩ := arrayOverA_spec hw
  exact ⟨c, fun n z => ⟨(fun q h => by cases h), k, h3, comp, h4⟩, h5⟩
theorem st_cls (hts : ∀ w ∈ lw_tbl, w.before args s = true) : ∀ (c : Nat) (q : vw_C), zs_C[c]? = some q → ∃ (cC : ClassId) (iS : Nat → Nat), u_Kn s q.1 q.2.1 q.2.2 cC iS := by
  have ha : ∀ w ∈ lw_all, w.before args s = true := fun w h => hts w (lw_all_tbl h)
  intro c q hq
  have hlt : c < 20 := by
    have := (List.getElem?_eq_some_iff.mp hq).1
    exact this
  have hcs : c = 0 ∨ c = 1 ∨ c = 2 ∨ c = 3 ∨ c = 4 ∨ c = 5 ∨ c = 6 ∨ c = 7 ∨ c = 8 ∨ c = 9 ∨ c = 10 ∨ c = 11 ∨ c = 12 ∨ c = 13 ∨ c = 14 ∨ c = 15 ∨ c = 16 ∨ c = 17 ∨ c = 18 ∨ c = 19 := by omega
  rcases hcs with rfl | rfl | rfl | rfl | rfl | rfl | rfl | rfl | rfl | rfl | rfl | rfl | rfl | rfl | rfl | rfl | rfl | rfl | rfl | rfl
  · obtain rfl := Option.some.inj hq
    exact u_known ha in_X0 (ha _ q170)
  · obtain rfl := Option.some.inj hq
    exact u_known ha in_X1 (ha _ q178)
  · obtain rfl := Option.some.inj hq
    exact u_known ha in_X2 (ha _ q252)
  · obtain rfl := Option.some.inj hq
    exact u_known ha in_X3 (ha _ q313)
  · obtain rfl := Option.some.inj hq
    exact u_known ha in_X4 (ha _ q341)
  · obtain rfl := Option.some.inj hq
    exact u_known ha in_X5 (ha _ q418)
  · obtain rfl := Option.some.inj hq
    exact u_known ha in_X6 (ha _ q424)
  · obtain rfl := Option.some.inj hq
    exact u_known ha in_X6 (ha _ q424)
  · obtain rfl := Option.some.inj hq
    exact u_known ha (fun w h => by simp [u_ws] at h) (ha _ q489)
  · obtain rfl := Option.some.inj hq
    exact u_known ha (fun w h => by simp [u_ws] at h) (ha _ q499)
  · obtain rfl := Option.some.inj hq
    exact u_known ha in_X10 (ha _ q1510)
  · obtain rfl := Option.some.inj hq
    exact u_known ha in_X11 (ha _ q737)
  · obtain rfl := Option.some.inj hq
    exact u_known ha in_X6 (ha _ q424)
  · obtain rfl := Option.some.inj hq
    exact u_known ha in_X13 (ha _ q790)
  · obtain rfl := Option.some.inj hq
    exact u_known ha in_X14 (ha _ q807)
  · obtain rfl := Option.some.inj hq
    exact u_known ha in_X15 (ha _ q817)
  · obtain rfl := Option.some.inj hq
    exact u_known ha in_X16 (ha _ q838)
  · obtain rfl := Option.some.inj hq
    exact u_known ha in_J5 (ha _ q347)
  · obtain rfl := Option.some.inj hq
    exact u_known ha in_J8 (ha _ q961)
  · obtain rfl := Option.some.inj hq
    exact u_known ha in_J12 (ha _ q852)
end ST
