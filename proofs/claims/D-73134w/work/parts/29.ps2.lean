/-! the reader's own cells: tokens, parser, fault, the words -/
set_option maxRecDepth 100000
def zs_eK (a : Nat) (_ : Unit) : Option Value := some (.ref a)
def ps_tx (M : ps_S) : Option Nat := match M.2.2.1 with | .ref x => some x | _ => none
def ps_sT (M : ps_S) (x : Nat) : ps_S := (M.1, M.2.1, .ref x, M.2.2.2)
def ps_ckS (c : Nat) (M : ps_S) (a : Nat) : Option Unit := match ps_at c M a with
  | some (t, _, _) => if t = 13 ∨ t = 14 ∨ t = 15 then some () else none
  | none => none
theorem ps_otab3 : ∀ j, j < 561 → cs_ob j = some 3 → j = 9 := by decide +kernel
theorem ps_cellT {Wd : cs_W} {c : Nat} {M : ps_S} {x : Nat} (j : Nat) (hj : j < 561) (h9 : j ≠ 9) : cs_cell (ps_W Wd M) c M.1 j = cs_cell (ps_W Wd (ps_sT M x)) c M.1 j := by
  unfold cs_cell
  cases cs_key j with
  | some q => rfl
  | none =>
    cases ho : cs_ob j with
    | none => rfl
    | some o =>
      have h3 : o ≠ 3 := fun z => h9 (ps_otab3 j hj (z ▸ ho))
      show (_, _, _) = (_, _, _)
      refine Prod.ext rfl (Prod.ext rfl (funext fun p => ?_))
      show (if cs_sc o p = true then Value.int (M.1.1 o p) else cs_cv (ps_W Wd M) c o p) = if cs_sc o p = true then Value.int (M.1.1 o p) else cs_cv (ps_W Wd (ps_sT M x)) c o p
      unfold cs_cv
      rw [if_neg h3, if_neg h3]
      rfl
section PT
variable {α β : Type} {D : zs_D} {Wd : cs_W} {c : Nat} {Fn : zs_Q ps_S α} {own : String} {cc : ByteArray} {nL : Nat} {rt : Option FieldType} {nm : String} {d : Nat} {M : ps_S} {pc : Nat} {lv : List (Nat × Value)} {st : List Value} {o : Option β} {K : β → Option (α × ps_S)}
theorem ps_geti (j ob k : Nat) {i ci N : Nat} {C : String} {T : u_T} {ty : Nat → FieldType} (p : cs_po j ob) (hc : zs_cls ci C T N ty) (hcl : cs_cl ob = ci ∧ cs_nf ob = N) (hk : k < N) (hs : cs_sc ob k = true) (hq : Cond.fieldLink own i (T k).1 (T k).2.1 (T k).2.2.1 ∈ lw_all) (hd : decode cc pc = .ok (.getfield i, 3)) (kk : zs_Sim D (ps_R Wd c) ps_bd Fn own cc nL rt nm d M (pc + 3) lv (.int (M.1.1 ob k) :: st) o K) : zs_Sim D (ps_R Wd c) ps_bd Fn own cc nL rt nm d M pc lv (.ref (c + j) :: st) o K := by
  obtain ⟨rfl, rfl⟩ := hcl
  exact zs_getf k hc hk hq (fun h hR => ⟨_, ps_cellO p hR, if_pos hs⟩) hd kk
theorem ps_getr (j ob k : Nat) {i ci N : Nat} {C : String} {T : u_T} {ty : Nat → FieldType} {v : Value} (p : cs_po j ob) (hc : zs_cls ci C T N ty) (hcl : cs_cl ob = ci ∧ cs_nf ob = N) (hk : k < N) (hs : cs_sc ob k = false) (hv : cs_cv (ps_W Wd M) c ob k = v) (hq : Cond.fieldLink own i (T k).1 (T k).2.1 (T k).2.2.1 ∈ lw_all) (hd : decode cc pc = .ok (.getfield i, 3)) (kk : zs_Sim D (ps_R Wd c) ps_bd Fn own cc nL rt nm d M (pc + 3) lv (v :: st) o K) : zs_Sim D (ps_R Wd c) ps_bd Fn own cc nL rt nm d M pc lv (.ref (c + j) :: st) o K := by
  obtain ⟨rfl, rfl⟩ := hcl
  exact zs_getf k hc hk hq (fun h hR => ⟨_, ps_cellO p hR, by rw [if_neg (by rw [hs]; decide)]; exact hv⟩) hd kk
theorem ps_puti (j ob k : Nat) {i ci N : Nat} {C : String} {T : u_T} {ty : Nat → FieldType} {x : Int32} {f : ps_S → Option β} (p : cs_po j ob) (hc : zs_cls ci C T N ty) (hcl : cs_cl ob = ci ∧ cs_nf ob = N) (hk : k < N) (hs : cs_sc ob k = true) (hq : Cond.fieldLink own i (T k).1 (T k).2.1 (T k).2.2.1 ∈ lw_all) (hfin : (T k).2.2.2 = false) (hn : narrow (ty k) (.int x) = .int x) (hfit : fits (ty k) (.int x) = true) (hd : decode cc pc = .ok (.putfield i, 3)) (kk : ∀ M1, zs_Sim D (ps_R Wd c) ps_bd Fn own cc nL rt nm d M1 (pc + 3) lv st (f M1) K) : zs_Sim D (ps_R Wd c) ps_bd Fn own cc nL rt nm d M pc lv (.int x :: .ref (c + j) :: st) ((some (ps_sF M ob k x)).bind f) K := by
  obtain ⟨rfl, rfl⟩ := hcl
  refine zs_putf (M1 := ps_sF M ob k x) k hc hk hq hfin hn hfit rfl (fun h hR => ps_stF p hs hR) hd ?_
  exact zs_nmM kk
/-- the text that is read: seen, set -/
theorem ps_getT {i : Nat} {f : Nat → Option β} (hq : Cond.fieldLink own i (TX3 2).1 (TX3 2).2.1 (TX3 2).2.2.1 ∈ lw_all) (hd : decode cc pc = .ok (.getfield i, 3)) (kk : ∀ x, zs_Sim D (ps_R Wd c) ps_bd Fn own cc nL rt nm d M (pc + 3) lv (.ref x :: st) (f x) K) : zs_Sim D (ps_R Wd c) ps_bd Fn own cc nL rt nm d M pc lv (.ref (c + 9) :: st) ((ps_tx M).bind f) K := by
  cases hv : M.2.2.1 with
  | ref x =>
    refine zs_eqo (o2 := f x) (by unfold ps_tx; rw [hv]; rfl) ?_
    exact ps_getr 9 3 2 (v := .ref x) ⟨⟨by decide, by decide⟩, rfl⟩ zc_X3 ⟨rfl, rfl⟩ (by decide) rfl hv hq hd (kk x)
  | _ => exact zs_eqo (o2 := none) (by unfold ps_tx; rw [hv]; rfl) zs_none
theorem ps_putT {i x : Nat} {f : ps_S → Option β} (hq : Cond.fieldLink own i (TX3 2).1 (TX3 2).2.1 (TX3 2).2.2.1 ∈ lw_all) (hd : decode cc pc = .ok (.putfield i, 3)) (kk : ∀ M1, zs_Sim D (ps_R Wd c) ps_bd Fn own cc nL rt nm d M1 (pc + 3) lv st (f M1) K) : zs_Sim D (ps_R Wd c) ps_bd Fn own cc nL rt nm d M pc lv (.ref x :: .ref (c + 9) :: st) ((some (ps_sT M x)).bind f) K := by
  refine zs_putf (M1 := ps_sT M x) (F := fun k => if cs_sc 3 k = true then .int (M.1.1 3 k) else cs_cv (ps_W Wd M) c 3 k) 2 zc_X3 (by decide) hq rfl rfl rfl rfl (fun h hR => ?_) hd (zs_nmM kk)
  have e := ps_cellO (j := 9) (o := 3) ⟨⟨by decide, by decide⟩, rfl⟩ hR
  obtain ⟨r1, r2, r3⟩ := hR
  refine ⟨e, by rw [r3]; exact Nat.le_trans r1 (Nat.le_add_right _ _), r1, r2, ?_⟩
  rw [r3]
  refine Prod.ext rfl (Prod.ext rfl (funext fun q => ?_))
  show (if q = c + 9 then some _ else if c ≤ q ∧ q < c + 561 ∧ ¬ (c + 10 ≤ q ∧ q < c + 20) then some (cs_cell (ps_W Wd M) c M.1 (q - c)) else M.2.1.2.2 q) = if c ≤ q ∧ q < c + 561 ∧ ¬ (c + 10 ≤ q ∧ q < c + 20) then some (cs_cell (ps_W Wd (ps_sT M x)) c M.1 (q - c)) else M.2.1.2.2 q
  by_cases h1 : q = c + 9
  · subst h1
    rw [if_pos rfl, if_pos ⟨by omega, by omega, by omega⟩, Nat.add_sub_cancel_left]
    show some _ = some (3, 7, _)
    refine congrArg some (Prod.ext rfl (Prod.ext rfl (funext fun p => ?_)))
    by_cases hp : p = 2
    · subst hp
      rfl
    · show (if p = 2 then Value.ref x else if cs_sc 3 p = true then Value.int (M.1.1 3 p) else cs_cv (ps_W Wd M) c 3 p) = if cs_sc 3 p = true then Value.int (M.1.1 3 p) else cs_cv (ps_W Wd (ps_sT M x)) c 3 p
      rw [if_neg hp]
      by_cases hs : cs_sc 3 p = true
      · rw [if_pos hs, if_pos hs]
      · rw [if_neg hs, if_neg hs]
        have hp3 : ¬ 3 ≤ p := fun z => hs (by unfold cs_sc; simp; exact z)
        have : p = 0 ∨ p = 1 := by omega
        rcases this with rfl | rfl <;> rfl
  · rw [if_neg h1]
    by_cases h2 : c ≤ q ∧ q < c + 561 ∧ ¬ (c + 10 ≤ q ∧ q < c + 20)
    · rw [if_pos h2, if_pos h2, ps_cellT (q - c) (by omega) (by omega)]
    · rw [if_neg h2, if_neg h2]
theorem ps_fbald (j ob k : Nat) {n : Nat} {i : Int32} {f : Int32 → Option β} (p : cs_pa j ob k 65 n) (hd : decode cc pc = .ok (.baload, 1)) (kk : ∀ x, zs_Sim D (ps_R Wd c) ps_bd Fn own cc nL rt nm d M (pc + 1) lv (.int x :: st) (f x) K) : zs_Sim D (ps_R Wd c) ps_bd Fn own cc nL rt nm d M pc lv (.int i :: .ref (c + j) :: st) ((zs_ald n (M.1.2 ob k) i).bind f) K := zs_bald (fun _ hR => ps_cellA p hR) hd kk
theorem ps_fsald (j ob k : Nat) {n : Nat} {i : Int32} {f : Int32 → Option β} (p : cs_pa j ob k 66 n) (hd : decode cc pc = .ok (.saload, 1)) (kk : ∀ x, zs_Sim D (ps_R Wd c) ps_bd Fn own cc nL rt nm d M (pc + 1) lv (.int x :: st) (f x) K) : zs_Sim D (ps_R Wd c) ps_bd Fn own cc nL rt nm d M pc lv (.int i :: .ref (c + j) :: st) ((zs_ald n (M.1.2 ob k) i).bind f) K := zs_sald (fun _ hR => ps_cellA p hR) hd kk
theorem ps_fbast (j ob k : Nat) {n : Nat} {i x : Int32} {f : ps_S → Option β} (p : cs_pa j ob k 65 n) (hd : decode cc pc = .ok (.bastore, 1)) (kk : ∀ M1, zs_Sim D (ps_R Wd c) ps_bd Fn own cc nL rt nm d M1 (pc + 1) lv st (f M1) K) : zs_Sim D (ps_R Wd c) ps_bd Fn own cc nL rt nm d M pc lv (.int x :: .int i :: .ref (c + j) :: st) ((zs_ast n i (ps_sA M ob k i (vp_nar .byte x))).bind f) K := zs_bast (F := M.1.2 ob k) rfl (fun _ hR => ps_stA p hR) hd (kk _)
theorem ps_fsast (j ob k : Nat) {n : Nat} {i x : Int32} {f : ps_S → Option β} (p : cs_pa j ob k 66 n) (hd : decode cc pc = .ok (.sastore, 1)) (kk : ∀ M1, zs_Sim D (ps_R Wd c) ps_bd Fn own cc nL rt nm d M1 (pc + 1) lv st (f M1) K) : zs_Sim D (ps_R Wd c) ps_bd Fn own cc nL rt nm d M pc lv (.int x :: .int i :: .ref (c + j) :: st) ((zs_ast n i (ps_sA M ob k i (vp_nar .short x))).bind f) K := zs_sast (F := M.1.2 ob k) rfl (fun _ hR => ps_stA p hR) hd (kk _)
theorem ps_wald {i : Int32} {f : Nat → Option β} (hd : decode cc pc = .ok (.aaload, 1)) (kk : ∀ k, zs_Sim D (ps_R Wd c) ps_bd Fn own cc nL rt nm d M (pc + 1) lv (.ref (Wd.1 k) :: st) (f k) K) : zs_Sim D (ps_R Wd c) ps_bd Fn own cc nL rt nm d M pc lv (.int i :: .ref (c + 3) :: st) ((zs_ix 22 i).bind f) K :=
  zs_aald (t := 8) (F := fun k => .ref (Wd.1 k)) rfl rfl (fun h hR => ⟨_, ps_words hR, fun _ _ => rfl⟩) hd (fun k _ => kk k)
theorem ps_wlen (hd : decode cc pc = .ok (.arraylength, 1)) (kk : zs_Sim D (ps_R Wd c) ps_bd Fn own cc nL rt nm d M (pc + 1) lv (.int 22 :: st) o K) : zs_Sim D (ps_R Wd c) ps_bd Fn own cc nL rt nm d M pc lv (.ref (c + 3) :: st) o K :=
  zs_alen (t := 8) (n := 22) rfl (fun h hR => ps_words hR) hd kk
theorem ps_aastS {a v : Nat} {i : Int32} {f : ps_S → Option β} (hd : decode cc pc = .ok (.aastore, 1)) (kk : ∀ M1, zs_Sim D (ps_R Wd c) ps_bd Fn own cc nL rt nm d M1 (pc + 1) lv st (f M1) K) : zs_Sim D (ps_R Wd c) ps_bd Fn own cc nL rt nm d M pc lv (.ref v :: .int i :: .ref a :: st) ((ps_ckS c M v).bind fun _ => (ps_pA c M a 6 i (.ref v)).bind f) K := by
  cases hg : ps_ckS c M v with
  | none => exact zs_none
  | some x =>
    unfold ps_ckS at hg
    cases hx : ps_at c M v with
    | none => rw [hx] at hg; cases hg
    | some y =>
      obtain ⟨t, n, F⟩ := y
      rw [hx] at hg
      by_cases hq2 : t = 13 ∨ t = 14 ∨ t = 15
      · rcases hq2 with rfl | rfl | rfl
        · exact ps_aast (E := "HairRope$Sum") rfl zc_X13 (Or.inr q2245) (fun h hR => ⟨n, F, ps_dyn hR hx⟩) hd kk
        · exact ps_aast (E := "HairRope$Sum") rfl zc_X14 (Or.inr q2246) (fun h hR => ⟨n, F, ps_dyn hR hx⟩) hd kk
        · exact ps_aast (E := "HairRope$Sum") rfl zc_X15 (Or.inr q2247) (fun h hR => ⟨n, F, ps_dyn hR hx⟩) hd kk
      · simp only [if_neg hq2] at hg; cases hg
theorem ps_rcvT : ∀ h, ps_R Wd c M h → ∃ k f, h.2.2 (c + 2) = some (2, k, f) := fun h hR => ⟨_, _, ps_cellO (o := 2) ⟨⟨by decide, by decide⟩, rfl⟩ hR⟩
theorem ps_rcvP : ∀ h, ps_R Wd c M h → ∃ k f, h.2.2 (c + 9) = some (3, k, f) := fun h hR => ⟨_, _, ps_cellO (o := 3) ⟨⟨by decide, by decide⟩, rfl⟩ hR⟩
theorem ps_rcvF : ∀ h, ps_R Wd c M h → ∃ k f, h.2.2 (c + 1) = some (1, k, f) := fun h hR => ⟨_, _, ps_cellO (o := 1) ⟨⟨by decide, by decide⟩, rfl⟩ hR⟩
theorem ps_fx : ∀ h, ps_R Wd c M h → ∃ f, h.2.2 (c + 1) = some (1, 8, f) := fun h hR => ⟨_, ps_cellO (o := 1) ⟨⟨by decide, by decide⟩, rfl⟩ hR⟩
end PT
