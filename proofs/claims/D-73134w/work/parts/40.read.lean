/-! HairRope.read -/
set_option maxRecDepth 100000
abbrev rd_S : Type := zt_T × ps_S
def rd_R (w : Nat → Nat) (c : Nat) : rd_S → zs_AH → Prop := fun s h => ps_R (w, s.1, .null) c s.2 h
def rd_bd : rd_S → Nat × Nat := fun s => ps_bd s.2
section RD
variable {α β : Type} {D : zs_D} {w : Nat → Nat} {c : Nat} {Fn : zs_Q rd_S α} {own : String} {cc : ByteArray} {nL : Nat} {rt : Option FieldType} {nm : String} {d : Nat} {T : zt_T} {M : ps_S} {pc : Nat} {lv : List (Nat × Value)} {st : List Value} {o : Option β} {K : β → Option (α × rd_S)}
theorem rd_geti (j ob k : Nat) {i ci N : Nat} {C : String} {Tb : u_T} {ty : Nat → FieldType} (p : cs_po j ob) (hc : zs_cls ci C Tb N ty) (hcl : cs_cl ob = ci ∧ cs_nf ob = N) (hk : k < N) (hs : cs_sc ob k = true) (hq : Cond.fieldLink own i (Tb k).1 (Tb k).2.1 (Tb k).2.2.1 ∈ lw_all) (hd : decode cc pc = .ok (.getfield i, 3)) (kk : zs_Sim D (rd_R w c) rd_bd Fn own cc nL rt nm d (T, M) (pc + 3) lv (.int (M.1.1 ob k) :: st) o K) : zs_Sim D (rd_R w c) rd_bd Fn own cc nL rt nm d (T, M) pc lv (.ref (c + j) :: st) o K := by
  obtain ⟨rfl, rfl⟩ := hcl
  exact zs_getf k hc hk hq (fun h hR => ⟨_, ps_cellO p hR, if_pos hs⟩) hd kk
theorem rd_getr (j ob k : Nat) {i ci N : Nat} {C : String} {Tb : u_T} {ty : Nat → FieldType} {v : Value} (p : cs_po j ob) (hc : zs_cls ci C Tb N ty) (hcl : cs_cl ob = ci ∧ cs_nf ob = N) (hk : k < N) (hs : cs_sc ob k = false) (hv : cs_cv (w, T, M.2.2.1) c ob k = v) (hq : Cond.fieldLink own i (Tb k).1 (Tb k).2.1 (Tb k).2.2.1 ∈ lw_all) (hd : decode cc pc = .ok (.getfield i, 3)) (kk : zs_Sim D (rd_R w c) rd_bd Fn own cc nL rt nm d (T, M) (pc + 3) lv (v :: st) o K) : zs_Sim D (rd_R w c) rd_bd Fn own cc nL rt nm d (T, M) pc lv (.ref (c + j) :: st) o K := by
  obtain ⟨rfl, rfl⟩ := hcl
  exact zs_getf k hc hk hq (fun h hR => ⟨_, ps_cellO p hR, by rw [if_neg (by rw [hs]; decide)]; exact hv⟩) hd kk
theorem rd_puti (j ob k : Nat) {i ci N : Nat} {C : String} {Tb : u_T} {ty : Nat → FieldType} {x : Int32} (p : cs_po j ob) (hc : zs_cls ci C Tb N ty) (hcl : cs_cl ob = ci ∧ cs_nf ob = N) (hk : k < N) (hs : cs_sc ob k = true) (hq : Cond.fieldLink own i (Tb k).1 (Tb k).2.1 (Tb k).2.2.1 ∈ lw_all) (hfin : (Tb k).2.2.2 = false) (hn : narrow (ty k) (.int x) = .int x) (hfit : fits (ty k) (.int x) = true) (hd : decode cc pc = .ok (.putfield i, 3)) (kk : zs_Sim D (rd_R w c) rd_bd Fn own cc nL rt nm d (T, ps_sF M ob k x) (pc + 3) lv st o K) : zs_Sim D (rd_R w c) rd_bd Fn own cc nL rt nm d (T, M) pc lv (.int x :: .ref (c + j) :: st) o K := by
  obtain ⟨rfl, rfl⟩ := hcl
  exact zs_putf (M1 := (T, ps_sF M ob k x)) k hc hk hq hfin hn hfit rfl (fun h hR => ps_stF p hs hR) hd kk
theorem rd_zast (j ob k : Nat) {n : Nat} {i x : Int32} (p : cs_pa j ob k 67 n) (hi : zs_in i n = true) (hd : decode cc pc = .ok (.bastore, 1)) (kk : zs_Sim D (rd_R w c) rd_bd Fn own cc nL rt nm d (T, ps_sA M ob k i (vp_nar .boolean x)) (pc + 1) lv st o K) : zs_Sim D (rd_R w c) rd_bd Fn own cc nL rt nm d (T, M) pc lv (.int x :: .int i :: .ref (c + j) :: st) o K := by
  refine zs_eqo (o2 := (zs_ast n i ((T, ps_sA M ob k i (vp_nar .boolean x)) : rd_S)).bind fun _ => o) (by unfold zs_ast; rw [if_pos hi]; rfl) ?_
  exact zs_zast (F := M.1.2 ob k) rfl (fun _ hR => ps_stA p hR) hd kk
/-- the text is another -/
theorem rd_putT {T2 : zt_T} {i : Nat} (hq : Cond.fieldLink own i (TX0 3).1 (TX0 3).2.1 (TX0 3).2.2.1 ∈ lw_all) (hd : decode cc pc = .ok (.putfield i, 3)) (kk : zs_Sim D (rd_R w c) rd_bd Fn own cc nL rt nm d (T2, M) (pc + 3) lv st o K) : zs_Sim D (rd_R w c) rd_bd Fn own cc nL rt nm d (T, M) pc lv (.ref (zt_ad T2 0) :: .ref (c + 0) :: st) o K := by
  refine zs_putf (M1 := (T2, M)) (F := fun k => if cs_sc 0 k = true then .int (M.1.1 0 k) else cs_cv (w, T, M.2.2.1) c 0 k) 3 zc_X0 (by decide) hq rfl rfl rfl rfl (fun h hR => ?_) hd kk
  have e := ps_cellO (j := 0) (o := 0) ⟨⟨by decide, by decide⟩, rfl⟩ hR
  obtain ⟨r1, r2, r3⟩ := hR
  refine ⟨e, by rw [r3]; exact Nat.le_trans r1 (Nat.le_add_right _ _), r1, r2, ?_⟩
  rw [r3]
  refine Prod.ext rfl (Prod.ext rfl (funext fun q => ?_))
  show (if q = c + 0 then some _ else if c ≤ q ∧ q < c + 561 ∧ ¬ (c + 10 ≤ q ∧ q < c + 20) then some (cs_cell (w, T, M.2.2.1) c M.1 (q - c)) else M.2.1.2.2 q) = if c ≤ q ∧ q < c + 561 ∧ ¬ (c + 10 ≤ q ∧ q < c + 20) then some (cs_cell (w, T2, M.2.2.1) c M.1 (q - c)) else M.2.1.2.2 q
  by_cases h1 : q = c + 0
  · rw [h1]
    rw [if_pos rfl, if_pos ⟨by omega, by omega, by omega⟩, Nat.add_sub_cancel_left]
    show some _ = some (0, 27, _)
    refine congrArg some (Prod.ext rfl (Prod.ext rfl (funext fun p => ?_)))
    by_cases hp : p = 3
    · subst hp
      rfl
    · show (if p = 3 then Value.ref (zt_ad T2 0) else if cs_sc 0 p = true then Value.int (M.1.1 0 p) else cs_cv (w, T, M.2.2.1) c 0 p) = if cs_sc 0 p = true then Value.int (M.1.1 0 p) else cs_cv (w, T2, M.2.2.1) c 0 p
      rw [if_neg hp]
      unfold cs_cv
      rw [if_pos rfl, if_pos rfl, if_neg hp, if_neg hp]
  · rw [if_neg h1]
    by_cases h2 : c ≤ q ∧ q < c + 561 ∧ ¬ (c + 10 ≤ q ∧ q < c + 20)
    · rw [if_pos h2, if_pos h2]
      refine congrArg some ?_
      unfold cs_cell
      cases cs_key (q - c) with
      | some z => rfl
      | none =>
        cases ho : cs_ob (q - c) with
        | none => rfl
        | some ob =>
          have hob : ob ≠ 0 := fun z => by
            subst z
            have h9 := cs_oinv (j := q - c) (by omega) ho
            have h8 : cs_oz 0 = 0 := rfl
            omega
          show (_, _, _) = (_, _, _)
          refine Prod.ext rfl (Prod.ext rfl (funext fun p => ?_))
          show (if cs_sc ob p = true then Value.int (M.1.1 ob p) else cs_cv (w, T, M.2.2.1) c ob p) = if cs_sc ob p = true then Value.int (M.1.1 ob p) else cs_cv (w, T2, M.2.2.1) c ob p
          unfold cs_cv
          rw [if_neg hob, if_neg hob]
    · rw [if_neg h2, if_neg h2]
/-- the text told anew -/
theorem rd_reT {T2 : zt_T} (h : zt_ad T2 0 = zt_ad T 0) (kk : zs_Sim D (rd_R w c) rd_bd Fn own cc nL rt nm d (T2, M) pc lv st o K) : zs_Sim D (rd_R w c) rd_bd Fn own cc nL rt nm d (T, M) pc lv st o K := by
  intro r M' ee
  obtain ⟨hm, kk⟩ := kk r M' ee
  refine ⟨hm, fun p l e R s m args below meth c' H locs cells slots hh ls C h1 h2 h3 h4 hR hZ hS hl => kk p l e R s m args below meth c' H locs cells slots hh ls C h1 h2 h3 h4 ?_ hZ hS hl⟩
  obtain ⟨r1, r2, r3⟩ := hR
  refine ⟨r1, r2, r3.trans ?_⟩
  refine Prod.ext rfl (Prod.ext rfl (funext fun q => ?_))
  show (if c ≤ q ∧ q < c + 561 ∧ ¬ (c + 10 ≤ q ∧ q < c + 20) then some (cs_cell (w, T, M.2.2.1) c M.1 (q - c)) else M.2.1.2.2 q) = if c ≤ q ∧ q < c + 561 ∧ ¬ (c + 10 ≤ q ∧ q < c + 20) then some (cs_cell (w, T2, M.2.2.1) c M.1 (q - c)) else M.2.1.2.2 q
  have e : ∀ ob p, cs_cv (w, T, M.2.2.1) c ob p = cs_cv (w, T2, M.2.2.1) c ob p := fun ob p => by
    unfold cs_cv
    show (if ob = 0 then (if p = 3 then Value.ref (zt_ad T 0) else _) else _) = (if ob = 0 then (if p = 3 then Value.ref (zt_ad T2 0) else _) else _)
    rw [h]
  refine congrArg (fun x => if c ≤ q ∧ q < c + 561 ∧ ¬ (c + 10 ≤ q ∧ q < c + 20) then some x else M.2.1.2.2 q) ?_
  unfold cs_cell
  cases cs_key (q - c) with
  | some z => rfl
  | none =>
    cases cs_ob (q - c) with
    | none => rfl
    | some ob =>
      show (_, _, _) = (_, _, _)
      refine Prod.ext rfl (Prod.ext rfl (funext fun p => ?_))
      show (if cs_sc ob p = true then Value.int (M.1.1 ob p) else cs_cv (w, T, M.2.2.1) c ob p) = if cs_sc ob p = true then Value.int (M.1.1 ob p) else cs_cv (w, T2, M.2.2.1) c ob p
      rw [e]
end RD
/-- what read does behind the try -/
def gh_readE (P : Nat → Bool) (T : zt_T) (M : ps_S) (r : Int32) : Option (Int32 × rd_S) := (zt_of (cs_rs P M.2.1) (zt_ad T 0)).bind fun T2 => some (r, (T2, ps_sF M 2 2 0))
def gh_readS (S : cs_S) : cs_S := cs_sA (cs_sA (cs_sA (cs_sF (cs_sF S 0 5 0) 0 19 0) 0 13 0 0) 0 13 1 0) 0 13 2 0
def gh_readX (P : Nat → Bool) (T : zt_T) (M : ps_S) : Option (Int32 × rd_S) := gh_readE P T (ps_sF M 0 4 (M.1.1 1 7)) (M.1.1 1 6)
def gh_readK (P : Nat → Bool) (x : Nat) (M : ps_S) : Option (Int32 × rd_S) := (zt_of (cs_rs P M.2.1) x).bind fun T2 => (gv_begins T2 M.1 0).bind fun S => gh_readE P T2 (gh_readS S, M.2) 0
def gh_read (w : Nat → Nat) (P : Nat → Bool) (c : Nat) (T : zt_T) (M : ps_S) : Option (Int32 × rd_S) := (gp_X3_read w c (ps_sF M 0 4 (-1))).bind fun z => match z.1 with
  | none => gh_readX P T z.2
  | some x => gh_readK P x z.2
section RE
variable {D : zs_D} {w : Nat → Nat} {P : Nat → Bool} {c : Nat} {T : zt_T} {M : ps_S}
theorem kh_readE (r : Int32) : zs_Sim D (rd_R w c) rd_bd (zs_Fn D (rd_R w c) zs_eI) RX0 cX0_read 3 (some .int) "read" 60 (T, M) 76 [(0, .ref (c + 0)), (1, .int r)] [] (gh_readE P T M r) some := by
  unfold gh_readE
  cases hT : zt_of (cs_rs P M.2.1) (zt_ad T 0) with
  | none => exact zs_none
  | some T2 =>
    refine rd_reT (zt_of_at hT).2 ?_
    refine zs_aload_n (pc := 76) 0 dX0_read_76 rfl rfl ?_
    refine rd_getr (pc := 77) 0 0 1 (v := .ref (c + 2)) ⟨⟨by decide, by decide⟩, rfl⟩ zc_X0 ⟨rfl, rfl⟩ (by decide) rfl rfl q530 dX0_read_77 ?_
    refine zs_iconst (pc := 80) (v := 0) dX0_read_80 rfl ?_
    refine rd_puti (pc := 81) 2 2 2 ⟨⟨by decide, by decide⟩, rfl⟩ zc_X2 ⟨rfl, rfl⟩ (by decide) rfl q285 rfl rfl rfl dX0_read_81 ?_
    refine zs_iload_n (pc := 84) 1 dX0_read_84 rfl rfl ?_
    exact zs_iret (pc := 85) dX0_read_85 rfl rfl rfl
theorem kh_readX : zs_Sim D (rd_R w c) rd_bd (zs_Fn D (rd_R w c) zs_eI) RX0 cX0_read 3 (some .int) "read" 60 (T, M) 62 [(0, .ref (c + 0)), (1, .int 0)] [.ref (c + 1)] (gh_readX P T M) some := by
  refine zs_astore_n (pc := 62) (lv' := [(0, .ref (c + 0)), (2, .ref (c + 1))]) [1, 0] dX0_read_62 rfl (by decide) rfl ?_
  refine zs_aload_n (pc := 63) 1 dX0_read_63 rfl rfl ?_
  refine rd_geti (pc := 64) 1 1 6 ⟨⟨by decide, by decide⟩, rfl⟩ zc_X1 ⟨rfl, rfl⟩ (by decide) rfl q230 dX0_read_64 ?_
  refine zs_istore_n (pc := 67) (lv' := [(0, .ref (c + 0)), (1, .int (M.1.1 1 6)), (2, .ref (c + 1))]) [1, 0, 2] dX0_read_67 rfl (by decide) rfl ?_
  refine zs_aload_n (pc := 68) 0 dX0_read_68 rfl rfl ?_
  refine zs_aload_n (pc := 69) 2 dX0_read_69 rfl rfl ?_
  refine rd_geti (pc := 70) 1 1 7 ⟨⟨by decide, by decide⟩, rfl⟩ zc_X1 ⟨rfl, rfl⟩ (by decide) rfl q232 dX0_read_70 ?_
  refine rd_puti (pc := 73) 0 0 4 ⟨⟨by decide, by decide⟩, rfl⟩ zc_X0 ⟨rfl, rfl⟩ (by decide) rfl q533 rfl rfl rfl dX0_read_73 ?_
  refine zs_sub (lv' := [(0, .ref (c + 0)), (1, .int (M.1.1 1 6))]) [0, 1] rfl ?_
  exact kh_readE _
theorem rd_rcv0 {s : rd_S} : ∀ h, rd_R w c s h → ∃ k f, h.2.2 (c + 0) = some (0, k, f) := fun h hR => ⟨_, _, ps_cellO (o := 0) ⟨⟨by decide, by decide⟩, rfl⟩ hR⟩
theorem rd_rcvP {s : rd_S} : ∀ h, rd_R w c s h → ∃ k f, h.2.2 (c + 9) = some (3, k, f) := fun h hR => ⟨_, _, ps_cellO (o := 3) ⟨⟨by decide, by decide⟩, rfl⟩ hR⟩
theorem rd_rcvv {s : rd_S} : ∀ h, rd_R w c s h → ∃ k f, h.2.2 (c + cs_va 0) = some (5, k, f) := fun h hR => ⟨_, _, ps_cellO (o := 10) (cs_pv (i := 0) (by decide)) hR⟩
/-- Village.begins over the reader's state -/
theorem kl_begins (hP : ∀ a, cs_dom c a → P a = true) {T2 : zt_T} (hT : zt_at (cs_rs P M.2.1) T2) : zs_Con D (rd_R w c) rd_bd zs_eV yX5_begins cX5_begins 3 none 4 [.ref (c + cs_va 0), .ref (zt_ad T2 0)] (T2, M) (((gv_begins T2 M.1 0).map fun S => ((T2, (S, M.2)) : rd_S)).map fun x => ((), x)) := by
  have h0 := zs_lift (Rl' := rd_R w c) (bd' := rd_bd) (M' := (T2, M)) (fun S => ((T2, (S, M.2)) : rd_S)) (kv_xbegins D (w, T2, M.2.2.1) P M.2.1 c M.1 0 (by decide)) (fun r M1 _ => ⟨⟨Nat.le_refl _, Nat.le_refl _⟩, Nat.sub_self _, Nat.sub_self _⟩)
    (fun h H hR hZ => ⟨h, rfl, ⟨hR.1, hP, hR.2.2, hT⟩, hZ⟩)
    (fun r M1 g H hp Hp _ hRp _ hg hZ => ⟨g, rfl, ⟨hRp.1, hRp.2.1, hg.2.2.1⟩, hZ⟩)
  have e : (Option.map (fun z => (z.1, ((T2, (z.2, M.2)) : rd_S))) (Option.map (fun x => ((), x)) (gv_begins T2 M.1 0))) = ((gv_begins T2 M.1 0).map fun S => ((T2, (S, M.2)) : rd_S)).map fun x => ((), x) := by
    cases gv_begins T2 M.1 0 <;> rfl
  rw [← e]
  exact h0
theorem kh_readK (hP : ∀ a, cs_dom c a → P a = true) (x : Nat) : zs_Sim D (rd_R w c) rd_bd (zs_Fn D (rd_R w c) zs_eI) RX0 cX0_read 3 (some .int) "read" 60 (T, M) 15 [(0, .ref (c + 0)), (1, .int 0)] [.ref x, .ref (c + 0)] (gh_readK P x M) some := by
  unfold gh_readK
  cases hT : zt_of (cs_rs P M.2.1) x with
  | none => exact zs_none
  | some T2 =>
    obtain ⟨hat, rfl⟩ := zt_of_at hT
    refine zs_eqo (o2 := (gv_begins T2 M.1 0).bind fun S => gh_readE P T2 (gh_readS S, M.2) 0) rfl ?_
    refine rd_putT (T2 := T2) (pc := 15) q532 dX0_read_15 ?_
    refine zs_aload_n (pc := 18) 0 dX0_read_18 rfl rfl ?_
    refine rd_getr (pc := 19) 0 0 7 (v := .ref (c + cs_va 0)) ⟨⟨by decide, by decide⟩, rfl⟩ zc_X0 ⟨rfl, rfl⟩ (by decide) rfl rfl q536 dX0_read_19 ?_
    refine zs_aload_n (pc := 22) 0 dX0_read_22 rfl rfl ?_
    refine rd_getr (pc := 23) 0 0 3 (v := .ref (zt_ad T2 0)) ⟨⟨by decide, by decide⟩, rfl⟩ zc_X0 ⟨rfl, rfl⟩ (by decide) rfl rfl q532 dX0_read_23 ?_
    refine zs_eqo (o2 := ((gv_begins T2 M.1 0).map fun S => ((T2, (S, M.2)) : rd_S)).bind fun s => gh_readE P T2 (gh_readS s.2.1, M.2) 0) (by cases gv_begins T2 M.1 0 <;> rfl) ?_
    cases hb : gv_begins T2 M.1 0 with
    | none => exact zs_none
    | some S =>
      have hC := kl_begins (D := D) (w := w) (P := P) hP hat
      rw [hb] at hC
      refine zs_eqo (o2 := (some ((T2, (S, M.2)) : rd_S)).bind fun s => gh_readE P T2 (gh_readS s.2.1, M.2) 0) rfl ?_
      refine zs_eqo zs_mapu.symm (zs_callV0 (pc := 26) [.ref (zt_ad T2 0)] [] hC wv_begins q506 zc_X5 rd_rcvv dX0_read_26 rfl rfl (Nat.le_of_ble_eq_true rfl) (Nat.le_of_ble_eq_true rfl) (fun u M9 e9 => ?_))
      obtain rfl : ((T2, (S, M.2)) : rd_S) = M9 := congrArg (fun z => z.2) (Option.some.inj e9)
      refine zs_aload_n (pc := 29) 0 dX0_read_29 rfl rfl ?_
      refine zs_iconst (pc := 30) (v := 0) dX0_read_30 rfl ?_
      refine rd_puti (pc := 31) 0 0 5 ⟨⟨by decide, by decide⟩, rfl⟩ zc_X0 ⟨rfl, rfl⟩ (by decide) rfl q534 rfl rfl rfl dX0_read_31 ?_
      refine zs_aload_n (pc := 34) 0 dX0_read_34 rfl rfl ?_
      refine zs_iconst (pc := 35) (v := 0) dX0_read_35 rfl ?_
      refine rd_puti (pc := 36) 0 0 19 ⟨⟨by decide, by decide⟩, rfl⟩ zc_X0 ⟨rfl, rfl⟩ (by decide) rfl q548 rfl rfl rfl dX0_read_36 ?_
      refine zs_iconst (pc := 39) (v := 0) dX0_read_39 rfl ?_
      refine zs_istore_n (pc := 40) (lv' := [(0, .ref (c + 0)), (1, .int 0), (2, .int 0)]) [1, 2, 0] dX0_read_40 rfl (by decide) rfl ?_
      refine zs_iload_n (pc := 41) 2 dX0_read_41 rfl rfl ?_
      refine zs_iconst (pc := 42) (v := 3) dX0_read_42 rfl ?_
      refine zs_eqo (o2 := if (0 : Int32) < 3 then gh_readE P T2 (gh_readS S, M.2) 0 else none) (by rw [if_pos (by decide)]) ?_
      refine zs_icmp_ge (pc := 43) (tgt := 59) dX0_read_43 (by decide) ?_ zs_none
      refine zs_aload_n (pc := 46) 0 dX0_read_46 rfl rfl ?_
      refine rd_getr (pc := 47) 0 0 13 (v := .ref (c + 74)) ⟨⟨by decide, by decide⟩, rfl⟩ zc_X0 ⟨rfl, rfl⟩ (by decide) rfl rfl q542 dX0_read_47 ?_
      refine zs_iload_n (pc := 50) 2 dX0_read_50 rfl rfl ?_
      refine zs_iconst (pc := 51) (v := 0) dX0_read_51 rfl ?_
      refine rd_zast (pc := 52) 74 0 13 (n := 3) ⟨⟨by decide, by decide⟩, rfl, rfl, rfl⟩ (by decide) dX0_read_52 ?_
      refine zs_iinc (pc := 53) (lv' := [(0, .ref (c + 0)), (1, .int 0), (2, .int 1)]) 2 [1, 2, 0] dX0_read_53 rfl rfl (by decide) rfl ?_
      refine zs_goto (pc := 56) (tgt := 41) dX0_read_56 (by decide) ?_
      refine zs_iload_n (pc := 41) 2 dX0_read_41 rfl rfl ?_
      refine zs_iconst (pc := 42) (v := 3) dX0_read_42 rfl ?_
      refine zs_eqo (o2 := if (1 : Int32) < 3 then gh_readE P T2 (gh_readS S, M.2) 0 else none) (by rw [if_pos (by decide)]) ?_
      refine zs_icmp_ge (pc := 43) (tgt := 59) dX0_read_43 (by decide) ?_ zs_none
      refine zs_aload_n (pc := 46) 0 dX0_read_46 rfl rfl ?_
      refine rd_getr (pc := 47) 0 0 13 (v := .ref (c + 74)) ⟨⟨by decide, by decide⟩, rfl⟩ zc_X0 ⟨rfl, rfl⟩ (by decide) rfl rfl q542 dX0_read_47 ?_
      refine zs_iload_n (pc := 50) 2 dX0_read_50 rfl rfl ?_
      refine zs_iconst (pc := 51) (v := 0) dX0_read_51 rfl ?_
      refine rd_zast (pc := 52) 74 0 13 (n := 3) ⟨⟨by decide, by decide⟩, rfl, rfl, rfl⟩ (by decide) dX0_read_52 ?_
      refine zs_iinc (pc := 53) (lv' := [(0, .ref (c + 0)), (1, .int 0), (2, .int 2)]) 2 [1, 2, 0] dX0_read_53 rfl rfl (by decide) rfl ?_
      refine zs_goto (pc := 56) (tgt := 41) dX0_read_56 (by decide) ?_
      refine zs_iload_n (pc := 41) 2 dX0_read_41 rfl rfl ?_
      refine zs_iconst (pc := 42) (v := 3) dX0_read_42 rfl ?_
      refine zs_eqo (o2 := if (2 : Int32) < 3 then gh_readE P T2 (gh_readS S, M.2) 0 else none) (by rw [if_pos (by decide)]) ?_
      refine zs_icmp_ge (pc := 43) (tgt := 59) dX0_read_43 (by decide) ?_ zs_none
      refine zs_aload_n (pc := 46) 0 dX0_read_46 rfl rfl ?_
      refine rd_getr (pc := 47) 0 0 13 (v := .ref (c + 74)) ⟨⟨by decide, by decide⟩, rfl⟩ zc_X0 ⟨rfl, rfl⟩ (by decide) rfl rfl q542 dX0_read_47 ?_
      refine zs_iload_n (pc := 50) 2 dX0_read_50 rfl rfl ?_
      refine zs_iconst (pc := 51) (v := 0) dX0_read_51 rfl ?_
      refine rd_zast (pc := 52) 74 0 13 (n := 3) ⟨⟨by decide, by decide⟩, rfl, rfl, rfl⟩ (by decide) dX0_read_52 ?_
      refine zs_iinc (pc := 53) (lv' := [(0, .ref (c + 0)), (1, .int 0), (2, .int 3)]) 2 [1, 2, 0] dX0_read_53 rfl rfl (by decide) rfl ?_
      refine zs_goto (pc := 56) (tgt := 41) dX0_read_56 (by decide) ?_
      refine zs_iload_n (pc := 41) 2 dX0_read_41 rfl rfl ?_
      refine zs_iconst (pc := 42) (v := 3) dX0_read_42 rfl ?_
      refine zs_eqo (o2 := if (3 : Int32) < 3 then none else gh_readE P T2 (gh_readS S, M.2) 0) (by rw [if_neg (by decide)]) ?_
      refine zs_icmp_ge (pc := 43) (tgt := 59) dX0_read_43 (by decide) zs_none ?_
      refine zs_goto (pc := 59) (tgt := 76) dX0_read_59 (by decide) ?_
      refine zs_sub (lv' := [(0, .ref (c + 0)), (1, .int 0)]) [0, 1] rfl ?_
      exact kh_readE (M := (gh_readS S, M.2)) 0
theorem pl_X0r : plainName RX0 = true := pl_X0
theorem kh_read (hE : D.2.2.2 1 = .ref (w 100)) (hF : D.2.2.2 4 = hp_v (w 101)) (hP : ∀ a, cs_dom c a → P a = true) : zs_ConW D (rd_R w c) rd_bd zs_eI yX0_read cX0_read 3 (some .int) [(7, 59, 62, 14)] 60 [.ref (c + 0)] (T, M) (gh_read w P c T M) := by
  refine zs_conW pl_X0 rfl rfl (Nat.le_of_ble_eq_true rfl) ?_
  refine zs_lv (lv' := [(0, .ref (c + 0))]) rfl ?_
  refine zs_iconst (pc := 0) (v := 0) dX0_read_0 rfl ?_
  refine zs_istore_n (pc := 1) (lv' := [(0, .ref (c + 0)), (1, .int 0)]) [1, 0] dX0_read_1 rfl (by decide) rfl ?_
  refine zs_aload_n (pc := 2) 0 dX0_read_2 rfl rfl ?_
  refine zs_iconst (pc := 3) (v := (-1)) dX0_read_3 rfl ?_
  refine rd_puti (pc := 4) 0 0 4 ⟨⟨by decide, by decide⟩, rfl⟩ zc_X0 ⟨rfl, rfl⟩ (by decide) rfl q533 rfl rfl rfl dX0_read_4 ?_
  refine zs_aload_n (pc := 7) 0 dX0_read_7 rfl rfl ?_
  refine zs_aload_n (pc := 8) 0 dX0_read_8 rfl rfl ?_
  refine rd_getr (pc := 9) 0 0 2 (v := .ref (c + 9)) ⟨⟨by decide, by decide⟩, rfl⟩ zc_X0 ⟨rfl, rfl⟩ (by decide) rfl rfl q531 dX0_read_9 ?_
  have hC := zx_lift (Rl' := rd_R w c) (bd' := rd_bd) (M' := (T, ps_sF M 0 4 (-1))) (fun m => ((T, m) : rd_S)) (kp_X3_read D (w, T, .null) c hE hF (ps_sF M 0 4 (-1))) (fun r M1 hr => ⟨?_, rfl, rfl⟩) (fun h H hR hZ => ⟨h, rfl, hR, hZ⟩) (fun r M1 g H hp Hp _ hRp _ hg hZ => ⟨g, rfl, hg, hZ⟩)
  · refine zs_eqo (o2 := ((gp_X3_read w c (ps_sF M 0 4 (-1))).map fun z => (z.1, ((T, z.2) : rd_S))).bind (zx_cs (fun s => gh_readX P s.1 s.2) (fun z => gh_readK P z.1 z.2.2))) ?_ ?_
    · unfold gh_read zx_cs
      cases gp_X3_read w c (ps_sF M 0 4 (-1)) with
      | none => rfl
      | some z =>
        obtain ⟨v, m⟩ := z
        cases v <;> rfl
    · refine zx_callC (pc := 12) [] [.ref (c + 0)] hC wp_X3_read q628 zc_X3 rd_rcvP dX0_read_12 rfl rfl (Nat.le_of_ble_eq_true rfl) (Nat.le_of_ble_eq_true rfl) (by decide) (fun r M1 e => ?_) (fun M1 e => ?_)
      · obtain ⟨T1, m1⟩ := M1
        exact kh_readK hP r
      · obtain ⟨T1, m1⟩ := M1
        exact kh_readX
  · exact (kp_X3_read D (w, T, .null) c hE hF (ps_sF M 0 4 (-1)) r M1 hr).1
end RE
