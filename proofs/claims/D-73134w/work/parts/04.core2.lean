/-! CORE 2: branches, loops, joins, ends, calls, the heap -/
set_option maxRecDepth 100000
def zs_b (b : Bool) : Int32 := if b then 1 else 0
theorem zs_b0 (b : Bool) : zs_b b = 0 ↔ ¬ b = true := by cases b <;> decide
def zs_in (i : Int32) (n : Nat) : Bool := decide (¬ i < 0) && decide (i.toNatClampNeg < n)
theorem zs_in_not {i : Int32} {n : Nat} (h : zs_in i n = true) : ¬ (i < 0 ∨ n ≤ i.toNatClampNeg) := by
  simp only [zs_in, Bool.and_eq_true, decide_eq_true_eq] at h
  exact fun q => q.elim h.1 (fun q => absurd h.2 (Nat.not_lt.mpr q))
theorem zs_in_lt {i : Int32} {n : Nat} (h : zs_in i n = true) : i.toNatClampNeg < n := by
  simp only [zs_in, Bool.and_eq_true, decide_eq_true_eq] at h
  exact h.2
def zs_ald {τ : Type} (n : Nat) (F : Nat → τ) (i : Int32) : Option τ := if zs_in i n then some (F i.toNatClampNeg) else none
def zs_ast {τ : Type} (n : Nat) (i : Int32) (x : τ) : Option τ := if zs_in i n then some x else none
def zs_div (x y : Int32) : Option Int32 := if y = 0 then none else some (x / y)
def zs_mod (x y : Int32) : Option Int32 := if y = 0 then none else some (zs_rem x y)
theorem zs_in_of {τ ρ : Type} {b : Bool} {x : τ} {g : τ → Option ρ} {r : ρ} (h : ((if b then some x else none : Option τ).bind g) = some r) : b = true ∧ g x = some r := by
  cases b with
  | true => exact ⟨rfl, h⟩
  | false => exact absurd h (fun q => by cases q)
theorem zs_as {τ ρ κ : Type} (x : Option τ) (f : τ → Option ρ) (g : ρ → Option κ) : (x.bind f).bind g = x.bind (fun a => (f a).bind g) := by cases x <;> rfl
theorem zs_bs {τ : Type} (x : Option τ) : x.bind some = x := by cases x <;> rfl
/-- a loop: its step goes on (inl) or ends (inr); with fuel -/
def zs_loop {τ ρ : Type} : Nat → (τ → Option (τ ⊕ ρ)) → τ → Option ρ
  | 0, _, _ => none
  | n + 1, b, t => (b t).bind (fun s => Sum.elim (fun t' => zs_loop n b t') some s)
def zs_sw {β : Type} (x : Int32) : List (Int32 × Option β) → Option β → Option β
  | [], d => d
  | q :: cs, d => if x = q.1 then q.2 else zs_sw x cs d
section ZB
variable {σ α β : Type} {D : zs_D} {Rl : σ → zs_AH → Prop} {bd : σ → Nat × Nat} {Fn : zs_Q σ α} {own : String} {cc : ByteArray} {nL : Nat} {rt : Option FieldType} {nm : String} {d : Nat} {M : σ} {pc : Nat} {lv : List (Nat × Value)} {st : List Value} {o o1 o2 : Option β} {K : β → Option (α × σ)}
theorem zs_br {q : Prop} [Decidable q] {pc1 pc2 : Nat} {st' : List Value}
    (f : ∀ (p : Program) (l : Launch) (e : Env) (R : Room) (s : State) (m : MethodId) (args : Array Value) (below : List Frame) (meth : Method) (c : Code) (H : Heap) (locs : List Loc) (cells slots : Nat) (Q : State → Prop) (ls : Array Slot), p.tables.exec = Jvm.exec → c.code = cc → (q → W p l e R s m args below meth c H locs cells slots Q (F0 m pc1 ls st')) → (¬ q → W p l e R s m args below meth c H locs cells slots Q (F0 m pc2 ls st')) → W p l e R s m args below meth c H locs cells slots Q (F0 m pc ls st))
    (k1 : zs_Sim D Rl bd Fn own cc nL rt nm d M pc1 lv st' o1 K) (k2 : zs_Sim D Rl bd Fn own cc nL rt nm d M pc2 lv st' o2 K) : zs_Sim D Rl bd Fn own cc nL rt nm d M pc lv st (if q then o1 else o2) K := by
  intro r M' ee
  by_cases hq : q
  · rw [if_pos hq] at ee
    obtain ⟨hm, k⟩ := k1 r M' ee
    refine ⟨hm, fun p l e R s m args below meth c H locs cells slots h ls C h1 h2 h3 h4 hR hZ hS hl => ?_⟩
    exact f p l e R s m args below meth c H locs cells slots _ ls C.1 C.2.1 (fun _ => k p l e R s m args below meth c H locs cells slots h ls C h1 h2 h3 h4 hR hZ hS hl) (fun n => absurd hq n)
  · rw [if_neg hq] at ee
    obtain ⟨hm, k⟩ := k2 r M' ee
    refine ⟨hm, fun p l e R s m args below meth c H locs cells slots h ls C h1 h2 h3 h4 hR hZ hS hl => ?_⟩
    exact f p l e R s m args below meth c H locs cells slots _ ls C.1 C.2.1 (fun n => absurd n hq) (fun _ => k p l e R s m args below meth c H locs cells slots h ls C h1 h2 h3 h4 hR hZ hS hl)
theorem zs_if_eq {x : Int32} {off : Int} {tgt : Nat} (hd : decode cc pc = .ok (.ifCond .eq off, 3)) (ht : (pc : Int) + off = (tgt : Int)) (k1 : zs_Sim D Rl bd Fn own cc nL rt nm d M tgt lv st o1 K) (k2 : zs_Sim D Rl bd Fn own cc nL rt nm d M (pc + 3) lv st o2 K) : zs_Sim D Rl bd Fn own cc nL rt nm d M pc lv (.int x :: st) (if x = 0 then o1 else o2) K :=
  zs_br (fun _ _ _ _ _ _ _ _ _ _ _ _ _ _ _ _ hx hb a b => lv_if_eq hx hb hd ht a b) k1 k2
theorem zs_if_ne {x : Int32} {off : Int} {tgt : Nat} (hd : decode cc pc = .ok (.ifCond .ne off, 3)) (ht : (pc : Int) + off = (tgt : Int)) (k2 : zs_Sim D Rl bd Fn own cc nL rt nm d M (pc + 3) lv st o1 K) (k1 : zs_Sim D Rl bd Fn own cc nL rt nm d M tgt lv st o2 K) : zs_Sim D Rl bd Fn own cc nL rt nm d M pc lv (.int x :: st) (if x = 0 then o1 else o2) K :=
  zs_br (fun _ _ _ _ _ _ _ _ _ _ _ _ _ _ _ _ hx hb a b => lv_if_ne hx hb hd ht b a) k2 k1
theorem zs_if_lt {x : Int32} {off : Int} {tgt : Nat} (hd : decode cc pc = .ok (.ifCond .lt off, 3)) (ht : (pc : Int) + off = (tgt : Int)) (k1 : zs_Sim D Rl bd Fn own cc nL rt nm d M tgt lv st o1 K) (k2 : zs_Sim D Rl bd Fn own cc nL rt nm d M (pc + 3) lv st o2 K) : zs_Sim D Rl bd Fn own cc nL rt nm d M pc lv (.int x :: st) (if x < 0 then o1 else o2) K :=
  zs_br (fun _ _ _ _ _ _ _ _ _ _ _ _ _ _ _ _ hx hb a b => lv_if_lt hx hb hd ht a b) k1 k2
theorem zs_if_ge {x : Int32} {off : Int} {tgt : Nat} (hd : decode cc pc = .ok (.ifCond .ge off, 3)) (ht : (pc : Int) + off = (tgt : Int)) (k2 : zs_Sim D Rl bd Fn own cc nL rt nm d M (pc + 3) lv st o1 K) (k1 : zs_Sim D Rl bd Fn own cc nL rt nm d M tgt lv st o2 K) : zs_Sim D Rl bd Fn own cc nL rt nm d M pc lv (.int x :: st) (if x < 0 then o1 else o2) K :=
  zs_br (fun _ _ _ _ _ _ _ _ _ _ _ _ _ _ _ _ hx hb a b => lv_if_ge hx hb hd ht (fun z => b (Int32.not_lt.mpr z)) (fun z => a (Int32.not_le.mp z))) k2 k1
theorem zs_if_gt {x : Int32} {off : Int} {tgt : Nat} (hd : decode cc pc = .ok (.ifCond .gt off, 3)) (ht : (pc : Int) + off = (tgt : Int)) (k1 : zs_Sim D Rl bd Fn own cc nL rt nm d M tgt lv st o1 K) (k2 : zs_Sim D Rl bd Fn own cc nL rt nm d M (pc + 3) lv st o2 K) : zs_Sim D Rl bd Fn own cc nL rt nm d M pc lv (.int x :: st) (if 0 < x then o1 else o2) K :=
  zs_br (fun _ _ _ _ _ _ _ _ _ _ _ _ _ _ _ _ hx hb a b => lv_if_gt hx hb hd ht a b) k1 k2
theorem zs_if_le {x : Int32} {off : Int} {tgt : Nat} (hd : decode cc pc = .ok (.ifCond .le off, 3)) (ht : (pc : Int) + off = (tgt : Int)) (k2 : zs_Sim D Rl bd Fn own cc nL rt nm d M (pc + 3) lv st o1 K) (k1 : zs_Sim D Rl bd Fn own cc nL rt nm d M tgt lv st o2 K) : zs_Sim D Rl bd Fn own cc nL rt nm d M pc lv (.int x :: st) (if 0 < x then o1 else o2) K :=
  zs_br (fun _ _ _ _ _ _ _ _ _ _ _ _ _ _ _ _ hx hb a b => lv_if_le hx hb hd ht (fun z => b (Int32.not_lt.mpr z)) (fun z => a (Int32.not_le.mp z))) k2 k1
theorem zs_icmp_eq {x y : Int32} {off : Int} {tgt : Nat} (hd : decode cc pc = .ok (.if_icmp .eq off, 3)) (ht : (pc : Int) + off = (tgt : Int)) (k1 : zs_Sim D Rl bd Fn own cc nL rt nm d M tgt lv st o1 K) (k2 : zs_Sim D Rl bd Fn own cc nL rt nm d M (pc + 3) lv st o2 K) : zs_Sim D Rl bd Fn own cc nL rt nm d M pc lv (.int y :: .int x :: st) (if x = y then o1 else o2) K :=
  zs_br (fun _ _ _ _ _ _ _ _ _ _ _ _ _ _ _ _ hx hb a b => lv_icmp_eq hx hb hd ht a b) k1 k2
theorem zs_icmp_ne {x y : Int32} {off : Int} {tgt : Nat} (hd : decode cc pc = .ok (.if_icmp .ne off, 3)) (ht : (pc : Int) + off = (tgt : Int)) (k2 : zs_Sim D Rl bd Fn own cc nL rt nm d M (pc + 3) lv st o1 K) (k1 : zs_Sim D Rl bd Fn own cc nL rt nm d M tgt lv st o2 K) : zs_Sim D Rl bd Fn own cc nL rt nm d M pc lv (.int y :: .int x :: st) (if x = y then o1 else o2) K :=
  zs_br (fun _ _ _ _ _ _ _ _ _ _ _ _ _ _ _ _ hx hb a b => lv_icmp_ne hx hb hd ht b a) k2 k1
theorem zs_icmp_lt {x y : Int32} {off : Int} {tgt : Nat} (hd : decode cc pc = .ok (.if_icmp .lt off, 3)) (ht : (pc : Int) + off = (tgt : Int)) (k1 : zs_Sim D Rl bd Fn own cc nL rt nm d M tgt lv st o1 K) (k2 : zs_Sim D Rl bd Fn own cc nL rt nm d M (pc + 3) lv st o2 K) : zs_Sim D Rl bd Fn own cc nL rt nm d M pc lv (.int y :: .int x :: st) (if x < y then o1 else o2) K :=
  zs_br (fun _ _ _ _ _ _ _ _ _ _ _ _ _ _ _ _ hx hb a b => lv_icmp_lt hx hb hd ht a b) k1 k2
theorem zs_icmp_ge {x y : Int32} {off : Int} {tgt : Nat} (hd : decode cc pc = .ok (.if_icmp .ge off, 3)) (ht : (pc : Int) + off = (tgt : Int)) (k2 : zs_Sim D Rl bd Fn own cc nL rt nm d M (pc + 3) lv st o1 K) (k1 : zs_Sim D Rl bd Fn own cc nL rt nm d M tgt lv st o2 K) : zs_Sim D Rl bd Fn own cc nL rt nm d M pc lv (.int y :: .int x :: st) (if x < y then o1 else o2) K :=
  zs_br (fun _ _ _ _ _ _ _ _ _ _ _ _ _ _ _ _ hx hb a b => lv_icmp_ge hx hb hd ht (fun z => b (Int32.not_lt.mpr z)) (fun z => a (Int32.not_le.mp z))) k2 k1
theorem zs_icmp_gt {x y : Int32} {off : Int} {tgt : Nat} (hd : decode cc pc = .ok (.if_icmp .gt off, 3)) (ht : (pc : Int) + off = (tgt : Int)) (k1 : zs_Sim D Rl bd Fn own cc nL rt nm d M tgt lv st o1 K) (k2 : zs_Sim D Rl bd Fn own cc nL rt nm d M (pc + 3) lv st o2 K) : zs_Sim D Rl bd Fn own cc nL rt nm d M pc lv (.int y :: .int x :: st) (if y < x then o1 else o2) K :=
  zs_br (fun _ _ _ _ _ _ _ _ _ _ _ _ _ _ _ _ hx hb a b => lv_icmp_gt hx hb hd ht a b) k1 k2
theorem zs_icmp_le {x y : Int32} {off : Int} {tgt : Nat} (hd : decode cc pc = .ok (.if_icmp .le off, 3)) (ht : (pc : Int) + off = (tgt : Int)) (k2 : zs_Sim D Rl bd Fn own cc nL rt nm d M (pc + 3) lv st o1 K) (k1 : zs_Sim D Rl bd Fn own cc nL rt nm d M tgt lv st o2 K) : zs_Sim D Rl bd Fn own cc nL rt nm d M pc lv (.int y :: .int x :: st) (if y < x then o1 else o2) K :=
  zs_br (fun _ _ _ _ _ _ _ _ _ _ _ _ _ _ _ _ hx hb a b => lv_icmp_le hx hb hd ht (fun z => b (Int32.not_lt.mpr z)) (fun z => a (Int32.not_le.mp z))) k2 k1
/-- a truth value on the stack -/
theorem zs_if_f {b : Bool} {off : Int} {tgt : Nat} (hd : decode cc pc = .ok (.ifCond .eq off, 3)) (ht : (pc : Int) + off = (tgt : Int)) (k2 : zs_Sim D Rl bd Fn own cc nL rt nm d M (pc + 3) lv st o1 K) (k1 : zs_Sim D Rl bd Fn own cc nL rt nm d M tgt lv st o2 K) : zs_Sim D Rl bd Fn own cc nL rt nm d M pc lv (.int (zs_b b) :: st) (if b = true then o1 else o2) K :=
  zs_br (fun _ _ _ _ _ _ _ _ _ _ _ _ _ _ _ _ hx hb a c => lv_if_eq hx hb hd ht (fun z => c ((zs_b0 b).mp z)) (fun z => a (Classical.byContradiction fun y => z ((zs_b0 b).mpr y)))) k2 k1
theorem zs_if_t {b : Bool} {off : Int} {tgt : Nat} (hd : decode cc pc = .ok (.ifCond .ne off, 3)) (ht : (pc : Int) + off = (tgt : Int)) (k1 : zs_Sim D Rl bd Fn own cc nL rt nm d M tgt lv st o1 K) (k2 : zs_Sim D Rl bd Fn own cc nL rt nm d M (pc + 3) lv st o2 K) : zs_Sim D Rl bd Fn own cc nL rt nm d M pc lv (.int (zs_b b) :: st) (if b = true then o1 else o2) K :=
  zs_br (fun _ _ _ _ _ _ _ _ _ _ _ _ _ _ _ _ hx hb a c => lv_if_ne hx hb hd ht (fun z => a (Classical.byContradiction fun y => z ((zs_b0 b).mpr y))) (fun z => c ((zs_b0 b).mp z))) k1 k2
theorem zs_cmp0 (x y : Int64) : lg_cmp x y = 0 ↔ x = y := by
  unfold lg_cmp
  by_cases h1 : y < x
  · rw [if_pos h1]
    exact ⟨fun z => absurd z (by decide), fun z => absurd h1 (by rw [z]; exact Int64.lt_irrefl)⟩
  · rw [if_neg h1]
    by_cases h2 : x = y
    · rw [if_pos h2]
      exact ⟨fun _ => h2, fun _ => rfl⟩
    · rw [if_neg h2]
      exact ⟨fun z => absurd z (by decide), fun z => absurd z h2⟩
theorem zs_lcmp_ne {x y : Int64} {off : Int} {tgt : Nat} (hd0 : decode cc pc = .ok (.lcmp, 1)) (hd : decode cc (pc + 1) = .ok (.ifCond .ne off, 3)) (ht : ((pc + 1 : Nat) : Int) + off = (tgt : Int)) (k2 : zs_Sim D Rl bd Fn own cc nL rt nm d M (pc + 1 + 3) lv st o1 K) (k1 : zs_Sim D Rl bd Fn own cc nL rt nm d M tgt lv st o2 K) : zs_Sim D Rl bd Fn own cc nL rt nm d M pc lv (.long y :: .long x :: st) (if x = y then o1 else o2) K :=
  zs_br (fun _ _ _ _ _ _ _ _ _ _ _ _ _ _ _ _ hx hb a b => W.lcmp hx hb hd0 (lv_if_ne hx hb hd ht (fun z => b (fun y => z ((zs_cmp0 _ _).mpr y))) (fun z => a ((zs_cmp0 _ _).mp z)))) k2 k1
theorem zs_lcmp_eq {x y : Int64} {off : Int} {tgt : Nat} (hd0 : decode cc pc = .ok (.lcmp, 1)) (hd : decode cc (pc + 1) = .ok (.ifCond .eq off, 3)) (ht : ((pc + 1 : Nat) : Int) + off = (tgt : Int)) (k1 : zs_Sim D Rl bd Fn own cc nL rt nm d M tgt lv st o1 K) (k2 : zs_Sim D Rl bd Fn own cc nL rt nm d M (pc + 1 + 3) lv st o2 K) : zs_Sim D Rl bd Fn own cc nL rt nm d M pc lv (.long y :: .long x :: st) (if x = y then o1 else o2) K :=
  zs_br (fun _ _ _ _ _ _ _ _ _ _ _ _ _ _ _ _ hx hb a b => W.lcmp hx hb hd0 (lv_if_eq hx hb hd ht (fun z => a ((zs_cmp0 _ _).mp z)) (fun z => b (fun y => z ((zs_cmp0 _ _).mpr y))))) k1 k2
/-- a computed number gets a name -/
theorem zs_nm {x : Int32} {f : Int32 → Option β} (k : ∀ y : Int32, zs_Sim D Rl bd Fn own cc nL rt nm d M pc lv (.int y :: st) (f y) K) : zs_Sim D Rl bd Fn own cc nL rt nm d M pc lv (.int x :: st) ((some x).bind f) K := k x
theorem zs_nml {x : Int64} {f : Int64 → Option β} (k : ∀ y : Int64, zs_Sim D Rl bd Fn own cc nL rt nm d M pc lv (.long y :: st) (f y) K) : zs_Sim D Rl bd Fn own cc nL rt nm d M pc lv (.long x :: st) ((some x).bind f) K := k x
/-- another word for the top -/
theorem zs_top {x y : Int32} (h : x = y) (k : zs_Sim D Rl bd Fn own cc nL rt nm d M pc lv (.int y :: st) o K) : zs_Sim D Rl bd Fn own cc nL rt nm d M pc lv (.int x :: st) o K := h ▸ k
/-- a state gets a name -/
theorem zs_nmM {f : σ → Option β} (k : ∀ M1 : σ, zs_Sim D Rl bd Fn own cc nL rt nm d M1 pc lv st (f M1) K) : zs_Sim D Rl bd Fn own cc nL rt nm d M pc lv st ((some M).bind f) K := k M
theorem zs_bindK {τ : Type} {x : Option τ} {f : τ → Option β} (k : zs_Sim D Rl bd Fn own cc nL rt nm d M pc lv st x (fun a => (f a).bind K)) : zs_Sim D Rl bd Fn own cc nL rt nm d M pc lv st (x.bind f) K := by
  intro r M' ee
  exact k r M' (by rw [zs_as] at ee; exact ee)
/-- what follows a value -/
theorem zs_ret {τ : Type} {b : τ} {f : τ → Option β} (k : zs_Sim D Rl bd Fn own cc nL rt nm d M pc lv st (f b) K) : zs_Sim D Rl bd Fn own cc nL rt nm d M pc lv st (some b) (fun a => (f a).bind K) := k
/-- ways that meet again -/
theorem zs_join {τ : Type} {x : Option τ} {f : τ → Option β} (MJ : τ → σ) (pcJ : Nat) (lvJ : τ → List (Nat × Value)) (stJ : τ → List Value) (hJ : ∀ b, zs_Sim D Rl bd Fn own cc nL rt nm d (MJ b) pcJ (lvJ b) (stJ b) (f b) K)
    (hx : (∀ b, zs_Sim D Rl bd Fn own cc nL rt nm d (MJ b) pcJ (lvJ b) (stJ b) (some b) (fun a => (f a).bind K)) → zs_Sim D Rl bd Fn own cc nL rt nm d M pc lv st x (fun a => (f a).bind K)) : zs_Sim D Rl bd Fn own cc nL rt nm d M pc lv st (x.bind f) K :=
  zs_bindK (hx fun b => zs_ret (hJ b))
/-- a loop: the state t of the loop gives the abstract state and the locals; what leaves it goes on behind -/
theorem zs_while {τ ρ : Type} {body : τ → Option (τ ⊕ ρ)} {f : ρ → Option β} (MF : τ → σ) (lvF : τ → List (Nat × Value)) (N : Nat) (t0 : τ)
    (hb : ∀ (X : τ ⊕ ρ → Option (α × σ)), (∀ t, zs_Sim D Rl bd Fn own cc nL rt nm d (MF t) pc (lvF t) st (some (Sum.inl t)) X) → (∀ r, X (Sum.inr r) = (f r).bind K) → ∀ t, zs_Sim D Rl bd Fn own cc nL rt nm d (MF t) pc (lvF t) st (body t) X) : zs_Sim D Rl bd Fn own cc nL rt nm d (MF t0) pc (lvF t0) st ((zs_loop N body t0).bind f) K := by
  have key : ∀ n t, zs_Sim D Rl bd Fn own cc nL rt nm d (MF t) pc (lvF t) st (zs_loop n body t) (fun a => (f a).bind K) := by
    intro n
    induction n with
    | zero => intro t r M' ee; exact absurd ee (fun q => by cases q)
    | succ n ih =>
      intro t
      refine zs_bindK (hb _ (fun t' => ?_) (fun r => rfl) t)
      exact ih t'
  exact zs_bindK (key N t0)
theorem zs_eqK {b : β} {β2 : Type} {o3 : Option β2} {K2 : β2 → Option (α × σ)} (h : K b = o3.bind K2) (k : zs_Sim D Rl bd Fn own cc nL rt nm d M pc lv st o3 K2) : zs_Sim D Rl bd Fn own cc nL rt nm d M pc lv st (some b) K := by
  intro r M' ee
  exact k r M' (by rw [← h]; exact ee)
theorem zs_eqo (h : o1 = o2) (k : zs_Sim D Rl bd Fn own cc nL rt nm d M pc lv st o2 K) : zs_Sim D Rl bd Fn own cc nL rt nm d M pc lv st o1 K := h ▸ k
theorem zs_idiv {x y : Int32} {f : Int32 → Option β} (hd : decode cc pc = .ok (.idiv, 1)) (k : ∀ z, zs_Sim D Rl bd Fn own cc nL rt nm d M (pc + 1) lv (.int z :: st) (f z) K) : zs_Sim D Rl bd Fn own cc nL rt nm d M pc lv (.int y :: .int x :: st) ((zs_div x y).bind f) K := by
  by_cases hy : y = 0
  · intro r M' ee
    simp [zs_div, hy] at ee
  · refine zs_eqo (o2 := f (x / y)) (by simp [zs_div, hy]) ?_
    exact zs_idivK hd hy (k _)
theorem zs_irem {x y : Int32} {f : Int32 → Option β} (hd : decode cc pc = .ok (.irem, 1)) (k : ∀ z, zs_Sim D Rl bd Fn own cc nL rt nm d M (pc + 1) lv (.int z :: st) (f z) K) : zs_Sim D Rl bd Fn own cc nL rt nm d M pc lv (.int y :: .int x :: st) ((zs_mod x y).bind f) K := by
  by_cases hy : y = 0
  · intro r M' ee
    simp [zs_mod, hy] at ee
  · refine zs_eqo (o2 := f (zs_rem x y)) (by simp [zs_mod, hy]) ?_
    exact zs_iremK hd hy (k _)
end ZB
/-- a method's end, and its start -/
def zs_Qc {σ α : Type} (D : zs_D) (Rl : σ → zs_AH → Prop) (enc : α → Option Value) (r : α) (M' : σ) (base : Nat) : Array Value → State → Outcome → State → Prop := fun _ s0 oc t => oc = .returned (enc r) ∧ (∃ h', h'.1 = base ∧ Rl M' h' ∧ zs_R D h' t.heap) ∧ va_F (fun q => base ≤ q) s0 t
def zs_Fn {σ α : Type} (D : zs_D) (Rl : σ → zs_AH → Prop) (enc : α → Option Value) : zs_Q σ α := fun r M' below args s mc ms base => MQ below (zs_Qc D Rl enc r M' base) args s mc ms (fun q => base ≤ q)
def zs_Pc {σ : Type} (D : zs_D) (Rl : σ → zs_AH → Prop) (av : List Value) (M : σ) (base : Nat) : Array Value → State → Prop := va_Pc av (fun U => zs_K D base U ∧ base ≤ U.heap.size ∧ ∃ h, h.1 = base ∧ Rl M h ∧ zs_R D h U.heap)
def zs_Con {σ α : Type} (D : zs_D) (Rl : σ → zs_AH → Prop) (bd : σ → Nat × Nat) (enc : α → Option Value) (y : MethodName) (cc : ByteArray) (nL : Nat) (rt : Option FieldType) (d : Nat) (av : List Value) (M : σ) (o : Option (α × σ)) : Prop :=
  ∀ (r : α) (M' : σ), o = some (r, M') → ((bd M').1 ≤ (bd M).1 ∧ (bd M').2 ≤ (bd M).2) ∧ ∀ (l : Launch) (base : Nat), l.flags = flags0 →
    Met l y (ws_ y cc nL rt) ({ frames := d, cells := (bd M).1 - (bd M').1, slots := (bd M).2 - (bd M').2, locals := 64 * d }) (zs_Pc D Rl av M base) (zs_Qc D Rl enc r M' base) ((bd M).1 - (bd M').1) ((bd M).2 - (bd M').2) (fun q => base ≤ q)
def zs_eI (x : Int32) : Option Value := some (.int x)
def zs_eB (b : Bool) : Option Value := some (.int (zs_b b))
def zs_eL (x : Int64) : Option Value := some (.long x)
def zs_eV (_ : Unit) : Option Value := none
def zs_eR (a : Nat) : Option Value := some (.ref a)
section ZC
variable {σ α β : Type} {D : zs_D} {Rl : σ → zs_AH → Prop} {bd : σ → Nat × Nat} {Fn : zs_Q σ α} {own : String} {cc : ByteArray} {nL : Nat} {rt : Option FieldType} {nm : String} {d : Nat} {M : σ} {pc : Nat} {lv : List (Nat × Value)} {st : List Value} {o : Option β} {K : β → Option (α × σ)} {enc : α → Option Value}
theorem zs_con {y : MethodName} {av : List Value} {o : Option (α × σ)} (hy : plainName y.cls = true) (hnm : y.name = nm) (hown : y.cls = own) (hlen : (lg_sl av).length ≤ nL) (k : zs_Sim D Rl bd (zs_Fn D Rl enc) own cc nL rt nm d M 0 (lv_args 0 av) [] o some) (htab : (own == "HairRope" && nm == "read") = false := by decide +kernel) : zs_Con D Rl bd enc y cc nL rt d av M o := by
  intro r M' ee
  obtain ⟨hm, k⟩ := k r M' (by rw [zs_bs]; exact ee)
  refine ⟨hm, fun l base hfl => Met.ofW (cc := cc) (maxL := nL) (ret := rt) hy rfl ?_⟩
  intro p e s m args below meth c s₁ B hml hv
  obtain ⟨rfl, hK, hbase, h, rfl, hR, hZ⟩ := hv
  have hts := atoms_spec (ws := ws_ y cc nL rt) B.pre
  have hts : ∀ w ∈ lw_all, w.before _ s = true := fun w h => hts w (List.mem_cons_of_mem _ h)
  have ho : s.vm.findClass own = some m.cls := hown ▸ findClass_of_methodNamed B.named
  have hn : meth.name = nm := hnm ▸ (name_of_methodNamed B.named B.method).1
  have htb : c.exceptionTable.toList = zx_tab own nm := by
    obtain ⟨meth9, c9, h1, h2, -, -, -, -, h7, -⟩ := Cond.code_spec B.named (atoms_spec (ws := ws_ y cc nL rt) B.pre (Cond.code y cc nL rt) List.mem_cons_self)
    cases Option.some.inj (h1.symm.trans B.method)
    cases Option.some.inj (h2.symm.trans (Stand.of_body B).code)
    rw [Array.isEmpty_iff.mp h7]
    unfold zx_tab
    rw [if_neg (by rw [htab]; decide)]
  have hl := lv_entry av (n := nL) hlen
  rw [lg_entry_eq]
  exact k p l e _ s m _ below meth c s.heap [] 0 0 h _ ⟨B.exec, B.bytes, B.returns, B.notSynchronized, hml, ho, hts, hK, ⟨hn, htb⟩, hfl⟩ (Nat.le_refl _) (Nat.le_refl _) (by show 0 + (bd M).1 = ((bd M).1 - (bd M').1) + (bd M').1; omega) (by show 0 + (bd M).2 = ((bd M).2 - (bd M').2) + (bd M').2; omega) hR hZ ⟨hbase, va_S.rf⟩ hl
/-- of a method that leaves the state alone -/
theorem zs_conR {y : MethodName} {av : List Value} {o : Option α} (hy : plainName y.cls = true) (hnm : y.name = nm) (hown : y.cls = own) (hlen : (lg_sl av).length ≤ nL) (k : zs_Sim D Rl bd (zs_Fn D Rl enc) own cc nL rt nm d M 0 (lv_args 0 av) [] o (fun x => some (x, M))) (htab : (own == "HairRope" && nm == "read") = false := by decide +kernel) : zs_Con D Rl bd enc y cc nL rt d av M (o.map fun x => (x, M)) := by
  refine zs_con hy hnm hown hlen ?_ htab
  intro r M' ee
  exact k r M' (by rw [zs_bs] at ee; rw [← ee]; cases o <;> rfl)
/-- of a method that answers nothing -/
theorem zs_conV {y : MethodName} {av : List Value} {enc : Unit → Option Value} {o : Option σ} (hy : plainName y.cls = true) (hnm : y.name = nm) (hown : y.cls = own) (hlen : (lg_sl av).length ≤ nL) (k : zs_Sim D Rl bd (zs_Fn D Rl enc) own cc nL rt nm d M 0 (lv_args 0 av) [] o (fun x => some ((), x))) (htab : (own == "HairRope" && nm == "read") = false := by decide +kernel) : zs_Con D Rl bd enc y cc nL rt d av M (o.map fun x => ((), x)) := by
  refine zs_con hy hnm hown hlen ?_ htab
  intro r M' ee
  exact k r M' (by rw [zs_bs] at ee; rw [← ee]; cases o <;> rfl)
theorem zs_cnt {a b c : Nat} (h : a + b = c + b) : a = c := Nat.add_right_cancel h
theorem zs_iret {b : β} {x : Int32} {v : α} {ty : FieldType} (hd : decode cc pc = .ok (.ireturn, 1)) (hK : K b = some (v, M)) (he : enc v = some (.int x)) (hn : narrow ty (.int x) = .int x) : zs_Sim D Rl bd (zs_Fn D Rl enc) own cc nL (some ty) nm d M pc lv [.int x] (some b) K := by
  intro r M' ee
  obtain ⟨rfl, rfl⟩ : v = r ∧ M = M' := by have h1 := hK.symm.trans ee; exact ⟨congrArg (fun z => z.1) (Option.some.inj h1), congrArg (fun z => z.2) (Option.some.inj h1)⟩
  refine ⟨⟨Nat.le_refl _, Nat.le_refl _⟩, fun p l e R s m args below meth c H locs cells slots h ls C h1 h2 h3 h4 hR hZ hS hl => ?_⟩
  obtain ⟨c1, c2, c3, c4, -⟩ := C
  rw [← zs_cnt h3, ← zs_cnt h4]
  exact W.zret (ty := ty) (v := x) c1 c2 c3 hn (fun t ht hW => ⟨by rw [he], ⟨h, rfl, hR, by rw [ht]; exact hZ⟩, hS.2.F ht⟩) hS.2.2.2 hd c4
theorem zs_lret {b : β} {x : Int64} {v : α} (hd : decode cc pc = .ok (.lreturn, 1)) (hK : K b = some (v, M)) (he : enc v = some (.long x)) : zs_Sim D Rl bd (zs_Fn D Rl enc) own cc nL (some .long) nm d M pc lv [.long x] (some b) K := by
  intro r M' ee
  obtain ⟨rfl, rfl⟩ : v = r ∧ M = M' := by have h1 := hK.symm.trans ee; exact ⟨congrArg (fun z => z.1) (Option.some.inj h1), congrArg (fun z => z.2) (Option.some.inj h1)⟩
  refine ⟨⟨Nat.le_refl _, Nat.le_refl _⟩, fun p l e R s m args below meth c H locs cells slots h ls C h1 h2 h3 h4 hR hZ hS hl => ?_⟩
  obtain ⟨c1, c2, c3, c4, -⟩ := C
  rw [← zs_cnt h3, ← zs_cnt h4]
  exact W.lret (v := x) c1 c2 c3 (fun t ht hW => ⟨by rw [he], ⟨h, rfl, hR, by rw [ht]; exact hZ⟩, hS.2.F ht⟩) hS.2.2.2 hd c4
theorem zs_vret {b : β} {v : α} (hd : decode cc pc = .ok (.return_, 1)) (hK : K b = some (v, M)) (he : enc v = none) : zs_Sim D Rl bd (zs_Fn D Rl enc) own cc nL none nm d M pc lv [] (some b) K := by
  intro r M' ee
  obtain ⟨rfl, rfl⟩ : v = r ∧ M = M' := by have h1 := hK.symm.trans ee; exact ⟨congrArg (fun z => z.1) (Option.some.inj h1), congrArg (fun z => z.2) (Option.some.inj h1)⟩
  refine ⟨⟨Nat.le_refl _, Nat.le_refl _⟩, fun p l e R s m args below meth c H locs cells slots h ls C h1 h2 h3 h4 hR hZ hS hl => ?_⟩
  obtain ⟨c1, c2, c3, c4, -⟩ := C
  rw [← zs_cnt h3, ← zs_cnt h4]
  exact W.vret c1 c2 c3 (fun t ht hW => ⟨by rw [he], ⟨h, rfl, hR, by rw [ht]; exact hZ⟩, hS.2.F ht⟩) hS.2.2.2 hd c4
theorem zs_aret {b : β} {x : Value} {v : α} {ty : FieldType} (hd : decode cc pc = .ok (.areturn, 1)) (hK : K b = some (v, M)) (he : enc v = some x) (hty : (∃ n, ty = .object n) ∨ ∃ t, ty = .array t) (hx : x = .null ∨ ∃ a, x = .ref a) : zs_Sim D Rl bd (zs_Fn D Rl enc) own cc nL (some ty) nm d M pc lv [x] (some b) K := by
  intro r M' ee
  obtain ⟨rfl, rfl⟩ : v = r ∧ M = M' := by have h1 := hK.symm.trans ee; exact ⟨congrArg (fun z => z.1) (Option.some.inj h1), congrArg (fun z => z.2) (Option.some.inj h1)⟩
  refine ⟨⟨Nat.le_refl _, Nat.le_refl _⟩, fun p l e R s m args below meth c H locs cells slots h ls C h1 h2 h3 h4 hR hZ hS hl => ?_⟩
  obtain ⟨c1, c2, c3, c4, -⟩ := C
  rw [← zs_cnt h3, ← zs_cnt h4]
  exact W.aret (v := x) c1 c2 c3 hty hx (fun t ht hW => ⟨by rw [he], ⟨h, rfl, hR, by rw [ht]; exact hZ⟩, hS.2.F ht⟩) hS.2.2.2 hd c4
end ZC
