/-! CORE: a light calculus over the kit's W: a program text o (Option) that the bytecode computes, an abstract heap -/
set_option maxRecDepth 100000
/-- an abstract cell: its kind (below 64 a class' number, from 64 on an array's), its length, what it holds -/
abbrev zs_HC : Type := Nat × Nat × (Nat → Value)
/-- an abstract heap: the base (what lies below is never written), the size, the cells that are known -/
abbrev zs_AH : Type := Nat × Nat × (Nat → Option zs_HC)
/-- classes and slots, array classes, addresses of constants, values of statics -/
abbrev zs_D : Type := va_G × (Nat → ClassId) × (Nat → Nat) × (Nat → Value)
def zs_C : List vw_C := [(RX0, TX0, 27), (RX1, TX1, 8), (RX2, TX2, 8), (RX3, TX3, 7), (RX4, TX4, 8), (RX5, TX5, 12), (RX6, TX6, 2), (RX6, TX6, 2), (RX8, TX6, 0), (RX9, TX6, 0), (RX10, TX10, 71), (RX11, TX11, 4), (RX6, TX6, 2), (RX13, TX13, 1), (RX14, TX14, 1), (RX15, TX15, 3), (RX16, TX16, 3), (RJ5, TJ5, 3), (RJ8, TJ8, 4), (RJ12, TJ12, 4)]
def zs_T : List FieldType := [.int, .byte, .short, .boolean, .long, .object "HairRope$Law", .object "HairRope$Sum", .object "HairRope$Village", .object "java/lang/String", .object "java/lang/Object", .array .int]
def zs_A (D : zs_D) (a : Nat) (x : zs_HC) (H : Heap) : Prop := (x.1 < 64 ∧ ∃ r, zs_C[x.1]? = some r ∧ r.2.2 = x.2.1 ∧ t_OB a (D.1.1 x.1) x.2.1 (D.1.2 x.1) H x.2.2) ∨ (64 ≤ x.1 ∧ H[a]? = some (arrV (D.2.1 (x.1 - 64)) x.2.1 x.2.2))
def zs_R (D : zs_D) (h : zs_AH) (H : Heap) : Prop := h.2.1 = H.size ∧ ∀ a x, h.2.2 a = some x → zs_A D a x H
/-- statics that are read: class, name, descriptor, value -/
def zs_Sv (D : zs_D) : Nat → Option (String × String × String × Value)
  | 0 => some ("java/lang/String", "COMPACT_STRINGS", "Z", .int 1)
  | 1 => some ("java/util/ArrayList", "DEFAULTCAPACITY_EMPTY_ELEMENTDATA", "[Ljava/lang/Object;", D.2.2.2 1)
  | 2 => some ("java/lang/Throwable", "UNASSIGNED_STACK", "[Ljava/lang/StackTraceElement;", D.2.2.2 2)
  | 3 => some ("java/lang/Throwable", "SUPPRESSED_SENTINEL", "Ljava/util/List;", D.2.2.2 3)
  | 4 => some ("jdk/internal/util/Preconditions", "SIOOBE_FORMATTER", "Ljava/util/function/BiFunction;", D.2.2.2 4)
  | _ => none
/-- words of the tables that don't ride in lw_all -/
def zs_X (U : State) : Prop := (∀ C T, Cond.castable C T ∈ lw_tbl → va_Nw (.castable C T) U) ∧ (∀ w i y h, Cond.methodLinkNest w i y h ∈ lw_tbl → va_Nw (.methodLinkNest w i y h) U) ∧ (∀ C, Cond.arrayOver (.object C) ∈ lw_tbl → va_AO C U) ∧ (∀ x, Cond.declares x ∈ lw_tbl → va_Nw (.declares x) U)
/-- the class of rows of ints rides on -/
def zs_AOI (U : State) : Prop := (Cond.arrayOver (.array .int)).before #[] U = true
theorem zs_AOI.moved {u U : State} (hvm : u.vm.Alike U.vm) (h : zs_AOI u) : zs_AOI U := by
  obtain ⟨comp, c, k, h1, h2, h3, h4, h5⟩ := arrayOverA_spec h
  obtain ⟨k', hk', he⟩ := hvm.2.2 _ _ h3
  have hb : U.vm.bare = u.vm.bare := by first | exact hvm.bare_eq | exact hvm.bare_eq.symm
  have e := va_idx_bare U.vm comp
  rw [hb] at e
  have hi := e.symm.trans ((va_idx_bare u.vm comp).trans h2)
  have hkind : k'.kind = .array comp (.array .int) := by rw [he]; exact h4
  have f1 : U.vm.findClass (FieldType.array .int).toString = some comp := by rw [hvm.findClass]; exact h1
  have f2 : U.vm.findClass ("[" ++ (FieldType.array .int).toString) = some c := by rw [hvm.findClass]; exact h5
  unfold zs_AOI Cond.before Cond.holds
  simp only [Cond.value]
  rw [f1, Option.bind_some]
  refine (congrArg (fun o : Option Nat => (o.bind (fun c => (U.vm.classes[c]?).map fun (k : Class) => match k.kind with | .array _ ty => decide (ty = FieldType.array .int) && decide (U.vm.findClass ("[" ++ (FieldType.array .int).toString) = some c) | _ => false) == some true)) hi).trans ?_
  simp [hk', hkind, f2]
def yY_ens : MethodName := ⟨"java/lang/AbstractStringBuilder", "ensureCapacityInternal", "(I)V"⟩
/-- a private method of the class above is the one that is meant -/
def zs_Sel (U : State) : Prop := (Cond.selects "java/lang/StringBuilder" yY_ens yY_ens).before #[] U = true
theorem zs_Sel.warm {s U : State} (hW : s.WarmedH U.vm) (h : zs_Sel s) : zs_Sel U := word_at hW (Or.inl rfl) h
def zs_K (D : zs_D) (base : Nat) (U : State) : Prop := (∀ (c : Nat) (q : vw_C), zs_C[c]? = some q → u_Kn U q.1 q.2.1 q.2.2 (D.1.1 c) (D.1.2 c)) ∧ (∀ (t : Nat) (ty : FieldType), zs_T[t]? = some ty → ArrOfT U (D.2.1 t) ty ∧ va_RA U (D.2.1 t) ty) ∧ zs_X U ∧ (∀ k C n d v, zs_Sv D k = some (C, n, d, v) → va_Z C n d v (fun q => base ≤ q) U U.heap) ∧ (∀ w i tx, Cond.stringRef w i tx ∈ lw_tbl → vk_R w i tx (D.2.2.1 i) U) ∧ zs_AOI U ∧ zs_Sel U
theorem zs_K_next {D : zs_D} {base : Nat} {s U : State} (hW : s.WarmedH U.vm) (hq : ∀ a : Nat, a < s.heap.size → ¬ base ≤ a → U.heap[a]? = s.heap[a]?) (h : zs_K D base s) : zs_K D base U := by
  obtain ⟨h1, h2, ⟨x1, x2, x3, x4⟩, h4, h5, h6, h7⟩ := h
  have ha := hW.alike
  refine ⟨fun c q hc => u_Kn_moved ha (h1 c q hc), fun t ty ht => ⟨arrOfT_moved ha (h2 t ty ht).1, (h2 t ty ht).2.moved ha⟩, ⟨fun C T m => (x1 C T m).warmC hW, fun w i y g m => (x2 w i y g m).warmM hW, fun C m => (x3 C m).moved ha, fun x m => (x4 x m).warmD hW⟩, fun k C n d v e => ((h4 k C n d v e).moved ha).kept hq, fun w i tx m => (h5 w i tx m).warm hW, h6.moved ha, h7.warm hW⟩
theorem zs_K_same {D : zs_D} {base : Nat} {s U : State} (hv : U.vm = s.vm) (hh : U.heap = s.heap) (h : zs_K D base s) : zs_K D base U :=
  zs_K_next (by rw [hv]; exact State.WarmedH.refl _) (fun a _ _ => by rw [hh]) h
def zs_S (base : Nat) (H0 H : Heap) (locs : List Loc) : Prop := base ≤ H0.size ∧ va_S (fun q => base ≤ q) H0 H locs
/-- the one method with a handler -/
def zx_tab (own nm : String) : List ExceptionTableEntry := if (own == "HairRope" && nm == "read") = true then tableOf [(7, 59, 62, 14)] else []
/-- what a method's context gives -/
def zs_Cx (D : zs_D) (own : String) (cc : ByteArray) (nL : Nat) (rt : Option FieldType) (nm : String) (base : Nat) (p : Program) (l : Launch) (s : State) (m : MethodId) (args : Array Value) (meth : Method) (c : Code) : Prop :=
  p.tables.exec = Jvm.exec ∧ c.code = cc ∧ meth.sig.returnType = rt ∧ meth.locks = false ∧ c.maxLocals = nL ∧ s.vm.findClass own = some m.cls ∧ (∀ w ∈ lw_all, w.before args s = true) ∧ zs_K D base s ∧ (meth.name = nm ∧ c.exceptionTable.toList = zx_tab own nm) ∧ l.flags = flags0
/-- how a method ends: by its answer and its last abstract state -/
abbrev zs_Q (σ α : Type) : Type := α → σ → List Frame → Array Value → State → Nat → Nat → Nat → State → Prop
/-- from pc with locals lv, stack st the machine comes to the end that the program text o, then K, says -/
def zs_Sim {σ α β : Type} (D : zs_D) (Rl : σ → zs_AH → Prop) (bd : σ → Nat × Nat) (Fn : zs_Q σ α) (own : String) (cc : ByteArray) (nL : Nat) (rt : Option FieldType) (nm : String) (d : Nat) (M : σ) (pc : Nat) (lv : List (Nat × Value)) (st : List Value) (o : Option β) (K : β → Option (α × σ)) : Prop :=
  ∀ (r : α) (M' : σ), o.bind K = some (r, M') → ((bd M').1 ≤ (bd M).1 ∧ (bd M').2 ≤ (bd M).2) ∧
    ∀ (p : Program) (l : Launch) (e : Env) (R : Room) (s : State) (m : MethodId) (args : Array Value) (below : List Frame) (meth : Method) (c : Code) (H : Heap) (locs : List Loc) (cells slots : Nat) (h : zs_AH) (ls : Array Slot),
      zs_Cx D own cc nL rt nm h.1 p l s m args meth c → d ≤ R.frames → 64 * d ≤ R.locals → cells + (bd M).1 = R.cells + (bd M').1 → slots + (bd M).2 = R.slots + (bd M').2 → Rl M h → zs_R D h H → zs_S h.1 s.heap H locs → lv_has ls nL lv →
      W p l e R s m args below meth c H locs cells slots (Fn r M' below args s R.cells R.slots h.1) (F0 m pc ls st)
section ZA
variable {σ α β : Type} {D : zs_D} {Rl : σ → zs_AH → Prop} {bd : σ → Nat × Nat} {Fn : zs_Q σ α} {own : String} {cc : ByteArray} {nL : Nat} {rt : Option FieldType} {nm : String} {d : Nat} {M : σ} {pc : Nat} {lv : List (Nat × Value)} {st : List Value} {o : Option β} {K : β → Option (α × σ)}
/-- a step that leaves the heap alone -/
theorem zs_map {pc' : Nat} {lv' : List (Nat × Value)} {st' : List Value}
    (f : ∀ (p : Program) (l : Launch) (e : Env) (R : Room) (s : State) (m : MethodId) (args : Array Value) (below : List Frame) (meth : Method) (c : Code) (H : Heap) (locs : List Loc) (cells slots : Nat) (Q : State → Prop) (ls : Array Slot), p.tables.exec = Jvm.exec → c.code = cc → s.vm.findClass own = some m.cls → (∀ w ∈ lw_all, w.before args s = true) → lv_has ls nL lv → (∀ ls', lv_has ls' nL lv' → W p l e R s m args below meth c H locs cells slots Q (F0 m pc' ls' st')) → W p l e R s m args below meth c H locs cells slots Q (F0 m pc ls st))
    (k : zs_Sim D Rl bd Fn own cc nL rt nm d M pc' lv' st' o K) : zs_Sim D Rl bd Fn own cc nL rt nm d M pc lv st o K := by
  intro r M' ee
  obtain ⟨hm, k⟩ := k r M' ee
  refine ⟨hm, fun p l e R s m args below meth c H locs cells slots h ls C h1 h2 h3 h4 hR hZ hS hl => ?_⟩
  have C0 := C
  obtain ⟨c1, c2, -, -, -, c6, c7, -⟩ := C
  exact f p l e R s m args below meth c H locs cells slots _ ls c1 c2 c6 c7 hl (fun ls' hl' => k p l e R s m args below meth c H locs cells slots h ls' C0 h1 h2 h3 h4 hR hZ hS hl')
/-- fewer or reordered locals -/
theorem zs_sub {lv' : List (Nat × Value)} (ks : List Nat) (hl : lv_pick lv ks = lv') (k : zs_Sim D Rl bd Fn own cc nL rt nm d M pc lv' st o K) : zs_Sim D Rl bd Fn own cc nL rt nm d M pc lv st o K :=
  zs_map (fun _ _ _ _ _ _ _ _ _ _ _ _ _ _ _ ls _ _ _ _ h kk => kk ls (lv_sub h ks hl)) k
theorem zs_iconst {n : Int} {v : Int32} (hd : decode cc pc = .ok (.iconst n, 1)) (hv : Int32.ofInt n = v) (k : zs_Sim D Rl bd Fn own cc nL rt nm d M (pc + 1) lv (.int v :: st) o K) : zs_Sim D Rl bd Fn own cc nL rt nm d M pc lv st o K :=
  zs_map (fun _ _ _ _ _ _ _ _ _ _ _ _ _ _ _ ls hx hb _ _ h kk => lv_iconst hx hb hd hv (kk ls h)) k
theorem zs_bipush {n : Int} {v : Int32} (hd : decode cc pc = .ok (.bipush n, 2)) (hv : (Int8.ofInt n).toInt32 = v) (k : zs_Sim D Rl bd Fn own cc nL rt nm d M (pc + 2) lv (.int v :: st) o K) : zs_Sim D Rl bd Fn own cc nL rt nm d M pc lv st o K :=
  zs_map (fun _ _ _ _ _ _ _ _ _ _ _ _ _ _ _ ls hx hb _ _ h kk => lv_bipush hx hb hd hv (kk ls h)) k
theorem zs_sipush {n : Int} {v : Int32} (hd : decode cc pc = .ok (.sipush n, 3)) (hv : (Int16.ofInt n).toInt32 = v) (k : zs_Sim D Rl bd Fn own cc nL rt nm d M (pc + 3) lv (.int v :: st) o K) : zs_Sim D Rl bd Fn own cc nL rt nm d M pc lv st o K :=
  zs_map (fun _ _ _ _ _ _ _ _ _ _ _ _ _ _ _ ls hx hb _ _ h kk => lv_sipush hx hb hd hv (kk ls h)) k
theorem zs_lconst {n : Fin 2} {v : Int64} (hd : decode cc pc = .ok (.lconst n, 1)) (hv : Int64.ofNat (n : Nat) = v) (k : zs_Sim D Rl bd Fn own cc nL rt nm d M (pc + 1) lv (.long v :: st) o K) : zs_Sim D Rl bd Fn own cc nL rt nm d M pc lv st o K :=
  zs_map (fun _ _ _ _ _ _ _ _ _ _ _ _ _ _ _ ls hx hb _ _ h kk => lv_lconst hx hb hd hv (kk ls h)) k
theorem zs_null (hd : decode cc pc = .ok (.aconst_null, 1)) (k : zs_Sim D Rl bd Fn own cc nL rt nm d M (pc + 1) lv (.null :: st) o K) : zs_Sim D Rl bd Fn own cc nL rt nm d M pc lv st o K :=
  zs_map (fun _ _ _ _ _ _ _ _ _ _ _ _ _ _ _ ls hx hb _ _ h kk => lv_null hx hb hd (kk ls h)) k
theorem zs_ldc {i : Nat} {v : Int32} (hq : Cond.constant own i v ∈ lw_all) (hd : decode cc pc = .ok (.ldc i, 2)) (k : zs_Sim D Rl bd Fn own cc nL rt nm d M (pc + 2) lv (.int v :: st) o K) : zs_Sim D Rl bd Fn own cc nL rt nm d M pc lv st o K :=
  zs_map (fun _ _ _ _ _ _ _ _ _ _ _ _ _ _ _ ls hx hb ho hw h kk => lv_ldc hx hb ho (hw _ hq) hd (kk ls h)) k
theorem zs_ldcw {i : Nat} {v : Int32} (hq : Cond.constant own i v ∈ lw_all) (hd : decode cc pc = .ok (.ldc_w i, 3)) (k : zs_Sim D Rl bd Fn own cc nL rt nm d M (pc + 3) lv (.int v :: st) o K) : zs_Sim D Rl bd Fn own cc nL rt nm d M pc lv st o K :=
  zs_map (fun _ _ _ _ _ _ _ _ _ _ _ _ _ _ _ ls hx hb ho hw h kk => lv_ldcw hx hb ho (hw _ hq) hd (kk ls h)) k
theorem zs_ldc2 {i : Nat} {v : Int64} (hq : Cond.constantLong own i v ∈ lw_all) (hd : decode cc pc = .ok (.ldc2_w i, 3)) (k : zs_Sim D Rl bd Fn own cc nL rt nm d M (pc + 3) lv (.long v :: st) o K) : zs_Sim D Rl bd Fn own cc nL rt nm d M pc lv st o K :=
  zs_map (fun _ _ _ _ _ _ _ _ _ _ _ _ _ _ _ ls hx hb ho hw h kk => lv_ldc2 hx hb ho (hw _ hq) hd (kk ls h)) k
theorem zs_iload_n {j : Fin 4} {i : Nat} {x : Int32} (q : Nat) (hd : decode cc pc = .ok (.iload_n j, 1)) (hi : (j : Nat) = i) (hl : lv[q]? = some (i, .int x)) (k : zs_Sim D Rl bd Fn own cc nL rt nm d M (pc + 1) lv (.int x :: st) o K) : zs_Sim D Rl bd Fn own cc nL rt nm d M pc lv st o K :=
  zs_map (fun _ _ _ _ _ _ _ _ _ _ _ _ _ _ _ ls hx hb _ _ h kk => lv_iload_n hx hb hd hi (lv_at h q hl) (kk ls h)) k
theorem zs_iload {i : Nat} {x : Int32} (q : Nat) (hd : decode cc pc = .ok (.iload i, 2)) (hl : lv[q]? = some (i, .int x)) (k : zs_Sim D Rl bd Fn own cc nL rt nm d M (pc + 2) lv (.int x :: st) o K) : zs_Sim D Rl bd Fn own cc nL rt nm d M pc lv st o K :=
  zs_map (fun _ _ _ _ _ _ _ _ _ _ _ _ _ _ _ ls hx hb _ _ h kk => lv_iload hx hb hd (lv_at h q hl) (kk ls h)) k
theorem zs_lload_n {j : Fin 4} {i : Nat} {x : Int64} (q : Nat) (hd : decode cc pc = .ok (.lload_n j, 1)) (hi : (j : Nat) = i) (hl : lv[q]? = some (i, .long x)) (k : zs_Sim D Rl bd Fn own cc nL rt nm d M (pc + 1) lv (.long x :: st) o K) : zs_Sim D Rl bd Fn own cc nL rt nm d M pc lv st o K :=
  zs_map (fun _ _ _ _ _ _ _ _ _ _ _ _ _ _ _ ls hx hb _ _ h kk => lv_lload_n hx hb hd hi (lv_at h q hl) (kk ls h)) k
theorem zs_lload {i : Nat} {x : Int64} (q : Nat) (hd : decode cc pc = .ok (.lload i, 2)) (hl : lv[q]? = some (i, .long x)) (k : zs_Sim D Rl bd Fn own cc nL rt nm d M (pc + 2) lv (.long x :: st) o K) : zs_Sim D Rl bd Fn own cc nL rt nm d M pc lv st o K :=
  zs_map (fun _ _ _ _ _ _ _ _ _ _ _ _ _ _ _ ls hx hb _ _ h kk => lv_lload hx hb hd (lv_at h q hl) (kk ls h)) k
theorem zs_aload_n {j : Fin 4} {i x : Nat} (q : Nat) (hd : decode cc pc = .ok (.aload_n j, 1)) (hi : (j : Nat) = i) (hl : lv[q]? = some (i, .ref x)) (k : zs_Sim D Rl bd Fn own cc nL rt nm d M (pc + 1) lv (.ref x :: st) o K) : zs_Sim D Rl bd Fn own cc nL rt nm d M pc lv st o K :=
  zs_map (fun _ _ _ _ _ _ _ _ _ _ _ _ _ _ _ ls hx hb _ _ h kk => lv_aload_n hx hb hd hi (lv_at h q hl) (kk ls h)) k
theorem zs_aload {i x : Nat} (q : Nat) (hd : decode cc pc = .ok (.aload i, 2)) (hl : lv[q]? = some (i, .ref x)) (k : zs_Sim D Rl bd Fn own cc nL rt nm d M (pc + 2) lv (.ref x :: st) o K) : zs_Sim D Rl bd Fn own cc nL rt nm d M pc lv st o K :=
  zs_map (fun _ _ _ _ _ _ _ _ _ _ _ _ _ _ _ ls hx hb _ _ h kk => lv_aload hx hb hd (lv_at h q hl) (kk ls h)) k
def zs_put (lv : List (Nat × Value)) (i : Nat) (v : Value) : List (Nat × Value) := (i, v) :: lv.filter (fun q => !(q.1 == i) && !(q.1 + 1 == i && q.2.category == 2))
def zs_put2 (lv : List (Nat × Value)) (i : Nat) (v : Value) : List (Nat × Value) := (i, v) :: lv.filter (fun q => !(q.1 == i) && (!(q.1 == i + 1) && !(q.1 + 1 == i && q.2.category == 2)))
theorem zs_istore_n {j : Fin 4} {i : Nat} {x : Int32} {lv' : List (Nat × Value)} (ks : List Nat) (hd : decode cc pc = .ok (.istore_n j, 1)) (hi : (j : Nat) = i) (hn : i < nL) (hl : lv_pick (zs_put lv i (.int x)) ks = lv') (k : zs_Sim D Rl bd Fn own cc nL rt nm d M (pc + 1) lv' st o K) : zs_Sim D Rl bd Fn own cc nL rt nm d M pc lv (.int x :: st) o K :=
  zs_map (fun _ _ _ _ _ _ _ _ _ _ _ _ _ _ _ ls hx hb _ _ h kk => lv_istore_n hx hb hd hi h hn rfl (fun ls' h' => kk ls' (lv_sub h' ks hl))) k
theorem zs_istore {i : Nat} {x : Int32} {lv' : List (Nat × Value)} (ks : List Nat) (hd : decode cc pc = .ok (.istore i, 2)) (hn : i < nL) (hl : lv_pick (zs_put lv i (.int x)) ks = lv') (k : zs_Sim D Rl bd Fn own cc nL rt nm d M (pc + 2) lv' st o K) : zs_Sim D Rl bd Fn own cc nL rt nm d M pc lv (.int x :: st) o K :=
  zs_map (fun _ _ _ _ _ _ _ _ _ _ _ _ _ _ _ ls hx hb _ _ h kk => lv_istore hx hb hd h hn rfl (fun ls' h' => kk ls' (lv_sub h' ks hl))) k
theorem zs_astore_n {j : Fin 4} {i : Nat} {x : Nat} {lv' : List (Nat × Value)} (ks : List Nat) (hd : decode cc pc = .ok (.astore_n j, 1)) (hi : (j : Nat) = i) (hn : i < nL) (hl : lv_pick (zs_put lv i (.ref x)) ks = lv') (k : zs_Sim D Rl bd Fn own cc nL rt nm d M (pc + 1) lv' st o K) : zs_Sim D Rl bd Fn own cc nL rt nm d M pc lv (.ref x :: st) o K :=
  zs_map (fun _ _ _ _ _ _ _ _ _ _ _ _ _ _ _ ls hx hb _ _ h kk => lv_astore_n hx hb hd hi h hn rfl (fun ls' h' => kk ls' (lv_sub h' ks hl))) k
theorem zs_astore {i : Nat} {x : Nat} {lv' : List (Nat × Value)} (ks : List Nat) (hd : decode cc pc = .ok (.astore i, 2)) (hn : i < nL) (hl : lv_pick (zs_put lv i (.ref x)) ks = lv') (k : zs_Sim D Rl bd Fn own cc nL rt nm d M (pc + 2) lv' st o K) : zs_Sim D Rl bd Fn own cc nL rt nm d M pc lv (.ref x :: st) o K :=
  zs_map (fun _ _ _ _ _ _ _ _ _ _ _ _ _ _ _ ls hx hb _ _ h kk => lv_astore hx hb hd h hn rfl (fun ls' h' => kk ls' (lv_sub h' ks hl))) k
theorem zs_lstore_n {j : Fin 4} {i : Nat} {x : Int64} {lv' : List (Nat × Value)} (ks : List Nat) (hd : decode cc pc = .ok (.lstore_n j, 1)) (hi : (j : Nat) = i) (hn : i + 1 < nL) (hl : lv_pick (zs_put2 lv i (.long x)) ks = lv') (k : zs_Sim D Rl bd Fn own cc nL rt nm d M (pc + 1) lv' st o K) : zs_Sim D Rl bd Fn own cc nL rt nm d M pc lv (.long x :: st) o K :=
  zs_map (fun _ _ _ _ _ _ _ _ _ _ _ _ _ _ _ ls hx hb _ _ h kk => lv_lstore_n hx hb hd hi h hn rfl (fun ls' h' => kk ls' (lv_sub h' ks hl))) k
theorem zs_lstore {i : Nat} {x : Int64} {lv' : List (Nat × Value)} (ks : List Nat) (hd : decode cc pc = .ok (.lstore i, 2)) (hn : i + 1 < nL) (hl : lv_pick (zs_put2 lv i (.long x)) ks = lv') (k : zs_Sim D Rl bd Fn own cc nL rt nm d M (pc + 2) lv' st o K) : zs_Sim D Rl bd Fn own cc nL rt nm d M pc lv (.long x :: st) o K :=
  zs_map (fun _ _ _ _ _ _ _ _ _ _ _ _ _ _ _ ls hx hb _ _ h kk => lv_lstore hx hb hd h hn rfl (fun ls' h' => kk ls' (lv_sub h' ks hl))) k
theorem zs_iinc {i : Nat} {n : Int} {x v : Int32} {lv' : List (Nat × Value)} (q : Nat) (ks : List Nat) (hd : decode cc pc = .ok (.iinc i n, 3)) (hq : lv[q]? = some (i, .int x)) (hv : x + Int32.ofInt n = v) (hn : i < nL) (hl : lv_pick (zs_put lv i (.int v)) ks = lv') (k : zs_Sim D Rl bd Fn own cc nL rt nm d M (pc + 3) lv' st o K) : zs_Sim D Rl bd Fn own cc nL rt nm d M pc lv st o K :=
  zs_map (fun _ _ _ _ _ _ _ _ _ _ _ _ _ _ _ ls hx hb _ _ h kk => lv_iinc hx hb hd h hq hv hn rfl (fun ls' h' => kk ls' (lv_sub h' ks hl))) k
theorem zs_iadd {x y : Int32} (hd : decode cc pc = .ok (.iadd, 1)) (k : zs_Sim D Rl bd Fn own cc nL rt nm d M (pc + 1) lv (.int (x + y) :: st) o K) : zs_Sim D Rl bd Fn own cc nL rt nm d M pc lv (.int y :: .int x :: st) o K :=
  zs_map (fun _ _ _ _ _ _ _ _ _ _ _ _ _ _ _ ls hx hb _ _ h kk => lv_iadd hx hb hd (kk ls h)) k
theorem zs_isub {x y : Int32} (hd : decode cc pc = .ok (.isub, 1)) (k : zs_Sim D Rl bd Fn own cc nL rt nm d M (pc + 1) lv (.int (x - y) :: st) o K) : zs_Sim D Rl bd Fn own cc nL rt nm d M pc lv (.int y :: .int x :: st) o K :=
  zs_map (fun _ _ _ _ _ _ _ _ _ _ _ _ _ _ _ ls hx hb _ _ h kk => lv_isub hx hb hd (kk ls h)) k
theorem zs_imul {x y : Int32} (hd : decode cc pc = .ok (.imul, 1)) (k : zs_Sim D Rl bd Fn own cc nL rt nm d M (pc + 1) lv (.int (x * y) :: st) o K) : zs_Sim D Rl bd Fn own cc nL rt nm d M pc lv (.int y :: .int x :: st) o K :=
  zs_map (fun _ _ _ _ _ _ _ _ _ _ _ _ _ _ _ ls hx hb _ _ h kk => lv_imul hx hb hd (kk ls h)) k
theorem zs_iand {x y : Int32} (hd : decode cc pc = .ok (.iand, 1)) (k : zs_Sim D Rl bd Fn own cc nL rt nm d M (pc + 1) lv (.int (x &&& y) :: st) o K) : zs_Sim D Rl bd Fn own cc nL rt nm d M pc lv (.int y :: .int x :: st) o K :=
  zs_map (fun _ _ _ _ _ _ _ _ _ _ _ _ _ _ _ ls hx hb _ _ h kk => lv_iand hx hb hd (kk ls h)) k
theorem zs_ior {x y : Int32} (hd : decode cc pc = .ok (.ior, 1)) (k : zs_Sim D Rl bd Fn own cc nL rt nm d M (pc + 1) lv (.int (x ||| y) :: st) o K) : zs_Sim D Rl bd Fn own cc nL rt nm d M pc lv (.int y :: .int x :: st) o K :=
  zs_map (fun _ _ _ _ _ _ _ _ _ _ _ _ _ _ _ ls hx hb _ _ h kk => lv_ior hx hb hd (kk ls h)) k
theorem zs_ixor {x y : Int32} (hd : decode cc pc = .ok (.ixor, 1)) (k : zs_Sim D Rl bd Fn own cc nL rt nm d M (pc + 1) lv (.int (x ^^^ y) :: st) o K) : zs_Sim D Rl bd Fn own cc nL rt nm d M pc lv (.int y :: .int x :: st) o K :=
  zs_map (fun _ _ _ _ _ _ _ _ _ _ _ _ _ _ _ ls hx hb _ _ h kk => lv_ixor hx hb hd (kk ls h)) k
theorem zs_ineg {x : Int32} (hd : decode cc pc = .ok (.ineg, 1)) (k : zs_Sim D Rl bd Fn own cc nL rt nm d M (pc + 1) lv (.int (-x) :: st) o K) : zs_Sim D Rl bd Fn own cc nL rt nm d M pc lv (.int x :: st) o K :=
  zs_map (fun _ _ _ _ _ _ _ _ _ _ _ _ _ _ _ ls hx hb _ _ h kk => lv_ineg hx hb hd (kk ls h)) k
def zs_shl (x y : Int32) : Int32 := x <<< (y &&& 31)
def zs_shr (x y : Int32) : Int32 := x >>> (y &&& 31)
def zs_ushr (x y : Int32) : Int32 := (x.toUInt32 >>> (y.toUInt32 &&& Int32.toUInt32 31)).toInt32
def zs_rem (x y : Int32) : Int32 := x - x / y * y
theorem zs_ishl {x y : Int32} (hd : decode cc pc = .ok (.ishl, 1)) (k : zs_Sim D Rl bd Fn own cc nL rt nm d M (pc + 1) lv (.int (zs_shl x y) :: st) o K) : zs_Sim D Rl bd Fn own cc nL rt nm d M pc lv (.int y :: .int x :: st) o K :=
  zs_map (fun _ _ _ _ _ _ _ _ _ _ _ _ _ _ _ ls hx hb _ _ h kk => lv_ishl hx hb hd (kk ls h)) k
theorem zs_ishr {x y : Int32} (hd : decode cc pc = .ok (.ishr, 1)) (k : zs_Sim D Rl bd Fn own cc nL rt nm d M (pc + 1) lv (.int (zs_shr x y) :: st) o K) : zs_Sim D Rl bd Fn own cc nL rt nm d M pc lv (.int y :: .int x :: st) o K :=
  zs_map (fun _ _ _ _ _ _ _ _ _ _ _ _ _ _ _ ls hx hb _ _ h kk => lv_ishr hx hb hd (kk ls h)) k
theorem zs_iushr {x y : Int32} (hd : decode cc pc = .ok (.iushr, 1)) (k : zs_Sim D Rl bd Fn own cc nL rt nm d M (pc + 1) lv (.int (zs_ushr x y) :: st) o K) : zs_Sim D Rl bd Fn own cc nL rt nm d M pc lv (.int y :: .int x :: st) o K :=
  zs_map (fun _ _ _ _ _ _ _ _ _ _ _ _ _ _ _ ls hx hb _ _ h kk => lv_iushr hx hb hd rfl (kk ls h)) k
/-- a division by a written number -/
theorem zs_idivK {x y : Int32} (hd : decode cc pc = .ok (.idiv, 1)) (hne : ¬ y = 0) (k : zs_Sim D Rl bd Fn own cc nL rt nm d M (pc + 1) lv (.int (x / y) :: st) o K) : zs_Sim D Rl bd Fn own cc nL rt nm d M pc lv (.int y :: .int x :: st) o K :=
  zs_map (fun _ _ _ _ _ _ _ _ _ _ _ _ _ _ _ ls hx hb _ _ h kk => lv_idiv hx hb hd hne (kk ls h)) k
theorem zs_iremK {x y : Int32} (hd : decode cc pc = .ok (.irem, 1)) (hne : ¬ y = 0) (k : zs_Sim D Rl bd Fn own cc nL rt nm d M (pc + 1) lv (.int (zs_rem x y) :: st) o K) : zs_Sim D Rl bd Fn own cc nL rt nm d M pc lv (.int y :: .int x :: st) o K :=
  zs_map (fun _ _ _ _ _ _ _ _ _ _ _ _ _ _ _ ls hx hb _ _ h kk => lv_irem hx hb hd hne (kk ls h)) k
theorem zs_ladd {x y : Int64} (hd : decode cc pc = .ok (.ladd, 1)) (k : zs_Sim D Rl bd Fn own cc nL rt nm d M (pc + 1) lv (.long (x + y) :: st) o K) : zs_Sim D Rl bd Fn own cc nL rt nm d M pc lv (.long y :: .long x :: st) o K :=
  zs_map (fun _ _ _ _ _ _ _ _ _ _ _ _ _ _ _ ls hx hb _ _ h kk => lv_ladd hx hb hd (kk ls h)) k
theorem zs_lmul {x y : Int64} (hd : decode cc pc = .ok (.lmul, 1)) (k : zs_Sim D Rl bd Fn own cc nL rt nm d M (pc + 1) lv (.long (x * y) :: st) o K) : zs_Sim D Rl bd Fn own cc nL rt nm d M pc lv (.long y :: .long x :: st) o K :=
  zs_map (fun _ _ _ _ _ _ _ _ _ _ _ _ _ _ _ ls hx hb _ _ h kk => lv_lmul hx hb hd (kk ls h)) k
theorem zs_i2l {x : Int32} (hd : decode cc pc = .ok (.i2l, 1)) (k : zs_Sim D Rl bd Fn own cc nL rt nm d M (pc + 1) lv (.long x.toInt64 :: st) o K) : zs_Sim D Rl bd Fn own cc nL rt nm d M pc lv (.int x :: st) o K :=
  zs_map (fun _ _ _ _ _ _ _ _ _ _ _ _ _ _ _ ls hx hb _ _ h kk => lv_i2l hx hb hd rfl (kk ls h)) k
def zs_i8 (x : Int32) : Int32 := x.toInt8.toInt32
def zs_i16 (x : Int32) : Int32 := x.toInt16.toInt32
def zs_u16 (x : Int32) : Int32 := (x.toUInt32 % 65536).toInt32
theorem zs_i2b {x : Int32} (hd : decode cc pc = .ok (.i2b, 1)) (k : zs_Sim D Rl bd Fn own cc nL rt nm d M (pc + 1) lv (.int (zs_i8 x) :: st) o K) : zs_Sim D Rl bd Fn own cc nL rt nm d M pc lv (.int x :: st) o K :=
  zs_map (fun _ _ _ _ _ _ _ _ _ _ _ _ _ _ _ ls hx hb _ _ h kk => lv_i2b hx hb hd rfl (kk ls h)) k
theorem zs_i2s {x : Int32} (hd : decode cc pc = .ok (.i2s, 1)) (k : zs_Sim D Rl bd Fn own cc nL rt nm d M (pc + 1) lv (.int (zs_i16 x) :: st) o K) : zs_Sim D Rl bd Fn own cc nL rt nm d M pc lv (.int x :: st) o K :=
  zs_map (fun _ _ _ _ _ _ _ _ _ _ _ _ _ _ _ ls hx hb _ _ h kk => lv_i2s hx hb hd rfl (kk ls h)) k
theorem zs_i2c {x : Int32} (hd : decode cc pc = .ok (.i2c, 1)) (k : zs_Sim D Rl bd Fn own cc nL rt nm d M (pc + 1) lv (.int (zs_u16 x) :: st) o K) : zs_Sim D Rl bd Fn own cc nL rt nm d M pc lv (.int x :: st) o K :=
  zs_map (fun _ _ _ _ _ _ _ _ _ _ _ _ _ _ _ ls hx hb _ _ h kk => lv_i2c hx hb hd rfl (kk ls h)) k
theorem zs_dup {v : Value} (hd : decode cc pc = .ok (.dup, 1)) (hv : v.category = 1) (k : zs_Sim D Rl bd Fn own cc nL rt nm d M (pc + 1) lv (v :: v :: st) o K) : zs_Sim D Rl bd Fn own cc nL rt nm d M pc lv (v :: st) o K :=
  zs_map (fun _ _ _ _ _ _ _ _ _ _ _ _ _ _ _ ls hx hb _ _ h kk => lv_dup hx hb hd hv (kk ls h)) k
theorem zs_dup2 {v w : Value} (hd : decode cc pc = .ok (.dup2, 1)) (hv : v.category = 1) (hw : w.category = 1) (k : zs_Sim D Rl bd Fn own cc nL rt nm d M (pc + 1) lv (v :: w :: v :: w :: st) o K) : zs_Sim D Rl bd Fn own cc nL rt nm d M pc lv (v :: w :: st) o K :=
  zs_map (fun _ _ _ _ _ _ _ _ _ _ _ _ _ _ _ ls hx hb _ _ h kk => lv_dup2_11 hx hb hd hv hw (kk ls h)) k
theorem zs_dup_x1 {v w : Value} (hd : decode cc pc = .ok (.dup_x1, 1)) (hv : v.category = 1) (hw : w.category = 1) (k : zs_Sim D Rl bd Fn own cc nL rt nm d M (pc + 1) lv (v :: w :: v :: st) o K) : zs_Sim D Rl bd Fn own cc nL rt nm d M pc lv (v :: w :: st) o K :=
  zs_map (fun _ _ _ _ _ _ _ _ _ _ _ _ _ _ _ ls hx hb _ _ h kk => lv_dup_x1 hx hb hd hv hw (kk ls h)) k
theorem zs_pop {v : Value} (hd : decode cc pc = .ok (.pop, 1)) (hv : v.category = 1) (k : zs_Sim D Rl bd Fn own cc nL rt nm d M (pc + 1) lv st o K) : zs_Sim D Rl bd Fn own cc nL rt nm d M pc lv (v :: st) o K :=
  zs_map (fun _ _ _ _ _ _ _ _ _ _ _ _ _ _ _ ls hx hb _ _ h kk => lv_pop hx hb hd hv (kk ls h)) k
theorem zs_goto {off : Int} {tgt : Nat} (hd : decode cc pc = .ok (.goto off, 3)) (ht : (pc : Int) + off = (tgt : Int)) (k : zs_Sim D Rl bd Fn own cc nL rt nm d M tgt lv st o K) : zs_Sim D Rl bd Fn own cc nL rt nm d M pc lv st o K :=
  zs_map (fun _ _ _ _ _ _ _ _ _ _ _ _ _ _ _ ls hx hb _ _ h kk => lv_goto hx hb hd ht (kk ls h)) k
end ZA
