/-! DECODE ROWS BY BYTES: one lemma an opcode; a method's code is cut into short pieces once, and a row reads its own piece alone. -/
set_option maxRecDepth 100000
/-- the code has just these bytes from pc on -/
def DkAt (code : ByteArray) (pc : Nat) (bs : List UInt8) : Prop := ∀ (j : Nat) (b : UInt8), bs[j]? = some b → code.data.toList[pc + j]? = some b
/-- the piece W has the bytes bs from its place j on -/
def dkIn (W : List UInt8) (j : Nat) (bs : List UInt8) : Bool := decide ((W.drop j).take bs.length = bs)
theorem dk_seg {l W T : List UInt8} {o o2 : Nat} (h : l.drop o = W ++ T) (n : Nat) (hn : W.length = n) (ho : o + n = o2) : l.drop o2 = T := by
  subst ho
  rw [← List.drop_drop, h, List.drop_left' hn]
theorem dk_at {code : ByteArray} {W T bs : List UInt8} {o pc : Nat} (h : code.data.toList.drop o = W ++ T) (j : Nat) (hp : o + j = pc) (hw : dkIn W j bs = true) : DkAt code pc bs := by
  subst hp
  intro i b e
  have h1 := of_decide_eq_true hw
  have h2 : i < bs.length := (List.getElem?_eq_some_iff.mp e).1
  have h3 : W[j + i]? = some b := by
    rw [← h1, List.getElem?_take, if_pos h2, List.getElem?_drop] at e
    exact e
  have h4 : j + i < W.length := (List.getElem?_eq_some_iff.mp h3).1
  have h5 : (code.data.toList.drop o)[j + i]? = some b := by
    rw [h, List.getElem?_append_left h4]
    exact h3
  rw [List.getElem?_drop, ← Nat.add_assoc] at h5
  exact h5
theorem dk_u1 {A : ByteArray} {p : Nat} {b : UInt8} (h : A.data.toList[p]? = some b) : (Reader.u1 : Reader DecodeError Nat) A p = .ok (b.toNat, p + 1) := by
  obtain ⟨h1, h2⟩ := List.getElem?_eq_some_iff.mp h
  have h3 : p < A.size := by simpa using h1
  have h4 : A[p]'h3 = b := h2
  have e : (Reader.u1 : Reader DecodeError Nat) A p = (if h : p < A.size then .ok (A[p].toNat, p + 1) else .error (HasTruncated.truncated p)) := by
    show (do if h : p < A.size then do set (p + 1); Pure.pure A[p].toNat else MonadExcept.throw (HasTruncated.truncated p) : Reader DecodeError Nat) A p = _
    by_cases hi : p < A.size
    · rw [dif_pos hi, dif_pos hi]; rfl
    · rw [dif_neg hi, dif_neg hi]; rfl
  rw [e, dif_pos h3, h4]
theorem dk_bind {α β : Type} {r : Reader DecodeError α} {f : α → Reader DecodeError β} {A : ByteArray} {p s : Nat} {a : α} (h : r A p = .ok (a, s)) : (r >>= f) A p = f a A s := by
  show (do let (a, s) ← r A p; f a A s : Except DecodeError (β × Nat)) = _
  rw [h]
  rfl
theorem dk_map {α β : Type} {r : Reader DecodeError α} {g : α → β} {A : ByteArray} {p s : Nat} {a : α} (h : r A p = .ok (a, s)) : (g <$> r) A p = .ok (g a, s) := by
  show (do let (a, s) ← r A p; .ok (g a, s) : Except DecodeError (β × Nat)) = _
  rw [h]
  rfl
theorem dk_u2 {A : ByteArray} {p : Nat} {a b : UInt8} (h : A.data.toList[p]? = some a) (h2 : A.data.toList[p + 1]? = some b) : (Reader.u2 : Reader DecodeError Nat) A p = .ok (a.toNat * 256 + b.toNat, p + 2) := by
  show (Reader.u1 >>= fun hi => Reader.u1 >>= fun lo => Pure.pure (hi * 256 + lo) : Reader DecodeError Nat) A p = _
  rw [dk_bind (dk_u1 h), dk_bind (dk_u1 h2)]
  rfl
theorem dk_of {code : ByteArray} {pc n : Nat} {i : Instr} (h : Decoder.instr pc code pc = .ok (i, pc + n)) : decode code pc = .ok (i, n) := by
  have e : decode code pc = (match Decoder.instr pc code pc with | .error x => .error x | .ok (j, s) => .ok (j, s - pc)) := by
    show (do let (j, s) ← Decoder.instr pc code pc; Pure.pure (j, s - pc) : Except DecodeError (Instr × Nat)) = _
    cases Decoder.instr pc code pc <;> rfl
  rw [e, h]
  show Except.ok (i, pc + n - pc) = _
  rw [Nat.add_sub_cancel_left]
theorem dk_1 {code : ByteArray} {pc : Nat} (h : DkAt code pc [1]) : decode code pc = .ok (.aconst_null, 1) := dk_of ((dk_bind (dk_u1 (h 0 _ rfl))).trans rfl)
theorem dk_2 {code : ByteArray} {pc : Nat} (h : DkAt code pc [2]) : decode code pc = .ok (.iconst (-1), 1) := dk_of ((dk_bind (dk_u1 (h 0 _ rfl))).trans rfl)
theorem dk_3 {code : ByteArray} {pc : Nat} (h : DkAt code pc [3]) : decode code pc = .ok (.iconst 0, 1) := dk_of ((dk_bind (dk_u1 (h 0 _ rfl))).trans rfl)
theorem dk_4 {code : ByteArray} {pc : Nat} (h : DkAt code pc [4]) : decode code pc = .ok (.iconst 1, 1) := dk_of ((dk_bind (dk_u1 (h 0 _ rfl))).trans rfl)
theorem dk_5 {code : ByteArray} {pc : Nat} (h : DkAt code pc [5]) : decode code pc = .ok (.iconst 2, 1) := dk_of ((dk_bind (dk_u1 (h 0 _ rfl))).trans rfl)
theorem dk_6 {code : ByteArray} {pc : Nat} (h : DkAt code pc [6]) : decode code pc = .ok (.iconst 3, 1) := dk_of ((dk_bind (dk_u1 (h 0 _ rfl))).trans rfl)
theorem dk_7 {code : ByteArray} {pc : Nat} (h : DkAt code pc [7]) : decode code pc = .ok (.iconst 4, 1) := dk_of ((dk_bind (dk_u1 (h 0 _ rfl))).trans rfl)
theorem dk_8 {code : ByteArray} {pc : Nat} (h : DkAt code pc [8]) : decode code pc = .ok (.iconst 5, 1) := dk_of ((dk_bind (dk_u1 (h 0 _ rfl))).trans rfl)
theorem dk_9 {code : ByteArray} {pc : Nat} (h : DkAt code pc [9]) : decode code pc = .ok (.lconst 0, 1) := dk_of ((dk_bind (dk_u1 (h 0 _ rfl))).trans rfl)
theorem dk_16 {code : ByteArray} {pc : Nat} (a : UInt8) (h : DkAt code pc [16, a]) : decode code pc = .ok (.bipush (Reader.signed 8 a.toNat), 2) := dk_of ((dk_bind (dk_u1 (h 0 _ rfl))).trans ((dk_bind (dk_map (dk_u1 (h 1 _ rfl)))).trans rfl))
theorem dk_17 {code : ByteArray} {pc : Nat} (a b : UInt8) (h : DkAt code pc [17, a, b]) : decode code pc = .ok (.sipush (Reader.signed 16 (a.toNat * 256 + b.toNat)), 3) := dk_of ((dk_bind (dk_u1 (h 0 _ rfl))).trans ((dk_bind (dk_map (dk_u2 (h 1 _ rfl) (h 2 _ rfl)))).trans rfl))
theorem dk_18 {code : ByteArray} {pc : Nat} (a : UInt8) (h : DkAt code pc [18, a]) : decode code pc = .ok (.ldc a.toNat, 2) := dk_of ((dk_bind (dk_u1 (h 0 _ rfl))).trans ((dk_bind (dk_u1 (h 1 _ rfl))).trans rfl))
theorem dk_19 {code : ByteArray} {pc : Nat} (a b : UInt8) (h : DkAt code pc [19, a, b]) : decode code pc = .ok (.ldc_w (a.toNat * 256 + b.toNat), 3) := dk_of ((dk_bind (dk_u1 (h 0 _ rfl))).trans ((dk_bind (dk_u2 (h 1 _ rfl) (h 2 _ rfl))).trans rfl))
theorem dk_20 {code : ByteArray} {pc : Nat} (a b : UInt8) (h : DkAt code pc [20, a, b]) : decode code pc = .ok (.ldc2_w (a.toNat * 256 + b.toNat), 3) := dk_of ((dk_bind (dk_u1 (h 0 _ rfl))).trans ((dk_bind (dk_u2 (h 1 _ rfl) (h 2 _ rfl))).trans rfl))
theorem dk_21 {code : ByteArray} {pc : Nat} (a : UInt8) (h : DkAt code pc [21, a]) : decode code pc = .ok (.iload a.toNat, 2) := dk_of ((dk_bind (dk_u1 (h 0 _ rfl))).trans ((dk_bind (dk_u1 (h 1 _ rfl))).trans rfl))
theorem dk_22 {code : ByteArray} {pc : Nat} (a : UInt8) (h : DkAt code pc [22, a]) : decode code pc = .ok (.lload a.toNat, 2) := dk_of ((dk_bind (dk_u1 (h 0 _ rfl))).trans ((dk_bind (dk_u1 (h 1 _ rfl))).trans rfl))
theorem dk_25 {code : ByteArray} {pc : Nat} (a : UInt8) (h : DkAt code pc [25, a]) : decode code pc = .ok (.aload a.toNat, 2) := dk_of ((dk_bind (dk_u1 (h 0 _ rfl))).trans ((dk_bind (dk_u1 (h 1 _ rfl))).trans rfl))
theorem dk_26 {code : ByteArray} {pc : Nat} (h : DkAt code pc [26]) : decode code pc = .ok (.iload_n 0, 1) := dk_of ((dk_bind (dk_u1 (h 0 _ rfl))).trans rfl)
theorem dk_27 {code : ByteArray} {pc : Nat} (h : DkAt code pc [27]) : decode code pc = .ok (.iload_n 1, 1) := dk_of ((dk_bind (dk_u1 (h 0 _ rfl))).trans rfl)
theorem dk_28 {code : ByteArray} {pc : Nat} (h : DkAt code pc [28]) : decode code pc = .ok (.iload_n 2, 1) := dk_of ((dk_bind (dk_u1 (h 0 _ rfl))).trans rfl)
theorem dk_29 {code : ByteArray} {pc : Nat} (h : DkAt code pc [29]) : decode code pc = .ok (.iload_n 3, 1) := dk_of ((dk_bind (dk_u1 (h 0 _ rfl))).trans rfl)
theorem dk_30 {code : ByteArray} {pc : Nat} (h : DkAt code pc [30]) : decode code pc = .ok (.lload_n 0, 1) := dk_of ((dk_bind (dk_u1 (h 0 _ rfl))).trans rfl)
theorem dk_42 {code : ByteArray} {pc : Nat} (h : DkAt code pc [42]) : decode code pc = .ok (.aload_n 0, 1) := dk_of ((dk_bind (dk_u1 (h 0 _ rfl))).trans rfl)
theorem dk_43 {code : ByteArray} {pc : Nat} (h : DkAt code pc [43]) : decode code pc = .ok (.aload_n 1, 1) := dk_of ((dk_bind (dk_u1 (h 0 _ rfl))).trans rfl)
theorem dk_44 {code : ByteArray} {pc : Nat} (h : DkAt code pc [44]) : decode code pc = .ok (.aload_n 2, 1) := dk_of ((dk_bind (dk_u1 (h 0 _ rfl))).trans rfl)
theorem dk_45 {code : ByteArray} {pc : Nat} (h : DkAt code pc [45]) : decode code pc = .ok (.aload_n 3, 1) := dk_of ((dk_bind (dk_u1 (h 0 _ rfl))).trans rfl)
theorem dk_46 {code : ByteArray} {pc : Nat} (h : DkAt code pc [46]) : decode code pc = .ok (.iaload, 1) := dk_of ((dk_bind (dk_u1 (h 0 _ rfl))).trans rfl)
theorem dk_47 {code : ByteArray} {pc : Nat} (h : DkAt code pc [47]) : decode code pc = .ok (.laload, 1) := dk_of ((dk_bind (dk_u1 (h 0 _ rfl))).trans rfl)
theorem dk_50 {code : ByteArray} {pc : Nat} (h : DkAt code pc [50]) : decode code pc = .ok (.aaload, 1) := dk_of ((dk_bind (dk_u1 (h 0 _ rfl))).trans rfl)
theorem dk_51 {code : ByteArray} {pc : Nat} (h : DkAt code pc [51]) : decode code pc = .ok (.baload, 1) := dk_of ((dk_bind (dk_u1 (h 0 _ rfl))).trans rfl)
theorem dk_53 {code : ByteArray} {pc : Nat} (h : DkAt code pc [53]) : decode code pc = .ok (.saload, 1) := dk_of ((dk_bind (dk_u1 (h 0 _ rfl))).trans rfl)
theorem dk_54 {code : ByteArray} {pc : Nat} (a : UInt8) (h : DkAt code pc [54, a]) : decode code pc = .ok (.istore a.toNat, 2) := dk_of ((dk_bind (dk_u1 (h 0 _ rfl))).trans ((dk_bind (dk_u1 (h 1 _ rfl))).trans rfl))
theorem dk_55 {code : ByteArray} {pc : Nat} (a : UInt8) (h : DkAt code pc [55, a]) : decode code pc = .ok (.lstore a.toNat, 2) := dk_of ((dk_bind (dk_u1 (h 0 _ rfl))).trans ((dk_bind (dk_u1 (h 1 _ rfl))).trans rfl))
theorem dk_58 {code : ByteArray} {pc : Nat} (a : UInt8) (h : DkAt code pc [58, a]) : decode code pc = .ok (.astore a.toNat, 2) := dk_of ((dk_bind (dk_u1 (h 0 _ rfl))).trans ((dk_bind (dk_u1 (h 1 _ rfl))).trans rfl))
theorem dk_59 {code : ByteArray} {pc : Nat} (h : DkAt code pc [59]) : decode code pc = .ok (.istore_n 0, 1) := dk_of ((dk_bind (dk_u1 (h 0 _ rfl))).trans rfl)
theorem dk_60 {code : ByteArray} {pc : Nat} (h : DkAt code pc [60]) : decode code pc = .ok (.istore_n 1, 1) := dk_of ((dk_bind (dk_u1 (h 0 _ rfl))).trans rfl)
theorem dk_61 {code : ByteArray} {pc : Nat} (h : DkAt code pc [61]) : decode code pc = .ok (.istore_n 2, 1) := dk_of ((dk_bind (dk_u1 (h 0 _ rfl))).trans rfl)
theorem dk_62 {code : ByteArray} {pc : Nat} (h : DkAt code pc [62]) : decode code pc = .ok (.istore_n 3, 1) := dk_of ((dk_bind (dk_u1 (h 0 _ rfl))).trans rfl)
theorem dk_76 {code : ByteArray} {pc : Nat} (h : DkAt code pc [76]) : decode code pc = .ok (.astore_n 1, 1) := dk_of ((dk_bind (dk_u1 (h 0 _ rfl))).trans rfl)
theorem dk_77 {code : ByteArray} {pc : Nat} (h : DkAt code pc [77]) : decode code pc = .ok (.astore_n 2, 1) := dk_of ((dk_bind (dk_u1 (h 0 _ rfl))).trans rfl)
theorem dk_78 {code : ByteArray} {pc : Nat} (h : DkAt code pc [78]) : decode code pc = .ok (.astore_n 3, 1) := dk_of ((dk_bind (dk_u1 (h 0 _ rfl))).trans rfl)
theorem dk_79 {code : ByteArray} {pc : Nat} (h : DkAt code pc [79]) : decode code pc = .ok (.iastore, 1) := dk_of ((dk_bind (dk_u1 (h 0 _ rfl))).trans rfl)
theorem dk_80 {code : ByteArray} {pc : Nat} (h : DkAt code pc [80]) : decode code pc = .ok (.lastore, 1) := dk_of ((dk_bind (dk_u1 (h 0 _ rfl))).trans rfl)
theorem dk_83 {code : ByteArray} {pc : Nat} (h : DkAt code pc [83]) : decode code pc = .ok (.aastore, 1) := dk_of ((dk_bind (dk_u1 (h 0 _ rfl))).trans rfl)
theorem dk_84 {code : ByteArray} {pc : Nat} (h : DkAt code pc [84]) : decode code pc = .ok (.bastore, 1) := dk_of ((dk_bind (dk_u1 (h 0 _ rfl))).trans rfl)
theorem dk_86 {code : ByteArray} {pc : Nat} (h : DkAt code pc [86]) : decode code pc = .ok (.sastore, 1) := dk_of ((dk_bind (dk_u1 (h 0 _ rfl))).trans rfl)
theorem dk_87 {code : ByteArray} {pc : Nat} (h : DkAt code pc [87]) : decode code pc = .ok (.pop, 1) := dk_of ((dk_bind (dk_u1 (h 0 _ rfl))).trans rfl)
theorem dk_89 {code : ByteArray} {pc : Nat} (h : DkAt code pc [89]) : decode code pc = .ok (.dup, 1) := dk_of ((dk_bind (dk_u1 (h 0 _ rfl))).trans rfl)
theorem dk_90 {code : ByteArray} {pc : Nat} (h : DkAt code pc [90]) : decode code pc = .ok (.dup_x1, 1) := dk_of ((dk_bind (dk_u1 (h 0 _ rfl))).trans rfl)
theorem dk_92 {code : ByteArray} {pc : Nat} (h : DkAt code pc [92]) : decode code pc = .ok (.dup2, 1) := dk_of ((dk_bind (dk_u1 (h 0 _ rfl))).trans rfl)
theorem dk_96 {code : ByteArray} {pc : Nat} (h : DkAt code pc [96]) : decode code pc = .ok (.iadd, 1) := dk_of ((dk_bind (dk_u1 (h 0 _ rfl))).trans rfl)
theorem dk_97 {code : ByteArray} {pc : Nat} (h : DkAt code pc [97]) : decode code pc = .ok (.ladd, 1) := dk_of ((dk_bind (dk_u1 (h 0 _ rfl))).trans rfl)
theorem dk_100 {code : ByteArray} {pc : Nat} (h : DkAt code pc [100]) : decode code pc = .ok (.isub, 1) := dk_of ((dk_bind (dk_u1 (h 0 _ rfl))).trans rfl)
theorem dk_104 {code : ByteArray} {pc : Nat} (h : DkAt code pc [104]) : decode code pc = .ok (.imul, 1) := dk_of ((dk_bind (dk_u1 (h 0 _ rfl))).trans rfl)
theorem dk_105 {code : ByteArray} {pc : Nat} (h : DkAt code pc [105]) : decode code pc = .ok (.lmul, 1) := dk_of ((dk_bind (dk_u1 (h 0 _ rfl))).trans rfl)
theorem dk_108 {code : ByteArray} {pc : Nat} (h : DkAt code pc [108]) : decode code pc = .ok (.idiv, 1) := dk_of ((dk_bind (dk_u1 (h 0 _ rfl))).trans rfl)
theorem dk_112 {code : ByteArray} {pc : Nat} (h : DkAt code pc [112]) : decode code pc = .ok (.irem, 1) := dk_of ((dk_bind (dk_u1 (h 0 _ rfl))).trans rfl)
theorem dk_120 {code : ByteArray} {pc : Nat} (h : DkAt code pc [120]) : decode code pc = .ok (.ishl, 1) := dk_of ((dk_bind (dk_u1 (h 0 _ rfl))).trans rfl)
theorem dk_122 {code : ByteArray} {pc : Nat} (h : DkAt code pc [122]) : decode code pc = .ok (.ishr, 1) := dk_of ((dk_bind (dk_u1 (h 0 _ rfl))).trans rfl)
theorem dk_124 {code : ByteArray} {pc : Nat} (h : DkAt code pc [124]) : decode code pc = .ok (.iushr, 1) := dk_of ((dk_bind (dk_u1 (h 0 _ rfl))).trans rfl)
theorem dk_126 {code : ByteArray} {pc : Nat} (h : DkAt code pc [126]) : decode code pc = .ok (.iand, 1) := dk_of ((dk_bind (dk_u1 (h 0 _ rfl))).trans rfl)
theorem dk_128 {code : ByteArray} {pc : Nat} (h : DkAt code pc [128]) : decode code pc = .ok (.ior, 1) := dk_of ((dk_bind (dk_u1 (h 0 _ rfl))).trans rfl)
theorem dk_130 {code : ByteArray} {pc : Nat} (h : DkAt code pc [130]) : decode code pc = .ok (.ixor, 1) := dk_of ((dk_bind (dk_u1 (h 0 _ rfl))).trans rfl)
theorem dk_132 {code : ByteArray} {pc : Nat} (a b : UInt8) (h : DkAt code pc [132, a, b]) : decode code pc = .ok (.iinc a.toNat (Reader.signed 8 b.toNat), 3) := dk_of ((dk_bind (dk_u1 (h 0 _ rfl))).trans ((dk_bind (dk_u1 (h 1 _ rfl))).trans ((dk_bind (dk_map (dk_u1 (h 2 _ rfl)))).trans rfl)))
theorem dk_133 {code : ByteArray} {pc : Nat} (h : DkAt code pc [133]) : decode code pc = .ok (.i2l, 1) := dk_of ((dk_bind (dk_u1 (h 0 _ rfl))).trans rfl)
theorem dk_145 {code : ByteArray} {pc : Nat} (h : DkAt code pc [145]) : decode code pc = .ok (.i2b, 1) := dk_of ((dk_bind (dk_u1 (h 0 _ rfl))).trans rfl)
theorem dk_146 {code : ByteArray} {pc : Nat} (h : DkAt code pc [146]) : decode code pc = .ok (.i2c, 1) := dk_of ((dk_bind (dk_u1 (h 0 _ rfl))).trans rfl)
theorem dk_147 {code : ByteArray} {pc : Nat} (h : DkAt code pc [147]) : decode code pc = .ok (.i2s, 1) := dk_of ((dk_bind (dk_u1 (h 0 _ rfl))).trans rfl)
theorem dk_148 {code : ByteArray} {pc : Nat} (h : DkAt code pc [148]) : decode code pc = .ok (.lcmp, 1) := dk_of ((dk_bind (dk_u1 (h 0 _ rfl))).trans rfl)
theorem dk_153 {code : ByteArray} {pc : Nat} (a b : UInt8) (h : DkAt code pc [153, a, b]) : decode code pc = .ok (.ifCond .eq (Reader.signed 16 (a.toNat * 256 + b.toNat)), 3) := dk_of ((dk_bind (dk_u1 (h 0 _ rfl))).trans ((dk_bind (dk_map (dk_u2 (h 1 _ rfl) (h 2 _ rfl)))).trans rfl))
theorem dk_154 {code : ByteArray} {pc : Nat} (a b : UInt8) (h : DkAt code pc [154, a, b]) : decode code pc = .ok (.ifCond .ne (Reader.signed 16 (a.toNat * 256 + b.toNat)), 3) := dk_of ((dk_bind (dk_u1 (h 0 _ rfl))).trans ((dk_bind (dk_map (dk_u2 (h 1 _ rfl) (h 2 _ rfl)))).trans rfl))
theorem dk_155 {code : ByteArray} {pc : Nat} (a b : UInt8) (h : DkAt code pc [155, a, b]) : decode code pc = .ok (.ifCond .lt (Reader.signed 16 (a.toNat * 256 + b.toNat)), 3) := dk_of ((dk_bind (dk_u1 (h 0 _ rfl))).trans ((dk_bind (dk_map (dk_u2 (h 1 _ rfl) (h 2 _ rfl)))).trans rfl))
theorem dk_156 {code : ByteArray} {pc : Nat} (a b : UInt8) (h : DkAt code pc [156, a, b]) : decode code pc = .ok (.ifCond .ge (Reader.signed 16 (a.toNat * 256 + b.toNat)), 3) := dk_of ((dk_bind (dk_u1 (h 0 _ rfl))).trans ((dk_bind (dk_map (dk_u2 (h 1 _ rfl) (h 2 _ rfl)))).trans rfl))
theorem dk_157 {code : ByteArray} {pc : Nat} (a b : UInt8) (h : DkAt code pc [157, a, b]) : decode code pc = .ok (.ifCond .gt (Reader.signed 16 (a.toNat * 256 + b.toNat)), 3) := dk_of ((dk_bind (dk_u1 (h 0 _ rfl))).trans ((dk_bind (dk_map (dk_u2 (h 1 _ rfl) (h 2 _ rfl)))).trans rfl))
theorem dk_158 {code : ByteArray} {pc : Nat} (a b : UInt8) (h : DkAt code pc [158, a, b]) : decode code pc = .ok (.ifCond .le (Reader.signed 16 (a.toNat * 256 + b.toNat)), 3) := dk_of ((dk_bind (dk_u1 (h 0 _ rfl))).trans ((dk_bind (dk_map (dk_u2 (h 1 _ rfl) (h 2 _ rfl)))).trans rfl))
theorem dk_159 {code : ByteArray} {pc : Nat} (a b : UInt8) (h : DkAt code pc [159, a, b]) : decode code pc = .ok (.if_icmp .eq (Reader.signed 16 (a.toNat * 256 + b.toNat)), 3) := dk_of ((dk_bind (dk_u1 (h 0 _ rfl))).trans ((dk_bind (dk_map (dk_u2 (h 1 _ rfl) (h 2 _ rfl)))).trans rfl))
theorem dk_160 {code : ByteArray} {pc : Nat} (a b : UInt8) (h : DkAt code pc [160, a, b]) : decode code pc = .ok (.if_icmp .ne (Reader.signed 16 (a.toNat * 256 + b.toNat)), 3) := dk_of ((dk_bind (dk_u1 (h 0 _ rfl))).trans ((dk_bind (dk_map (dk_u2 (h 1 _ rfl) (h 2 _ rfl)))).trans rfl))
theorem dk_161 {code : ByteArray} {pc : Nat} (a b : UInt8) (h : DkAt code pc [161, a, b]) : decode code pc = .ok (.if_icmp .lt (Reader.signed 16 (a.toNat * 256 + b.toNat)), 3) := dk_of ((dk_bind (dk_u1 (h 0 _ rfl))).trans ((dk_bind (dk_map (dk_u2 (h 1 _ rfl) (h 2 _ rfl)))).trans rfl))
theorem dk_162 {code : ByteArray} {pc : Nat} (a b : UInt8) (h : DkAt code pc [162, a, b]) : decode code pc = .ok (.if_icmp .ge (Reader.signed 16 (a.toNat * 256 + b.toNat)), 3) := dk_of ((dk_bind (dk_u1 (h 0 _ rfl))).trans ((dk_bind (dk_map (dk_u2 (h 1 _ rfl) (h 2 _ rfl)))).trans rfl))
theorem dk_163 {code : ByteArray} {pc : Nat} (a b : UInt8) (h : DkAt code pc [163, a, b]) : decode code pc = .ok (.if_icmp .gt (Reader.signed 16 (a.toNat * 256 + b.toNat)), 3) := dk_of ((dk_bind (dk_u1 (h 0 _ rfl))).trans ((dk_bind (dk_map (dk_u2 (h 1 _ rfl) (h 2 _ rfl)))).trans rfl))
theorem dk_164 {code : ByteArray} {pc : Nat} (a b : UInt8) (h : DkAt code pc [164, a, b]) : decode code pc = .ok (.if_icmp .le (Reader.signed 16 (a.toNat * 256 + b.toNat)), 3) := dk_of ((dk_bind (dk_u1 (h 0 _ rfl))).trans ((dk_bind (dk_map (dk_u2 (h 1 _ rfl) (h 2 _ rfl)))).trans rfl))
theorem dk_165 {code : ByteArray} {pc : Nat} (a b : UInt8) (h : DkAt code pc [165, a, b]) : decode code pc = .ok (.if_acmp .eq (Reader.signed 16 (a.toNat * 256 + b.toNat)), 3) := dk_of ((dk_bind (dk_u1 (h 0 _ rfl))).trans ((dk_bind (dk_map (dk_u2 (h 1 _ rfl) (h 2 _ rfl)))).trans rfl))
theorem dk_166 {code : ByteArray} {pc : Nat} (a b : UInt8) (h : DkAt code pc [166, a, b]) : decode code pc = .ok (.if_acmp .ne (Reader.signed 16 (a.toNat * 256 + b.toNat)), 3) := dk_of ((dk_bind (dk_u1 (h 0 _ rfl))).trans ((dk_bind (dk_map (dk_u2 (h 1 _ rfl) (h 2 _ rfl)))).trans rfl))
theorem dk_167 {code : ByteArray} {pc : Nat} (a b : UInt8) (h : DkAt code pc [167, a, b]) : decode code pc = .ok (.goto (Reader.signed 16 (a.toNat * 256 + b.toNat)), 3) := dk_of ((dk_bind (dk_u1 (h 0 _ rfl))).trans ((dk_bind (dk_map (dk_u2 (h 1 _ rfl) (h 2 _ rfl)))).trans rfl))
theorem dk_172 {code : ByteArray} {pc : Nat} (h : DkAt code pc [172]) : decode code pc = .ok (.ireturn, 1) := dk_of ((dk_bind (dk_u1 (h 0 _ rfl))).trans rfl)
theorem dk_173 {code : ByteArray} {pc : Nat} (h : DkAt code pc [173]) : decode code pc = .ok (.lreturn, 1) := dk_of ((dk_bind (dk_u1 (h 0 _ rfl))).trans rfl)
theorem dk_176 {code : ByteArray} {pc : Nat} (h : DkAt code pc [176]) : decode code pc = .ok (.areturn, 1) := dk_of ((dk_bind (dk_u1 (h 0 _ rfl))).trans rfl)
theorem dk_177 {code : ByteArray} {pc : Nat} (h : DkAt code pc [177]) : decode code pc = .ok (.return_, 1) := dk_of ((dk_bind (dk_u1 (h 0 _ rfl))).trans rfl)
theorem dk_178 {code : ByteArray} {pc : Nat} (a b : UInt8) (h : DkAt code pc [178, a, b]) : decode code pc = .ok (.getstatic (a.toNat * 256 + b.toNat), 3) := dk_of ((dk_bind (dk_u1 (h 0 _ rfl))).trans ((dk_bind (dk_u2 (h 1 _ rfl) (h 2 _ rfl))).trans rfl))
theorem dk_180 {code : ByteArray} {pc : Nat} (a b : UInt8) (h : DkAt code pc [180, a, b]) : decode code pc = .ok (.getfield (a.toNat * 256 + b.toNat), 3) := dk_of ((dk_bind (dk_u1 (h 0 _ rfl))).trans ((dk_bind (dk_u2 (h 1 _ rfl) (h 2 _ rfl))).trans rfl))
theorem dk_181 {code : ByteArray} {pc : Nat} (a b : UInt8) (h : DkAt code pc [181, a, b]) : decode code pc = .ok (.putfield (a.toNat * 256 + b.toNat), 3) := dk_of ((dk_bind (dk_u1 (h 0 _ rfl))).trans ((dk_bind (dk_u2 (h 1 _ rfl) (h 2 _ rfl))).trans rfl))
theorem dk_182 {code : ByteArray} {pc : Nat} (a b : UInt8) (h : DkAt code pc [182, a, b]) : decode code pc = .ok (.invokevirtual (a.toNat * 256 + b.toNat), 3) := dk_of ((dk_bind (dk_u1 (h 0 _ rfl))).trans ((dk_bind (dk_u2 (h 1 _ rfl) (h 2 _ rfl))).trans rfl))
theorem dk_183 {code : ByteArray} {pc : Nat} (a b : UInt8) (h : DkAt code pc [183, a, b]) : decode code pc = .ok (.invokespecial (a.toNat * 256 + b.toNat), 3) := dk_of ((dk_bind (dk_u1 (h 0 _ rfl))).trans ((dk_bind (dk_u2 (h 1 _ rfl) (h 2 _ rfl))).trans rfl))
theorem dk_184 {code : ByteArray} {pc : Nat} (a b : UInt8) (h : DkAt code pc [184, a, b]) : decode code pc = .ok (.invokestatic (a.toNat * 256 + b.toNat), 3) := dk_of ((dk_bind (dk_u1 (h 0 _ rfl))).trans ((dk_bind (dk_u2 (h 1 _ rfl) (h 2 _ rfl))).trans rfl))
theorem dk_187 {code : ByteArray} {pc : Nat} (a b : UInt8) (h : DkAt code pc [187, a, b]) : decode code pc = .ok (.new (a.toNat * 256 + b.toNat), 3) := dk_of ((dk_bind (dk_u1 (h 0 _ rfl))).trans ((dk_bind (dk_u2 (h 1 _ rfl) (h 2 _ rfl))).trans rfl))
theorem dk_188_4 {code : ByteArray} {pc : Nat} (h : DkAt code pc [188, 4]) : decode code pc = .ok (.newarray .boolean, 2) := dk_of ((dk_bind (dk_u1 (h 0 _ rfl))).trans ((dk_bind (dk_u1 (h 1 _ rfl))).trans rfl))
theorem dk_188_8 {code : ByteArray} {pc : Nat} (h : DkAt code pc [188, 8]) : decode code pc = .ok (.newarray .byte, 2) := dk_of ((dk_bind (dk_u1 (h 0 _ rfl))).trans ((dk_bind (dk_u1 (h 1 _ rfl))).trans rfl))
theorem dk_188_9 {code : ByteArray} {pc : Nat} (h : DkAt code pc [188, 9]) : decode code pc = .ok (.newarray .short, 2) := dk_of ((dk_bind (dk_u1 (h 0 _ rfl))).trans ((dk_bind (dk_u1 (h 1 _ rfl))).trans rfl))
theorem dk_188_10 {code : ByteArray} {pc : Nat} (h : DkAt code pc [188, 10]) : decode code pc = .ok (.newarray .int, 2) := dk_of ((dk_bind (dk_u1 (h 0 _ rfl))).trans ((dk_bind (dk_u1 (h 1 _ rfl))).trans rfl))
theorem dk_188_11 {code : ByteArray} {pc : Nat} (h : DkAt code pc [188, 11]) : decode code pc = .ok (.newarray .long, 2) := dk_of ((dk_bind (dk_u1 (h 0 _ rfl))).trans ((dk_bind (dk_u1 (h 1 _ rfl))).trans rfl))
theorem dk_189 {code : ByteArray} {pc : Nat} (a b : UInt8) (h : DkAt code pc [189, a, b]) : decode code pc = .ok (.anewarray (a.toNat * 256 + b.toNat), 3) := dk_of ((dk_bind (dk_u1 (h 0 _ rfl))).trans ((dk_bind (dk_u2 (h 1 _ rfl) (h 2 _ rfl))).trans rfl))
theorem dk_190 {code : ByteArray} {pc : Nat} (h : DkAt code pc [190]) : decode code pc = .ok (.arraylength, 1) := dk_of ((dk_bind (dk_u1 (h 0 _ rfl))).trans rfl)
theorem dk_191 {code : ByteArray} {pc : Nat} (h : DkAt code pc [191]) : decode code pc = .ok (.athrow, 1) := dk_of ((dk_bind (dk_u1 (h 0 _ rfl))).trans rfl)
theorem dk_192 {code : ByteArray} {pc : Nat} (a b : UInt8) (h : DkAt code pc [192, a, b]) : decode code pc = .ok (.checkcast (a.toNat * 256 + b.toNat), 3) := dk_of ((dk_bind (dk_u1 (h 0 _ rfl))).trans ((dk_bind (dk_u2 (h 1 _ rfl) (h 2 _ rfl))).trans rfl))
theorem dk_193 {code : ByteArray} {pc : Nat} (a b : UInt8) (h : DkAt code pc [193, a, b]) : decode code pc = .ok (.instanceof (a.toNat * 256 + b.toNat), 3) := dk_of ((dk_bind (dk_u1 (h 0 _ rfl))).trans ((dk_bind (dk_u2 (h 1 _ rfl) (h 2 _ rfl))).trans rfl))
theorem dk_199 {code : ByteArray} {pc : Nat} (a b : UInt8) (h : DkAt code pc [199, a, b]) : decode code pc = .ok (.ifnonnull (Reader.signed 16 (a.toNat * 256 + b.toNat)), 3) := dk_of ((dk_bind (dk_u1 (h 0 _ rfl))).trans ((dk_bind (dk_map (dk_u2 (h 1 _ rfl) (h 2 _ rfl)))).trans rfl))

/-! java/lang/Throwable -/
def RJ0 : String := "java/lang/Throwable"
def TJ0 : u_T := fun k => match k with
  | 0 => ("java/lang/Throwable", "cause", "Ljava/lang/Throwable;", false)
  | 1 => ("java/lang/Throwable", "stackTrace", "[Ljava/lang/StackTraceElement;", false)
  | 2 => ("java/lang/Throwable", "suppressedExceptions", "Ljava/util/List;", false)
  | 3 => ("java/lang/Throwable", "detailMessage", "Ljava/lang/String;", false)
  | _ => ("java/lang/Throwable", "backtrace", "Ljava/lang/Object;", false)
def tyJ0 : Nat → FieldType := fun k => match k with
  | 0 => .object "java/lang/Throwable"
  | 1 => .array (.object "java/lang/StackTraceElement")
  | 2 => .object "java/util/List"
  | 3 => .object "java/lang/String"
  | _ => .object "java/lang/Object"
abbrev wsJ00 : List Cond := u_ws RJ0 TJ0 5
theorem nmJ0 : ∀ a, a < 5 → ∀ b, b < 5 → a ≠ b → (TJ0 a).2.1 ≠ (TJ0 b).2.1 := by decide +kernel
theorem tyJ0_ok : ∀ k, k < 5 → parseFieldDescriptor (TJ0 k).2.2.1 = some (tyJ0 k) := by decide +kernel
abbrev cJ0_init : ByteArray := prog_35_method_1_code
def yJ0_init : MethodName := ⟨RJ0, "<init>", "()V"⟩
abbrev cJ0_init_2 : ByteArray := prog_35_method_5_code
def yJ0_init_2 : MethodName := ⟨RJ0, "<init>", "(Ljava/lang/String;Ljava/lang/Throwable;ZZ)V"⟩
theorem q135 : (Jvm.Cond.initialized "java/lang/Throwable") ∈ lw_all := lw_g (lw_at lw_m1 2 rfl) rfl
theorem q184 : (Jvm.Cond.declares ({ cls := "java/lang/Throwable", name := "<init>", desc := "()V" } : Jvm.MethodName)) ∈ lw_tbl := lw_at lw_m1 51 rfl
theorem q185 : (Jvm.Cond.declares ({ cls := "java/lang/Throwable", name := "<init>", desc := "(Ljava/lang/String;)V" } : Jvm.MethodName)) ∈ lw_tbl := lw_at lw_m1 52 rfl
theorem q189 : (Jvm.Cond.lays "java/lang/Throwable" "java/lang/Throwable" "cause" "Ljava/lang/Throwable;") ∈ lw_all := lw_g (lw_at lw_m1 56 rfl) rfl
theorem q191 : (Jvm.Cond.lays "java/lang/Throwable" "java/lang/Throwable" "stackTrace" "[Ljava/lang/StackTraceElement;") ∈ lw_all := lw_g (lw_at lw_m1 58 rfl) rfl
theorem q193 : (Jvm.Cond.lays "java/lang/Throwable" "java/lang/Throwable" "suppressedExceptions" "Ljava/util/List;") ∈ lw_all := lw_g (lw_at lw_m1 60 rfl) rfl
theorem q195 : (Jvm.Cond.lays "java/lang/Throwable" "java/lang/Throwable" "detailMessage" "Ljava/lang/String;") ∈ lw_all := lw_g (lw_at lw_m1 62 rfl) rfl
theorem q197 : (Jvm.Cond.lays "java/lang/Throwable" "java/lang/Throwable" "backtrace" "Ljava/lang/Object;") ∈ lw_all := lw_g (lw_at lw_m1 64 rfl) rfl
theorem q198 : (Jvm.Cond.fieldLink "java/lang/Throwable" (198 : Nat) "java/lang/Throwable" "backtrace" "Ljava/lang/Object;") ∈ lw_all := lw_g (lw_at lw_m1 65 rfl) rfl
theorem q199 : (Jvm.Cond.superclass "java/lang/Throwable" "java/lang/Object") ∈ lw_all := lw_g (lw_at lw_m1 66 rfl) rfl
theorem q200 : (Jvm.Cond.instanceMethod ({ cls := "java/lang/Throwable", name := "<init>", desc := "()V" } : Jvm.MethodName)) ∈ lw_all := lw_g (lw_at lw_m1 67 rfl) rfl
theorem q201 : (Jvm.Cond.code ({ cls := "java/lang/Throwable", name := "<init>", desc := "()V" } : Jvm.MethodName) prog_35_method_1_code (1 : Nat) (Option.none : Option Jvm.ClassFile.FieldType)) ∈ lw_all := lw_g (lw_at lw_m1 68 rfl) rfl
theorem q202 : (Jvm.Cond.methodLink "java/lang/Throwable" (1 : Nat) ({ cls := "java/lang/Object", name := "<init>", desc := "()V" } : Jvm.MethodName)) ∈ lw_all := lw_g (lw_at lw_m1 69 rfl) rfl
theorem q203 : (Jvm.Cond.fieldLink "java/lang/Throwable" (13 : Nat) "java/lang/Throwable" "UNASSIGNED_STACK" "[Ljava/lang/StackTraceElement;") ∈ lw_all := lw_g (lw_at lw_m1 70 rfl) rfl
theorem q204 : (Jvm.Cond.laysStatic "java/lang/Throwable" "UNASSIGNED_STACK" "[Ljava/lang/StackTraceElement;") ∈ lw_tbl := lw_at lw_m1 71 rfl
theorem q205 : (Jvm.Cond.fieldLink "java/lang/Throwable" (20 : Nat) "java/lang/Throwable" "SUPPRESSED_SENTINEL" "Ljava/util/List;") ∈ lw_all := lw_g (lw_at lw_m1 72 rfl) rfl
theorem q206 : (Jvm.Cond.laysStatic "java/lang/Throwable" "SUPPRESSED_SENTINEL" "Ljava/util/List;") ∈ lw_tbl := lw_at lw_m1 73 rfl
theorem q207 : (Jvm.Cond.methodLink "java/lang/Throwable" (27 : Nat) ({ cls := "java/lang/Throwable", name := "fillInStackTrace", desc := "()Ljava/lang/Throwable;" } : Jvm.MethodName)) ∈ lw_all := lw_g (lw_at lw_m1 74 rfl) rfl
theorem q208 : (Jvm.Cond.instanceMethod ({ cls := "java/lang/Throwable", name := "fillInStackTrace", desc := "()Ljava/lang/Throwable;" } : Jvm.MethodName)) ∈ lw_all := lw_g (lw_at lw_m1 75 rfl) rfl
theorem q209 : (Jvm.Cond.sameMethod "java/lang/Throwable" "java/lang/Throwable" "fillInStackTrace" "()Ljava/lang/Throwable;") ∈ lw_all := lw_g (lw_at lw_m1 76 rfl) rfl
theorem q210 : (Jvm.Cond.codeSync ({ cls := "java/lang/Throwable", name := "fillInStackTrace", desc := "()Ljava/lang/Throwable;" } : Jvm.MethodName) prog_35_method_18_code (1 : Nat) (Option.some (Jvm.ClassFile.FieldType.object "java/lang/Throwable"))) ∈ lw_all := lw_g (lw_at lw_m1 77 rfl) rfl
theorem q211 : (Jvm.Cond.methodLink "java/lang/Throwable" (202 : Nat) ({ cls := "java/lang/Throwable", name := "fillInStackTrace", desc := "(I)Ljava/lang/Throwable;" } : Jvm.MethodName)) ∈ lw_all := lw_g (lw_at lw_m1 78 rfl) rfl
theorem q212 : (Jvm.Cond.privateMethod ({ cls := "java/lang/Throwable", name := "fillInStackTrace", desc := "(I)Ljava/lang/Throwable;" } : Jvm.MethodName)) ∈ lw_tbl := lw_at lw_m1 79 rfl
theorem q213 : (Jvm.Cond.instanceMethod ({ cls := "java/lang/Throwable", name := "fillInStackTrace", desc := "(I)Ljava/lang/Throwable;" } : Jvm.MethodName)) ∈ lw_all := lw_g (lw_at lw_m1 80 rfl) rfl
theorem q214 : (Jvm.Cond.instantiable "java/lang/Throwable" (6 : Nat)) ∈ lw_all := lw_g (lw_at lw_m1 81 rfl) rfl
theorem q215 : (Jvm.Cond.native ({ cls := "java/lang/Throwable", name := "fillInStackTrace", desc := "(I)Ljava/lang/Throwable;" } : Jvm.MethodName)) ∈ lw_all := lw_g (lw_at lw_m1 82 rfl) rfl
theorem q227 : (Jvm.Cond.instanceMethod ({ cls := "java/lang/Throwable", name := "<init>", desc := "(Ljava/lang/String;Ljava/lang/Throwable;ZZ)V" } : Jvm.MethodName)) ∈ lw_all := lw_g (lw_at lw_m1 94 rfl) rfl
theorem q228 : (Jvm.Cond.code ({ cls := "java/lang/Throwable", name := "<init>", desc := "(Ljava/lang/String;Ljava/lang/Throwable;ZZ)V" } : Jvm.MethodName) prog_35_method_5_code (5 : Nat) (Option.none : Option Jvm.ClassFile.FieldType)) ∈ lw_all := lw_g (lw_at lw_m1 95 rfl) rfl
theorem q233 : (Jvm.Cond.fieldLink "java/lang/Throwable" (198 : Nat) "java/lang/Throwable" "backtrace" "Ljava/lang/Object;") ∈ lw_all := lw_g (lw_at lw_m1 100 rfl) rfl
theorem q234 : (Jvm.Cond.fieldLink "java/lang/Throwable" (31 : Nat) "java/lang/Throwable" "detailMessage" "Ljava/lang/String;") ∈ lw_all := lw_g (lw_at lw_m1 101 rfl) rfl
theorem q235 : (Jvm.Cond.fieldLink "java/lang/Throwable" (7 : Nat) "java/lang/Throwable" "cause" "Ljava/lang/Throwable;") ∈ lw_all := lw_g (lw_at lw_m1 102 rfl) rfl
theorem q236 : (Jvm.Cond.fieldLink "java/lang/Throwable" (17 : Nat) "java/lang/Throwable" "stackTrace" "[Ljava/lang/StackTraceElement;") ∈ lw_all := lw_g (lw_at lw_m1 103 rfl) rfl
theorem q237 : (Jvm.Cond.fieldLink "java/lang/Throwable" (24 : Nat) "java/lang/Throwable" "suppressedExceptions" "Ljava/util/List;") ∈ lw_all := lw_g (lw_at lw_m1 104 rfl) rfl
theorem q242 : (Jvm.Cond.soleField "java/lang/Throwable" "backtrace") ∈ lw_all := lw_g (lw_at lw_m1 109 rfl) rfl
theorem q243 : (Jvm.Cond.soleField "java/lang/Throwable" "detailMessage") ∈ lw_all := lw_g (lw_at lw_m1 110 rfl) rfl
theorem q244 : (Jvm.Cond.soleField "java/lang/Throwable" "cause") ∈ lw_all := lw_g (lw_at lw_m1 111 rfl) rfl
theorem q245 : (Jvm.Cond.soleField "java/lang/Throwable" "stackTrace") ∈ lw_all := lw_g (lw_at lw_m1 112 rfl) rfl
theorem q247 : (Jvm.Cond.soleField "java/lang/Throwable" "depth") ∈ lw_all := lw_g (lw_at lw_m1 114 rfl) rfl
theorem q248 : (Jvm.Cond.soleField "java/lang/Throwable" "suppressedExceptions") ∈ lw_all := lw_g (lw_at lw_m1 115 rfl) rfl
theorem q2219 : (Jvm.Cond.sameMethod "java/lang/Throwable" "java/lang/Throwable" "fillInStackTrace" "(I)Ljava/lang/Throwable;") ∈ lw_all := lw_g (lw_at lw_m9 166 rfl) rfl
theorem q2244 : (Jvm.Cond.castable "java/lang/Throwable" "java/lang/Object") ∈ lw_tbl := lw_at lw_m9 191 rfl
theorem in_J0 : ∀ w ∈ wsJ00, w ∈ lw_all := lw_in wsJ00 [189, 191, 193, 195, 197] (by decide +kernel) (by decide +kernel)

/-! java/lang/Exception -/
def RJ1 : String := "java/lang/Exception"
abbrev cJ1_init : ByteArray := prog_25_method_5_code
def yJ1_init : MethodName := ⟨RJ1, "<init>", "(Ljava/lang/String;Ljava/lang/Throwable;ZZ)V"⟩
theorem q136 : (Jvm.Cond.initialized "java/lang/Exception") ∈ lw_all := lw_g (lw_at lw_m1 3 rfl) rfl
theorem q182 : (Jvm.Cond.declares ({ cls := "java/lang/Exception", name := "<init>", desc := "()V" } : Jvm.MethodName)) ∈ lw_tbl := lw_at lw_m1 49 rfl
theorem q183 : (Jvm.Cond.declares ({ cls := "java/lang/Exception", name := "<init>", desc := "(Ljava/lang/String;)V" } : Jvm.MethodName)) ∈ lw_tbl := lw_at lw_m1 50 rfl
theorem q224 : (Jvm.Cond.instanceMethod ({ cls := "java/lang/Exception", name := "<init>", desc := "(Ljava/lang/String;Ljava/lang/Throwable;ZZ)V" } : Jvm.MethodName)) ∈ lw_all := lw_g (lw_at lw_m1 91 rfl) rfl
theorem q225 : (Jvm.Cond.code ({ cls := "java/lang/Exception", name := "<init>", desc := "(Ljava/lang/String;Ljava/lang/Throwable;ZZ)V" } : Jvm.MethodName) prog_25_method_5_code (5 : Nat) (Option.none : Option Jvm.ClassFile.FieldType)) ∈ lw_all := lw_g (lw_at lw_m1 92 rfl) rfl
theorem q226 : (Jvm.Cond.methodLink "java/lang/Exception" (16 : Nat) ({ cls := "java/lang/Throwable", name := "<init>", desc := "(Ljava/lang/String;Ljava/lang/Throwable;ZZ)V" } : Jvm.MethodName)) ∈ lw_all := lw_g (lw_at lw_m1 93 rfl) rfl

/-! java/lang/StringUTF16 -/
def RJ10 : String := "java/lang/StringUTF16"
abbrev cJ10_charAt : ByteArray := prog_33_method_83_code
def yJ10_charAt : MethodName := ⟨RJ10, "charAt", "([BI)C"⟩
abbrev cJ10_checkIndex : ByteArray := prog_33_method_91_code
def yJ10_checkIndex : MethodName := ⟨RJ10, "checkIndex", "(I[B)V"⟩
abbrev cJ10_length : ByteArray := prog_33_method_6_code
def yJ10_length : MethodName := ⟨RJ10, "length", "([B)I"⟩
abbrev cJ10_getChar : ByteArray := prog_33_method_5_code
def yJ10_getChar : MethodName := ⟨RJ10, "getChar", "([BI)C"⟩
abbrev cJ10_newBytesFor : ByteArray := prog_33_method_2_code
def yJ10_newBytesFor : MethodName := ⟨RJ10, "newBytesFor", "(I)[B"⟩
abbrev cJ10_newBytesLength : ByteArray := prog_33_method_3_code
def yJ10_newBytesLength : MethodName := ⟨RJ10, "newBytesLength", "(I)I"⟩
abbrev cJ10_inflate : ByteArray := prog_33_method_86_code
def yJ10_inflate : MethodName := ⟨RJ10, "inflate", "([BI[BII)V"⟩
abbrev cJ10_checkBoundsOffCount : ByteArray := prog_33_method_94_code
def yJ10_checkBoundsOffCount : MethodName := ⟨RJ10, "checkBoundsOffCount", "(II[B)V"⟩
abbrev cJ10_putChar : ByteArray := prog_33_method_4_code
def yJ10_putChar : MethodName := ⟨RJ10, "putChar", "([BII)V"⟩
abbrev cJ10_putCharSB : ByteArray := prog_33_method_71_code
def yJ10_putCharSB : MethodName := ⟨RJ10, "putCharSB", "([BII)V"⟩
abbrev cJ10_compress : ByteArray := prog_33_method_17_code
def yJ10_compress : MethodName := ⟨RJ10, "compress", "([BII)[B"⟩
abbrev cJ10_compress_2 : ByteArray := prog_33_method_22_code
def yJ10_compress_2 : MethodName := ⟨RJ10, "compress", "([BI[BII)I"⟩
abbrev cJ10_coderFromArrayLen : ByteArray := prog_33_method_15_code
def yJ10_coderFromArrayLen : MethodName := ⟨RJ10, "coderFromArrayLen", "([BI)B"⟩
theorem q155 : (Jvm.Cond.initialized "java/lang/StringUTF16") ∈ lw_all := lw_g (lw_at lw_m1 22 rfl) rfl
theorem q676 : (Jvm.Cond.static ({ cls := "java/lang/StringUTF16", name := "charAt", desc := "([BI)C" } : Jvm.MethodName)) ∈ lw_all := lw_g (lw_at lw_m3 63 rfl) rfl
theorem q677 : (Jvm.Cond.code ({ cls := "java/lang/StringUTF16", name := "charAt", desc := "([BI)C" } : Jvm.MethodName) prog_33_method_83_code (2 : Nat) (Option.some Jvm.ClassFile.FieldType.char)) ∈ lw_all := lw_g (lw_at lw_m3 64 rfl) rfl
theorem q678 : (Jvm.Cond.methodLink "java/lang/StringUTF16" (67 : Nat) ({ cls := "java/lang/StringUTF16", name := "checkIndex", desc := "(I[B)V" } : Jvm.MethodName)) ∈ lw_all := lw_g (lw_at lw_m3 65 rfl) rfl
theorem q679 : (Jvm.Cond.static ({ cls := "java/lang/StringUTF16", name := "checkIndex", desc := "(I[B)V" } : Jvm.MethodName)) ∈ lw_all := lw_g (lw_at lw_m3 66 rfl) rfl
theorem q680 : (Jvm.Cond.code ({ cls := "java/lang/StringUTF16", name := "checkIndex", desc := "(I[B)V" } : Jvm.MethodName) prog_33_method_91_code (2 : Nat) (Option.none : Option Jvm.ClassFile.FieldType)) ∈ lw_all := lw_g (lw_at lw_m3 67 rfl) rfl
theorem q681 : (Jvm.Cond.methodLink "java/lang/StringUTF16" (48 : Nat) ({ cls := "java/lang/StringUTF16", name := "length", desc := "([B)I" } : Jvm.MethodName)) ∈ lw_all := lw_g (lw_at lw_m3 68 rfl) rfl
theorem q682 : (Jvm.Cond.static ({ cls := "java/lang/StringUTF16", name := "length", desc := "([B)I" } : Jvm.MethodName)) ∈ lw_all := lw_g (lw_at lw_m3 69 rfl) rfl
theorem q683 : (Jvm.Cond.code ({ cls := "java/lang/StringUTF16", name := "length", desc := "([B)I" } : Jvm.MethodName) prog_33_method_6_code (1 : Nat) (Option.some Jvm.ClassFile.FieldType.int)) ∈ lw_all := lw_g (lw_at lw_m3 70 rfl) rfl
theorem q684 : (Jvm.Cond.methodLink "java/lang/StringUTF16" (414 : Nat) ({ cls := "java/lang/String", name := "checkIndex", desc := "(II)V" } : Jvm.MethodName)) ∈ lw_all := lw_g (lw_at lw_m3 71 rfl) rfl
theorem q685 : (Jvm.Cond.methodLink "java/lang/StringUTF16" (71 : Nat) ({ cls := "java/lang/StringUTF16", name := "getChar", desc := "([BI)C" } : Jvm.MethodName)) ∈ lw_all := lw_g (lw_at lw_m3 72 rfl) rfl
theorem q686 : (Jvm.Cond.static ({ cls := "java/lang/StringUTF16", name := "getChar", desc := "([BI)C" } : Jvm.MethodName)) ∈ lw_all := lw_g (lw_at lw_m3 73 rfl) rfl
theorem q687 : (Jvm.Cond.code ({ cls := "java/lang/StringUTF16", name := "getChar", desc := "([BI)C" } : Jvm.MethodName) prog_33_method_5_code (2 : Nat) (Option.some Jvm.ClassFile.FieldType.char)) ∈ lw_all := lw_g (lw_at lw_m3 74 rfl) rfl
theorem q688 : (Jvm.Cond.fieldLink "java/lang/StringUTF16" (44 : Nat) "java/lang/StringUTF16" "$assertionsDisabled" "Z") ∈ lw_all := lw_g (lw_at lw_m3 75 rfl) rfl
theorem q689 : (Jvm.Cond.laysStatic "java/lang/StringUTF16" "$assertionsDisabled" "Z") ∈ lw_tbl := lw_at lw_m3 76 rfl
theorem q690 : (Jvm.Cond.fieldLink "java/lang/StringUTF16" (59 : Nat) "java/lang/StringUTF16" "HI_BYTE_SHIFT" "I") ∈ lw_all := lw_g (lw_at lw_m3 77 rfl) rfl
theorem q691 : (Jvm.Cond.laysStatic "java/lang/StringUTF16" "HI_BYTE_SHIFT" "I") ∈ lw_tbl := lw_at lw_m3 78 rfl
theorem q692 : (Jvm.Cond.fieldLink "java/lang/StringUTF16" (63 : Nat) "java/lang/StringUTF16" "LO_BYTE_SHIFT" "I") ∈ lw_all := lw_g (lw_at lw_m3 79 rfl) rfl
theorem q693 : (Jvm.Cond.laysStatic "java/lang/StringUTF16" "LO_BYTE_SHIFT" "I") ∈ lw_tbl := lw_at lw_m3 80 rfl
theorem q862 : (Jvm.Cond.static ({ cls := "java/lang/StringUTF16", name := "newBytesFor", desc := "(I)[B" } : Jvm.MethodName)) ∈ lw_all := lw_g (lw_at lw_m4 9 rfl) rfl
theorem q863 : (Jvm.Cond.code ({ cls := "java/lang/StringUTF16", name := "newBytesFor", desc := "(I)[B" } : Jvm.MethodName) prog_33_method_2_code (1 : Nat) (Option.some (Jvm.ClassFile.FieldType.array Jvm.ClassFile.FieldType.byte))) ∈ lw_all := lw_g (lw_at lw_m4 10 rfl) rfl
theorem q864 : (Jvm.Cond.methodLink "java/lang/StringUTF16" (11 : Nat) ({ cls := "java/lang/StringUTF16", name := "newBytesLength", desc := "(I)I" } : Jvm.MethodName)) ∈ lw_all := lw_g (lw_at lw_m4 11 rfl) rfl
theorem q865 : (Jvm.Cond.static ({ cls := "java/lang/StringUTF16", name := "newBytesLength", desc := "(I)I" } : Jvm.MethodName)) ∈ lw_all := lw_g (lw_at lw_m4 12 rfl) rfl
theorem q866 : (Jvm.Cond.code ({ cls := "java/lang/StringUTF16", name := "newBytesLength", desc := "(I)I" } : Jvm.MethodName) prog_33_method_3_code (1 : Nat) (Option.some Jvm.ClassFile.FieldType.int)) ∈ lw_all := lw_g (lw_at lw_m4 13 rfl) rfl
theorem q867 : (Jvm.Cond.constant "java/lang/StringUTF16" (20 : Nat) (1073741823 : Int32)) ∈ lw_all := lw_g (lw_at lw_m4 14 rfl) rfl
theorem q939 : (Jvm.Cond.static ({ cls := "java/lang/StringUTF16", name := "inflate", desc := "([BI[BII)V" } : Jvm.MethodName)) ∈ lw_all := lw_g (lw_at lw_m4 86 rfl) rfl
theorem q940 : (Jvm.Cond.code ({ cls := "java/lang/StringUTF16", name := "inflate", desc := "([BI[BII)V" } : Jvm.MethodName) prog_33_method_86_code (6 : Nat) (Option.none : Option Jvm.ClassFile.FieldType)) ∈ lw_all := lw_g (lw_at lw_m4 87 rfl) rfl
theorem q941 : (Jvm.Cond.methodLink "java/lang/StringUTF16" (173 : Nat) ({ cls := "java/lang/StringUTF16", name := "checkBoundsOffCount", desc := "(II[B)V" } : Jvm.MethodName)) ∈ lw_all := lw_g (lw_at lw_m4 88 rfl) rfl
theorem q942 : (Jvm.Cond.static ({ cls := "java/lang/StringUTF16", name := "checkBoundsOffCount", desc := "(II[B)V" } : Jvm.MethodName)) ∈ lw_all := lw_g (lw_at lw_m4 89 rfl) rfl
theorem q943 : (Jvm.Cond.code ({ cls := "java/lang/StringUTF16", name := "checkBoundsOffCount", desc := "(II[B)V" } : Jvm.MethodName) prog_33_method_94_code (3 : Nat) (Option.none : Option Jvm.ClassFile.FieldType)) ∈ lw_all := lw_g (lw_at lw_m4 90 rfl) rfl
theorem q944 : (Jvm.Cond.methodLink "java/lang/StringUTF16" (419 : Nat) ({ cls := "java/lang/String", name := "checkBoundsOffCount", desc := "(III)I" } : Jvm.MethodName)) ∈ lw_all := lw_g (lw_at lw_m4 91 rfl) rfl
theorem q950 : (Jvm.Cond.methodLink "java/lang/StringUTF16" (111 : Nat) ({ cls := "java/lang/StringUTF16", name := "putChar", desc := "([BII)V" } : Jvm.MethodName)) ∈ lw_all := lw_g (lw_at lw_m4 97 rfl) rfl
theorem q951 : (Jvm.Cond.static ({ cls := "java/lang/StringUTF16", name := "putChar", desc := "([BII)V" } : Jvm.MethodName)) ∈ lw_all := lw_g (lw_at lw_m4 98 rfl) rfl
theorem q952 : (Jvm.Cond.code ({ cls := "java/lang/StringUTF16", name := "putChar", desc := "([BII)V" } : Jvm.MethodName) prog_33_method_4_code (3 : Nat) (Option.none : Option Jvm.ClassFile.FieldType)) ∈ lw_all := lw_g (lw_at lw_m4 99 rfl) rfl
theorem q954 : (Jvm.Cond.static ({ cls := "java/lang/StringUTF16", name := "putCharSB", desc := "([BII)V" } : Jvm.MethodName)) ∈ lw_all := lw_g (lw_at lw_m4 101 rfl) rfl
theorem q955 : (Jvm.Cond.code ({ cls := "java/lang/StringUTF16", name := "putCharSB", desc := "([BII)V" } : Jvm.MethodName) prog_33_method_71_code (3 : Nat) (Option.none : Option Jvm.ClassFile.FieldType)) ∈ lw_all := lw_g (lw_at lw_m4 102 rfl) rfl
theorem q993 : (Jvm.Cond.static ({ cls := "java/lang/StringUTF16", name := "compress", desc := "([BII)[B" } : Jvm.MethodName)) ∈ lw_all := lw_g (lw_at lw_m4 140 rfl) rfl
theorem q994 : (Jvm.Cond.code ({ cls := "java/lang/StringUTF16", name := "compress", desc := "([BII)[B" } : Jvm.MethodName) prog_33_method_17_code (6 : Nat) (Option.some (Jvm.ClassFile.FieldType.array Jvm.ClassFile.FieldType.byte))) ∈ lw_all := lw_g (lw_at lw_m4 141 rfl) rfl
theorem q995 : (Jvm.Cond.methodLink "java/lang/StringUTF16" (123 : Nat) ({ cls := "java/lang/StringUTF16", name := "compress", desc := "([BI[BII)I" } : Jvm.MethodName)) ∈ lw_all := lw_g (lw_at lw_m4 142 rfl) rfl
theorem q996 : (Jvm.Cond.static ({ cls := "java/lang/StringUTF16", name := "compress", desc := "([BI[BII)I" } : Jvm.MethodName)) ∈ lw_all := lw_g (lw_at lw_m4 143 rfl) rfl
theorem q997 : (Jvm.Cond.code ({ cls := "java/lang/StringUTF16", name := "compress", desc := "([BI[BII)I" } : Jvm.MethodName) prog_33_method_22_code (7 : Nat) (Option.some Jvm.ClassFile.FieldType.int)) ∈ lw_all := lw_g (lw_at lw_m4 144 rfl) rfl
theorem q998 : (Jvm.Cond.methodLink "java/lang/StringUTF16" (126 : Nat) ({ cls := "java/util/Arrays", name := "copyOfRange", desc := "([BII)[B" } : Jvm.MethodName)) ∈ lw_all := lw_g (lw_at lw_m4 145 rfl) rfl
theorem q1000 : (Jvm.Cond.static ({ cls := "java/lang/StringUTF16", name := "coderFromArrayLen", desc := "([BI)B" } : Jvm.MethodName)) ∈ lw_all := lw_g (lw_at lw_m4 147 rfl) rfl
theorem q1001 : (Jvm.Cond.code ({ cls := "java/lang/StringUTF16", name := "coderFromArrayLen", desc := "([BI)B" } : Jvm.MethodName) prog_33_method_15_code (2 : Nat) (Option.some Jvm.ClassFile.FieldType.byte)) ∈ lw_all := lw_g (lw_at lw_m4 148 rfl) rfl

/-! java/lang/AbstractStringBuilder -/
def RJ11 : String := "java/lang/AbstractStringBuilder"
abbrev cJ11_init : ByteArray := prog_20_method_2_code
def yJ11_init : MethodName := ⟨RJ11, "<init>", "(I)V"⟩
abbrev cJ11_append : ByteArray := prog_20_method_31_code
def yJ11_append : MethodName := ⟨RJ11, "append", "(C)Ljava/lang/AbstractStringBuilder;"⟩
abbrev cJ11_ensureCapacityInternal : ByteArray := prog_20_method_9_code
def yJ11_ensureCapacityInternal : MethodName := ⟨RJ11, "ensureCapacityInternal", "(I)V"⟩
abbrev cJ11_newCapacity : ByteArray := prog_20_method_10_code
def yJ11_newCapacity : MethodName := ⟨RJ11, "newCapacity", "(I)I"⟩
abbrev cJ11_isLatin1 : ByteArray := prog_20_method_68_code
def yJ11_isLatin1 : MethodName := ⟨RJ11, "isLatin1", "()Z"⟩
abbrev cJ11_inflate : ByteArray := prog_20_method_11_code
def yJ11_inflate : MethodName := ⟨RJ11, "inflate", "()V"⟩
abbrev cJ11_getValue : ByteArray := prog_20_method_64_code
def yJ11_getValue : MethodName := ⟨RJ11, "getValue", "()[B"⟩
abbrev cJ11_length : ByteArray := prog_20_method_6_code
def yJ11_length : MethodName := ⟨RJ11, "length", "()I"⟩
theorem q162 : (Jvm.Cond.initialized "java/lang/AbstractStringBuilder") ∈ lw_all := lw_g (lw_at lw_m1 29 rfl) rfl
theorem q857 : (Jvm.Cond.instanceMethod ({ cls := "java/lang/AbstractStringBuilder", name := "<init>", desc := "(I)V" } : Jvm.MethodName)) ∈ lw_all := lw_g (lw_at lw_m4 4 rfl) rfl
theorem q858 : (Jvm.Cond.code ({ cls := "java/lang/AbstractStringBuilder", name := "<init>", desc := "(I)V" } : Jvm.MethodName) prog_20_method_2_code (2 : Nat) (Option.none : Option Jvm.ClassFile.FieldType)) ∈ lw_all := lw_g (lw_at lw_m4 5 rfl) rfl
theorem q859 : (Jvm.Cond.methodLink "java/lang/AbstractStringBuilder" (3 : Nat) ({ cls := "java/lang/Object", name := "<init>", desc := "()V" } : Jvm.MethodName)) ∈ lw_all := lw_g (lw_at lw_m4 6 rfl) rfl
theorem q860 : (Jvm.Cond.fieldLink "java/lang/AbstractStringBuilder" (18 : Nat) "java/lang/String" "COMPACT_STRINGS" "Z") ∈ lw_all := lw_g (lw_at lw_m4 7 rfl) rfl
theorem q861 : (Jvm.Cond.methodLink "java/lang/AbstractStringBuilder" (26 : Nat) ({ cls := "java/lang/StringUTF16", name := "newBytesFor", desc := "(I)[B" } : Jvm.MethodName)) ∈ lw_all := lw_g (lw_at lw_m4 8 rfl) rfl
theorem q868 : (Jvm.Cond.fieldLink "java/lang/AbstractStringBuilder" (15 : Nat) "java/lang/AbstractStringBuilder" "value" "[B") ∈ lw_all := lw_g (lw_at lw_m4 15 rfl) rfl
theorem q869 : (Jvm.Cond.fieldLink "java/lang/AbstractStringBuilder" (22 : Nat) "java/lang/AbstractStringBuilder" "coder" "B") ∈ lw_all := lw_g (lw_at lw_m4 16 rfl) rfl
theorem q871 : (Jvm.Cond.fieldLink "java/lang/AbstractStringBuilder" (79 : Nat) "java/lang/AbstractStringBuilder" "count" "I") ∈ lw_all := lw_g (lw_at lw_m4 18 rfl) rfl
theorem q873 : (Jvm.Cond.soleField "java/lang/AbstractStringBuilder" "value") ∈ lw_all := lw_g (lw_at lw_m4 20 rfl) rfl
theorem q875 : (Jvm.Cond.soleField "java/lang/AbstractStringBuilder" "coder") ∈ lw_all := lw_g (lw_at lw_m4 22 rfl) rfl
theorem q877 : (Jvm.Cond.soleField "java/lang/AbstractStringBuilder" "maybeLatin1") ∈ lw_all := lw_g (lw_at lw_m4 24 rfl) rfl
theorem q879 : (Jvm.Cond.soleField "java/lang/AbstractStringBuilder" "count") ∈ lw_all := lw_g (lw_at lw_m4 26 rfl) rfl
theorem q886 : (Jvm.Cond.instanceMethod ({ cls := "java/lang/AbstractStringBuilder", name := "append", desc := "(C)Ljava/lang/AbstractStringBuilder;" } : Jvm.MethodName)) ∈ lw_all := lw_g (lw_at lw_m4 33 rfl) rfl
theorem q887 : (Jvm.Cond.code ({ cls := "java/lang/AbstractStringBuilder", name := "append", desc := "(C)Ljava/lang/AbstractStringBuilder;" } : Jvm.MethodName) prog_20_method_31_code (2 : Nat) (Option.some (Jvm.ClassFile.FieldType.object "java/lang/AbstractStringBuilder"))) ∈ lw_all := lw_g (lw_at lw_m4 34 rfl) rfl
theorem q888 : (Jvm.Cond.methodLink "java/lang/AbstractStringBuilder" (100 : Nat) ({ cls := "java/lang/AbstractStringBuilder", name := "ensureCapacityInternal", desc := "(I)V" } : Jvm.MethodName)) ∈ lw_all := lw_g (lw_at lw_m4 35 rfl) rfl
theorem q889 : (Jvm.Cond.privateMethod ({ cls := "java/lang/AbstractStringBuilder", name := "ensureCapacityInternal", desc := "(I)V" } : Jvm.MethodName)) ∈ lw_tbl := lw_at lw_m4 36 rfl
theorem q890 : (Jvm.Cond.instanceMethod ({ cls := "java/lang/AbstractStringBuilder", name := "ensureCapacityInternal", desc := "(I)V" } : Jvm.MethodName)) ∈ lw_all := lw_g (lw_at lw_m4 37 rfl) rfl
theorem q891 : (Jvm.Cond.code ({ cls := "java/lang/AbstractStringBuilder", name := "ensureCapacityInternal", desc := "(I)V" } : Jvm.MethodName) prog_20_method_9_code (3 : Nat) (Option.none : Option Jvm.ClassFile.FieldType)) ∈ lw_all := lw_g (lw_at lw_m4 38 rfl) rfl
theorem q892 : (Jvm.Cond.methodLink "java/lang/AbstractStringBuilder" (104 : Nat) ({ cls := "java/lang/AbstractStringBuilder", name := "newCapacity", desc := "(I)I" } : Jvm.MethodName)) ∈ lw_all := lw_g (lw_at lw_m4 39 rfl) rfl
theorem q893 : (Jvm.Cond.privateMethod ({ cls := "java/lang/AbstractStringBuilder", name := "newCapacity", desc := "(I)I" } : Jvm.MethodName)) ∈ lw_tbl := lw_at lw_m4 40 rfl
theorem q894 : (Jvm.Cond.instanceMethod ({ cls := "java/lang/AbstractStringBuilder", name := "newCapacity", desc := "(I)I" } : Jvm.MethodName)) ∈ lw_all := lw_g (lw_at lw_m4 41 rfl) rfl
theorem q895 : (Jvm.Cond.code ({ cls := "java/lang/AbstractStringBuilder", name := "newCapacity", desc := "(I)I" } : Jvm.MethodName) prog_20_method_10_code (6 : Nat) (Option.some Jvm.ClassFile.FieldType.int)) ∈ lw_all := lw_g (lw_at lw_m4 42 rfl) rfl
theorem q896 : (Jvm.Cond.methodLink "java/lang/AbstractStringBuilder" (114 : Nat) ({ cls := "jdk/internal/util/ArraysSupport", name := "newLength", desc := "(III)I" } : Jvm.MethodName)) ∈ lw_all := lw_g (lw_at lw_m4 43 rfl) rfl
theorem q906 : (Jvm.Cond.constant "java/lang/AbstractStringBuilder" (39 : Nat) (2147483647 : Int32)) ∈ lw_all := lw_g (lw_at lw_m4 53 rfl) rfl
theorem q907 : (Jvm.Cond.methodLink "java/lang/AbstractStringBuilder" (108 : Nat) ({ cls := "java/util/Arrays", name := "copyOf", desc := "([BI)[B" } : Jvm.MethodName)) ∈ lw_all := lw_g (lw_at lw_m4 54 rfl) rfl
theorem q923 : (Jvm.Cond.methodLink "java/lang/AbstractStringBuilder" (83 : Nat) ({ cls := "java/lang/AbstractStringBuilder", name := "isLatin1", desc := "()Z" } : Jvm.MethodName)) ∈ lw_all := lw_g (lw_at lw_m4 70 rfl) rfl
theorem q924 : (Jvm.Cond.instanceMethod ({ cls := "java/lang/AbstractStringBuilder", name := "isLatin1", desc := "()Z" } : Jvm.MethodName)) ∈ lw_all := lw_g (lw_at lw_m4 71 rfl) rfl
theorem q925 : (Jvm.Cond.sameMethod "java/lang/AbstractStringBuilder" "java/lang/AbstractStringBuilder" "isLatin1" "()Z") ∈ lw_all := lw_g (lw_at lw_m4 72 rfl) rfl
theorem q927 : (Jvm.Cond.code ({ cls := "java/lang/AbstractStringBuilder", name := "isLatin1", desc := "()Z" } : Jvm.MethodName) prog_20_method_68_code (1 : Nat) (Option.some Jvm.ClassFile.FieldType.boolean)) ∈ lw_all := lw_g (lw_at lw_m4 74 rfl) rfl
theorem q928 : (Jvm.Cond.methodLink "java/lang/AbstractStringBuilder" (191 : Nat) ({ cls := "java/lang/StringLatin1", name := "canEncode", desc := "(C)Z" } : Jvm.MethodName)) ∈ lw_all := lw_g (lw_at lw_m4 75 rfl) rfl
theorem q931 : (Jvm.Cond.methodLink "java/lang/AbstractStringBuilder" (195 : Nat) ({ cls := "java/lang/AbstractStringBuilder", name := "inflate", desc := "()V" } : Jvm.MethodName)) ∈ lw_all := lw_g (lw_at lw_m4 78 rfl) rfl
theorem q932 : (Jvm.Cond.privateMethod ({ cls := "java/lang/AbstractStringBuilder", name := "inflate", desc := "()V" } : Jvm.MethodName)) ∈ lw_tbl := lw_at lw_m4 79 rfl
theorem q933 : (Jvm.Cond.instanceMethod ({ cls := "java/lang/AbstractStringBuilder", name := "inflate", desc := "()V" } : Jvm.MethodName)) ∈ lw_all := lw_g (lw_at lw_m4 80 rfl) rfl
theorem q934 : (Jvm.Cond.code ({ cls := "java/lang/AbstractStringBuilder", name := "inflate", desc := "()V" } : Jvm.MethodName) prog_20_method_11_code (2 : Nat) (Option.none : Option Jvm.ClassFile.FieldType)) ∈ lw_all := lw_g (lw_at lw_m4 81 rfl) rfl
theorem q935 : (Jvm.Cond.methodLink "java/lang/AbstractStringBuilder" (125 : Nat) ({ cls := "java/lang/StringLatin1", name := "inflate", desc := "([BI[BII)V" } : Jvm.MethodName)) ∈ lw_all := lw_g (lw_at lw_m4 82 rfl) rfl
theorem q953 : (Jvm.Cond.methodLink "java/lang/AbstractStringBuilder" (197 : Nat) ({ cls := "java/lang/StringUTF16", name := "putCharSB", desc := "([BII)V" } : Jvm.MethodName)) ∈ lw_all := lw_g (lw_at lw_m4 100 rfl) rfl
theorem q970 : (Jvm.Cond.instanceMethod ({ cls := "java/lang/AbstractStringBuilder", name := "getValue", desc := "()[B" } : Jvm.MethodName)) ∈ lw_all := lw_g (lw_at lw_m4 117 rfl) rfl
theorem q971 : (Jvm.Cond.sameMethod "java/lang/AbstractStringBuilder" "java/lang/AbstractStringBuilder" "getValue" "()[B") ∈ lw_all := lw_g (lw_at lw_m4 118 rfl) rfl
theorem q973 : (Jvm.Cond.code ({ cls := "java/lang/AbstractStringBuilder", name := "getValue", desc := "()[B" } : Jvm.MethodName) prog_20_method_64_code (1 : Nat) (Option.some (Jvm.ClassFile.FieldType.array Jvm.ClassFile.FieldType.byte))) ∈ lw_all := lw_g (lw_at lw_m4 120 rfl) rfl
theorem q975 : (Jvm.Cond.instanceMethod ({ cls := "java/lang/AbstractStringBuilder", name := "length", desc := "()I" } : Jvm.MethodName)) ∈ lw_all := lw_g (lw_at lw_m4 122 rfl) rfl
theorem q976 : (Jvm.Cond.sameMethod "java/lang/AbstractStringBuilder" "java/lang/AbstractStringBuilder" "length" "()I") ∈ lw_all := lw_g (lw_at lw_m4 123 rfl) rfl
theorem q981 : (Jvm.Cond.code ({ cls := "java/lang/AbstractStringBuilder", name := "length", desc := "()I" } : Jvm.MethodName) prog_20_method_6_code (1 : Nat) (Option.some Jvm.ClassFile.FieldType.int)) ∈ lw_all := lw_g (lw_at lw_m4 128 rfl) rfl
theorem q2220 : (Jvm.Cond.sameMethod "java/lang/AbstractStringBuilder" "java/lang/AbstractStringBuilder" "append" "(C)Ljava/lang/AbstractStringBuilder;") ∈ lw_all := lw_g (lw_at lw_m9 167 rfl) rfl
theorem q2221 : (Jvm.Cond.sameMethod "java/lang/AbstractStringBuilder" "java/lang/AbstractStringBuilder" "ensureCapacityInternal" "(I)V") ∈ lw_all := lw_g (lw_at lw_m9 168 rfl) rfl
theorem q2222 : (Jvm.Cond.sameMethod "java/lang/AbstractStringBuilder" "java/lang/AbstractStringBuilder" "newCapacity" "(I)I") ∈ lw_all := lw_g (lw_at lw_m9 169 rfl) rfl
theorem q2223 : (Jvm.Cond.sameMethod "java/lang/AbstractStringBuilder" "java/lang/AbstractStringBuilder" "inflate" "()V") ∈ lw_all := lw_g (lw_at lw_m9 170 rfl) rfl

/-! java/lang/StringBuilder -/
def RJ12 : String := "java/lang/StringBuilder"
def TJ12 : u_T := fun k => match k with
  | 0 => ("java/lang/AbstractStringBuilder", "value", "[B", false)
  | 1 => ("java/lang/AbstractStringBuilder", "coder", "B", false)
  | 2 => ("java/lang/AbstractStringBuilder", "maybeLatin1", "Z", false)
  | _ => ("java/lang/AbstractStringBuilder", "count", "I", false)
def tyJ12 : Nat → FieldType := fun k => match k with
  | 0 => .array .byte
  | 1 => .byte
  | 2 => .boolean
  | _ => .int
abbrev wsJ120 : List Cond := u_ws RJ12 TJ12 4
theorem nmJ12 : ∀ a, a < 4 → ∀ b, b < 4 → a ≠ b → (TJ12 a).2.1 ≠ (TJ12 b).2.1 := by decide +kernel
theorem tyJ12_ok : ∀ k, k < 4 → parseFieldDescriptor (TJ12 k).2.2.1 = some (tyJ12 k) := by decide +kernel
abbrev cJ12_init : ByteArray := prog_31_method_1_code
def yJ12_init : MethodName := ⟨RJ12, "<init>", "()V"⟩
abbrev cJ12_append : ByteArray := prog_31_method_14_code
def yJ12_append : MethodName := ⟨RJ12, "append", "(C)Ljava/lang/StringBuilder;"⟩
abbrev cJ12_toString : ByteArray := prog_31_method_42_code
def yJ12_toString : MethodName := ⟨RJ12, "toString", "()Ljava/lang/String;"⟩
abbrev cJ12_length : ByteArray := prog_31_method_93_code
def yJ12_length : MethodName := ⟨RJ12, "length", "()I"⟩
theorem q163 : (Jvm.Cond.initialized "java/lang/StringBuilder") ∈ lw_all := lw_g (lw_at lw_m1 30 rfl) rfl
theorem q852 : (Jvm.Cond.instantiable "java/lang/StringBuilder" (4 : Nat)) ∈ lw_all := lw_g (lw_at lw_m3 239 rfl) rfl
theorem q854 : (Jvm.Cond.instanceMethod ({ cls := "java/lang/StringBuilder", name := "<init>", desc := "()V" } : Jvm.MethodName)) ∈ lw_all := lw_g (lw_at lw_m4 1 rfl) rfl
theorem q855 : (Jvm.Cond.code ({ cls := "java/lang/StringBuilder", name := "<init>", desc := "()V" } : Jvm.MethodName) prog_31_method_1_code (1 : Nat) (Option.none : Option Jvm.ClassFile.FieldType)) ∈ lw_all := lw_g (lw_at lw_m4 2 rfl) rfl
theorem q856 : (Jvm.Cond.methodLink "java/lang/StringBuilder" (1 : Nat) ({ cls := "java/lang/AbstractStringBuilder", name := "<init>", desc := "(I)V" } : Jvm.MethodName)) ∈ lw_all := lw_g (lw_at lw_m4 3 rfl) rfl
theorem q872 : (Jvm.Cond.lays "java/lang/StringBuilder" "java/lang/AbstractStringBuilder" "value" "[B") ∈ lw_all := lw_g (lw_at lw_m4 19 rfl) rfl
theorem q874 : (Jvm.Cond.lays "java/lang/StringBuilder" "java/lang/AbstractStringBuilder" "coder" "B") ∈ lw_all := lw_g (lw_at lw_m4 21 rfl) rfl
theorem q876 : (Jvm.Cond.lays "java/lang/StringBuilder" "java/lang/AbstractStringBuilder" "maybeLatin1" "Z") ∈ lw_all := lw_g (lw_at lw_m4 23 rfl) rfl
theorem q878 : (Jvm.Cond.lays "java/lang/StringBuilder" "java/lang/AbstractStringBuilder" "count" "I") ∈ lw_all := lw_g (lw_at lw_m4 25 rfl) rfl
theorem q880 : (Jvm.Cond.superclass "java/lang/StringBuilder" "java/lang/AbstractStringBuilder") ∈ lw_all := lw_g (lw_at lw_m4 27 rfl) rfl
theorem q882 : (Jvm.Cond.instanceMethod ({ cls := "java/lang/StringBuilder", name := "append", desc := "(C)Ljava/lang/StringBuilder;" } : Jvm.MethodName)) ∈ lw_all := lw_g (lw_at lw_m4 29 rfl) rfl
theorem q883 : (Jvm.Cond.selects "java/lang/StringBuilder" ({ cls := "java/lang/StringBuilder", name := "append", desc := "(C)Ljava/lang/StringBuilder;" } : Jvm.MethodName) ({ cls := "java/lang/StringBuilder", name := "append", desc := "(C)Ljava/lang/StringBuilder;" } : Jvm.MethodName)) ∈ lw_all := lw_g (lw_at lw_m4 30 rfl) rfl
theorem q884 : (Jvm.Cond.code ({ cls := "java/lang/StringBuilder", name := "append", desc := "(C)Ljava/lang/StringBuilder;" } : Jvm.MethodName) prog_31_method_14_code (2 : Nat) (Option.some (Jvm.ClassFile.FieldType.object "java/lang/StringBuilder"))) ∈ lw_all := lw_g (lw_at lw_m4 31 rfl) rfl
theorem q885 : (Jvm.Cond.methodLink "java/lang/StringBuilder" (50 : Nat) ({ cls := "java/lang/AbstractStringBuilder", name := "append", desc := "(C)Ljava/lang/AbstractStringBuilder;" } : Jvm.MethodName)) ∈ lw_all := lw_g (lw_at lw_m4 32 rfl) rfl
theorem q926 : (Jvm.Cond.selects "java/lang/StringBuilder" ({ cls := "java/lang/AbstractStringBuilder", name := "isLatin1", desc := "()Z" } : Jvm.MethodName) ({ cls := "java/lang/AbstractStringBuilder", name := "isLatin1", desc := "()Z" } : Jvm.MethodName)) ∈ lw_all := lw_g (lw_at lw_m4 73 rfl) rfl
theorem q957 : (Jvm.Cond.instanceMethod ({ cls := "java/lang/StringBuilder", name := "toString", desc := "()Ljava/lang/String;" } : Jvm.MethodName)) ∈ lw_all := lw_g (lw_at lw_m4 104 rfl) rfl
theorem q958 : (Jvm.Cond.selects "java/lang/StringBuilder" ({ cls := "java/lang/StringBuilder", name := "toString", desc := "()Ljava/lang/String;" } : Jvm.MethodName) ({ cls := "java/lang/StringBuilder", name := "toString", desc := "()Ljava/lang/String;" } : Jvm.MethodName)) ∈ lw_all := lw_g (lw_at lw_m4 105 rfl) rfl
theorem q959 : (Jvm.Cond.code ({ cls := "java/lang/StringBuilder", name := "toString", desc := "()Ljava/lang/String;" } : Jvm.MethodName) prog_31_method_42_code (1 : Nat) (Option.some (Jvm.ClassFile.FieldType.object "java/lang/String"))) ∈ lw_all := lw_g (lw_at lw_m4 106 rfl) rfl
theorem q960 : (Jvm.Cond.classLink "java/lang/StringBuilder" (18 : Nat) "java/lang/String") ∈ lw_all := lw_g (lw_at lw_m4 107 rfl) rfl
theorem q962 : (Jvm.Cond.methodLink "java/lang/StringBuilder" (137 : Nat) ({ cls := "java/lang/String", name := "<init>", desc := "(Ljava/lang/StringBuilder;)V" } : Jvm.MethodName)) ∈ lw_all := lw_g (lw_at lw_m4 109 rfl) rfl
theorem q972 : (Jvm.Cond.selects "java/lang/StringBuilder" ({ cls := "java/lang/AbstractStringBuilder", name := "getValue", desc := "()[B" } : Jvm.MethodName) ({ cls := "java/lang/AbstractStringBuilder", name := "getValue", desc := "()[B" } : Jvm.MethodName)) ∈ lw_all := lw_g (lw_at lw_m4 119 rfl) rfl
theorem q977 : (Jvm.Cond.selects "java/lang/StringBuilder" ({ cls := "java/lang/AbstractStringBuilder", name := "length", desc := "()I" } : Jvm.MethodName) ({ cls := "java/lang/StringBuilder", name := "length", desc := "()I" } : Jvm.MethodName)) ∈ lw_all := lw_g (lw_at lw_m4 124 rfl) rfl
theorem q978 : (Jvm.Cond.instanceMethod ({ cls := "java/lang/StringBuilder", name := "length", desc := "()I" } : Jvm.MethodName)) ∈ lw_all := lw_g (lw_at lw_m4 125 rfl) rfl
theorem q979 : (Jvm.Cond.code ({ cls := "java/lang/StringBuilder", name := "length", desc := "()I" } : Jvm.MethodName) prog_31_method_93_code (1 : Nat) (Option.some Jvm.ClassFile.FieldType.int)) ∈ lw_all := lw_g (lw_at lw_m4 126 rfl) rfl
theorem q980 : (Jvm.Cond.methodLink "java/lang/StringBuilder" (343 : Nat) ({ cls := "java/lang/AbstractStringBuilder", name := "length", desc := "()I" } : Jvm.MethodName)) ∈ lw_all := lw_g (lw_at lw_m4 127 rfl) rfl
theorem q1096 : (Jvm.Cond.selects "java/lang/StringBuilder" ({ cls := "java/lang/Object", name := "getClass", desc := "()Ljava/lang/Class;" } : Jvm.MethodName) ({ cls := "java/lang/Object", name := "getClass", desc := "()Ljava/lang/Class;" } : Jvm.MethodName)) ∈ lw_all := lw_g (lw_at lw_m5 3 rfl) rfl
theorem q2243 : (Jvm.Cond.castable "java/lang/StringBuilder" "java/lang/Object") ∈ lw_tbl := lw_at lw_m9 190 rfl
theorem in_J12 : ∀ w ∈ wsJ120, w ∈ lw_all := lw_in wsJ120 [872, 874, 876, 878] (by decide +kernel) (by decide +kernel)

/-! jdk/internal/util/ArraysSupport -/
def RJ13 : String := "jdk/internal/util/ArraysSupport"
abbrev cJ13_newLength : ByteArray := prog_47_method_27_code
def yJ13_newLength : MethodName := ⟨RJ13, "newLength", "(III)I"⟩
abbrev cJ13_hugeLength : ByteArray := prog_47_method_28_code
def yJ13_hugeLength : MethodName := ⟨RJ13, "hugeLength", "(II)I"⟩
theorem q164 : (Jvm.Cond.initialized "jdk/internal/util/ArraysSupport") ∈ lw_all := lw_g (lw_at lw_m1 31 rfl) rfl
theorem q897 : (Jvm.Cond.static ({ cls := "jdk/internal/util/ArraysSupport", name := "newLength", desc := "(III)I" } : Jvm.MethodName)) ∈ lw_all := lw_g (lw_at lw_m4 44 rfl) rfl
theorem q898 : (Jvm.Cond.code ({ cls := "jdk/internal/util/ArraysSupport", name := "newLength", desc := "(III)I" } : Jvm.MethodName) prog_47_method_27_code (4 : Nat) (Option.some Jvm.ClassFile.FieldType.int)) ∈ lw_all := lw_g (lw_at lw_m4 45 rfl) rfl
theorem q899 : (Jvm.Cond.methodLink "jdk/internal/util/ArraysSupport" (194 : Nat) ({ cls := "java/lang/Math", name := "max", desc := "(II)I" } : Jvm.MethodName)) ∈ lw_all := lw_g (lw_at lw_m4 46 rfl) rfl
theorem q902 : (Jvm.Cond.constant "jdk/internal/util/ArraysSupport" (200 : Nat) (2147483639 : Int32)) ∈ lw_all := lw_g (lw_at lw_m4 49 rfl) rfl
theorem q903 : (Jvm.Cond.methodLink "jdk/internal/util/ArraysSupport" (201 : Nat) ({ cls := "jdk/internal/util/ArraysSupport", name := "hugeLength", desc := "(II)I" } : Jvm.MethodName)) ∈ lw_all := lw_g (lw_at lw_m4 50 rfl) rfl
theorem q904 : (Jvm.Cond.static ({ cls := "jdk/internal/util/ArraysSupport", name := "hugeLength", desc := "(II)I" } : Jvm.MethodName)) ∈ lw_all := lw_g (lw_at lw_m4 51 rfl) rfl
theorem q905 : (Jvm.Cond.code ({ cls := "jdk/internal/util/ArraysSupport", name := "hugeLength", desc := "(II)I" } : Jvm.MethodName) prog_47_method_28_code (3 : Nat) (Option.some Jvm.ClassFile.FieldType.int)) ∈ lw_all := lw_g (lw_at lw_m4 52 rfl) rfl

/-! java/lang/Math -/
def RJ14 : String := "java/lang/Math"
abbrev cJ14_max : ByteArray := prog_28_method_65_code
def yJ14_max : MethodName := ⟨RJ14, "max", "(II)I"⟩
abbrev cJ14_min : ByteArray := prog_28_method_69_code
def yJ14_min : MethodName := ⟨RJ14, "min", "(II)I"⟩
theorem q165 : (Jvm.Cond.initialized "java/lang/Math") ∈ lw_all := lw_g (lw_at lw_m1 32 rfl) rfl
theorem q900 : (Jvm.Cond.static ({ cls := "java/lang/Math", name := "max", desc := "(II)I" } : Jvm.MethodName)) ∈ lw_all := lw_g (lw_at lw_m4 47 rfl) rfl
theorem q901 : (Jvm.Cond.code ({ cls := "java/lang/Math", name := "max", desc := "(II)I" } : Jvm.MethodName) prog_28_method_65_code (2 : Nat) (Option.some Jvm.ClassFile.FieldType.int)) ∈ lw_all := lw_g (lw_at lw_m4 48 rfl) rfl
theorem q918 : (Jvm.Cond.static ({ cls := "java/lang/Math", name := "min", desc := "(II)I" } : Jvm.MethodName)) ∈ lw_all := lw_g (lw_at lw_m4 65 rfl) rfl
theorem q919 : (Jvm.Cond.code ({ cls := "java/lang/Math", name := "min", desc := "(II)I" } : Jvm.MethodName) prog_28_method_69_code (2 : Nat) (Option.some Jvm.ClassFile.FieldType.int)) ∈ lw_all := lw_g (lw_at lw_m4 66 rfl) rfl

/-! java/util/Arrays -/
def RJ15 : String := "java/util/Arrays"
abbrev cJ15_copyOf : ByteArray := prog_41_method_121_code
def yJ15_copyOf : MethodName := ⟨RJ15, "copyOf", "([BI)[B"⟩
abbrev cJ15_copyOfRange : ByteArray := prog_41_method_132_code
def yJ15_copyOfRange : MethodName := ⟨RJ15, "copyOfRange", "([BII)[B"⟩
abbrev cJ15_copyOfRangeByte : ByteArray := prog_41_method_133_code
def yJ15_copyOfRangeByte : MethodName := ⟨RJ15, "copyOfRangeByte", "([BII)[B"⟩
abbrev cJ15_checkLength : ByteArray := prog_41_method_131_code
def yJ15_checkLength : MethodName := ⟨RJ15, "checkLength", "(II)V"⟩
abbrev cJ15_copyOf_2 : ByteArray := prog_41_method_119_code
def yJ15_copyOf_2 : MethodName := ⟨RJ15, "copyOf", "([Ljava/lang/Object;I)[Ljava/lang/Object;"⟩
abbrev cJ15_copyOf_3 : ByteArray := prog_41_method_120_code
def yJ15_copyOf_3 : MethodName := ⟨RJ15, "copyOf", "([Ljava/lang/Object;ILjava/lang/Class;)[Ljava/lang/Object;"⟩
theorem q166 : (Jvm.Cond.initialized "java/util/Arrays") ∈ lw_all := lw_g (lw_at lw_m1 33 rfl) rfl
theorem q908 : (Jvm.Cond.static ({ cls := "java/util/Arrays", name := "copyOf", desc := "([BI)[B" } : Jvm.MethodName)) ∈ lw_all := lw_g (lw_at lw_m4 55 rfl) rfl
theorem q909 : (Jvm.Cond.code ({ cls := "java/util/Arrays", name := "copyOf", desc := "([BI)[B" } : Jvm.MethodName) prog_41_method_121_code (3 : Nat) (Option.some (Jvm.ClassFile.FieldType.array Jvm.ClassFile.FieldType.byte))) ∈ lw_all := lw_g (lw_at lw_m4 56 rfl) rfl
theorem q910 : (Jvm.Cond.methodLink "java/util/Arrays" (310 : Nat) ({ cls := "[B", name := "clone", desc := "()Ljava/lang/Object;" } : Jvm.MethodName)) ∈ lw_all := lw_g (lw_at lw_m4 57 rfl) rfl
theorem q916 : (Jvm.Cond.classLink "java/util/Arrays" (311 : Nat) "[B") ∈ lw_all := lw_g (lw_at lw_m4 63 rfl) rfl
theorem q917 : (Jvm.Cond.methodLink "java/util/Arrays" (304 : Nat) ({ cls := "java/lang/Math", name := "min", desc := "(II)I" } : Jvm.MethodName)) ∈ lw_all := lw_g (lw_at lw_m4 64 rfl) rfl
theorem q920 : (Jvm.Cond.methodLink "java/util/Arrays" (150 : Nat) ({ cls := "java/lang/System", name := "arraycopy", desc := "(Ljava/lang/Object;ILjava/lang/Object;II)V" } : Jvm.MethodName)) ∈ lw_all := lw_g (lw_at lw_m4 67 rfl) rfl
theorem q984 : (Jvm.Cond.static ({ cls := "java/util/Arrays", name := "copyOfRange", desc := "([BII)[B" } : Jvm.MethodName)) ∈ lw_all := lw_g (lw_at lw_m4 131 rfl) rfl
theorem q985 : (Jvm.Cond.code ({ cls := "java/util/Arrays", name := "copyOfRange", desc := "([BII)[B" } : Jvm.MethodName) prog_41_method_132_code (3 : Nat) (Option.some (Jvm.ClassFile.FieldType.array Jvm.ClassFile.FieldType.byte))) ∈ lw_all := lw_g (lw_at lw_m4 132 rfl) rfl
theorem q986 : (Jvm.Cond.methodLink "java/util/Arrays" (339 : Nat) ({ cls := "java/util/Arrays", name := "copyOfRangeByte", desc := "([BII)[B" } : Jvm.MethodName)) ∈ lw_all := lw_g (lw_at lw_m4 133 rfl) rfl
theorem q987 : (Jvm.Cond.static ({ cls := "java/util/Arrays", name := "copyOfRangeByte", desc := "([BII)[B" } : Jvm.MethodName)) ∈ lw_all := lw_g (lw_at lw_m4 134 rfl) rfl
theorem q988 : (Jvm.Cond.code ({ cls := "java/util/Arrays", name := "copyOfRangeByte", desc := "([BII)[B" } : Jvm.MethodName) prog_41_method_133_code (5 : Nat) (Option.some (Jvm.ClassFile.FieldType.array Jvm.ClassFile.FieldType.byte))) ∈ lw_all := lw_g (lw_at lw_m4 135 rfl) rfl
theorem q989 : (Jvm.Cond.methodLink "java/util/Arrays" (343 : Nat) ({ cls := "java/util/Arrays", name := "checkLength", desc := "(II)V" } : Jvm.MethodName)) ∈ lw_all := lw_g (lw_at lw_m4 136 rfl) rfl
theorem q990 : (Jvm.Cond.static ({ cls := "java/util/Arrays", name := "checkLength", desc := "(II)V" } : Jvm.MethodName)) ∈ lw_all := lw_g (lw_at lw_m4 137 rfl) rfl
theorem q991 : (Jvm.Cond.code ({ cls := "java/util/Arrays", name := "checkLength", desc := "(II)V" } : Jvm.MethodName) prog_41_method_131_code (2 : Nat) (Option.none : Option Jvm.ClassFile.FieldType)) ∈ lw_all := lw_g (lw_at lw_m4 138 rfl) rfl
theorem q1075 : (Jvm.Cond.static ({ cls := "java/util/Arrays", name := "copyOf", desc := "([Ljava/lang/Object;I)[Ljava/lang/Object;" } : Jvm.MethodName)) ∈ lw_all := lw_g (lw_at lw_m4 222 rfl) rfl
theorem q1076 : (Jvm.Cond.code ({ cls := "java/util/Arrays", name := "copyOf", desc := "([Ljava/lang/Object;I)[Ljava/lang/Object;" } : Jvm.MethodName) prog_41_method_119_code (2 : Nat) (Option.some (Jvm.ClassFile.FieldType.array (Jvm.ClassFile.FieldType.object "java/lang/Object")))) ∈ lw_all := lw_g (lw_at lw_m4 223 rfl) rfl
theorem q1077 : (Jvm.Cond.methodLink "java/util/Arrays" (86 : Nat) ({ cls := "java/lang/Object", name := "getClass", desc := "()Ljava/lang/Class;" } : Jvm.MethodName)) ∈ lw_all := lw_g (lw_at lw_m4 224 rfl) rfl
theorem q1099 : (Jvm.Cond.methodLink "java/util/Arrays" (300 : Nat) ({ cls := "java/util/Arrays", name := "copyOf", desc := "([Ljava/lang/Object;ILjava/lang/Class;)[Ljava/lang/Object;" } : Jvm.MethodName)) ∈ lw_all := lw_g (lw_at lw_m5 6 rfl) rfl
theorem q1100 : (Jvm.Cond.static ({ cls := "java/util/Arrays", name := "copyOf", desc := "([Ljava/lang/Object;ILjava/lang/Class;)[Ljava/lang/Object;" } : Jvm.MethodName)) ∈ lw_all := lw_g (lw_at lw_m5 7 rfl) rfl
theorem q1101 : (Jvm.Cond.code ({ cls := "java/util/Arrays", name := "copyOf", desc := "([Ljava/lang/Object;ILjava/lang/Class;)[Ljava/lang/Object;" } : Jvm.MethodName) prog_41_method_120_code (4 : Nat) (Option.some (Jvm.ClassFile.FieldType.array (Jvm.ClassFile.FieldType.object "java/lang/Object")))) ∈ lw_all := lw_g (lw_at lw_m5 8 rfl) rfl
theorem q1102 : (Jvm.Cond.classLink "java/util/Arrays" (110 : Nat) "[Ljava/lang/Object;") ∈ lw_all := lw_g (lw_at lw_m5 9 rfl) rfl
theorem q1104 : (Jvm.Cond.classLink "java/util/Arrays" (2 : Nat) "java/lang/Object") ∈ lw_all := lw_g (lw_at lw_m5 11 rfl) rfl

/-! java/lang/Integer -/
def RJ16 : String := "java/lang/Integer"
abbrev cJ16_numberOfTrailingZeros : ByteArray := prog_26_method_48_code
def yJ16_numberOfTrailingZeros : MethodName := ⟨RJ16, "numberOfTrailingZeros", "(I)I"⟩
abbrev cJ16_bitCount : ByteArray := prog_26_method_49_code
def yJ16_bitCount : MethodName := ⟨RJ16, "bitCount", "(I)I"⟩
theorem q168 : (Jvm.Cond.initialized "java/lang/Integer") ∈ lw_all := lw_g (lw_at lw_m1 35 rfl) rfl
theorem q1371 : (Jvm.Cond.static ({ cls := "java/lang/Integer", name := "numberOfTrailingZeros", desc := "(I)I" } : Jvm.MethodName)) ∈ lw_all := lw_g (lw_at lw_m6 38 rfl) rfl
theorem q1372 : (Jvm.Cond.code ({ cls := "java/lang/Integer", name := "numberOfTrailingZeros", desc := "(I)I" } : Jvm.MethodName) prog_26_method_48_code (2 : Nat) (Option.some Jvm.ClassFile.FieldType.int)) ∈ lw_all := lw_g (lw_at lw_m6 39 rfl) rfl
theorem q1373 : (Jvm.Cond.constant "java/lang/Integer" (264 : Nat) (65536 : Int32)) ∈ lw_all := lw_g (lw_at lw_m6 40 rfl) rfl
theorem q1397 : (Jvm.Cond.static ({ cls := "java/lang/Integer", name := "bitCount", desc := "(I)I" } : Jvm.MethodName)) ∈ lw_all := lw_g (lw_at lw_m6 64 rfl) rfl
theorem q1398 : (Jvm.Cond.code ({ cls := "java/lang/Integer", name := "bitCount", desc := "(I)I" } : Jvm.MethodName) prog_26_method_49_code (1 : Nat) (Option.some Jvm.ClassFile.FieldType.int)) ∈ lw_all := lw_g (lw_at lw_m6 65 rfl) rfl
theorem q1399 : (Jvm.Cond.constant "java/lang/Integer" (265 : Nat) (1431655765 : Int32)) ∈ lw_all := lw_g (lw_at lw_m6 66 rfl) rfl
theorem q1400 : (Jvm.Cond.constant "java/lang/Integer" (266 : Nat) (858993459 : Int32)) ∈ lw_all := lw_g (lw_at lw_m6 67 rfl) rfl
theorem q1401 : (Jvm.Cond.constant "java/lang/Integer" (267 : Nat) (252645135 : Int32)) ∈ lw_all := lw_g (lw_at lw_m6 68 rfl) rfl

/-! java/lang/Object -/
def RJ17 : String := "java/lang/Object"
abbrev cJ17_init : ByteArray := object_method_1_code
def yJ17_init : MethodName := ⟨RJ17, "<init>", "()V"⟩
theorem q175 : (Jvm.Cond.instanceMethod ({ cls := "java/lang/Object", name := "<init>", desc := "()V" } : Jvm.MethodName)) ∈ lw_all := lw_g (lw_at lw_m1 42 rfl) rfl
theorem q176 : (Jvm.Cond.code ({ cls := "java/lang/Object", name := "<init>", desc := "()V" } : Jvm.MethodName) object_method_1_code (1 : Nat) (Option.none : Option Jvm.ClassFile.FieldType)) ∈ lw_all := lw_g (lw_at lw_m1 43 rfl) rfl
theorem q912 : (Jvm.Cond.native ({ cls := "java/lang/Object", name := "clone", desc := "()Ljava/lang/Object;" } : Jvm.MethodName)) ∈ lw_all := lw_g (lw_at lw_m4 59 rfl) rfl
theorem q913 : (Jvm.Cond.instanceMethod ({ cls := "java/lang/Object", name := "clone", desc := "()Ljava/lang/Object;" } : Jvm.MethodName)) ∈ lw_all := lw_g (lw_at lw_m4 60 rfl) rfl
theorem q1078 : (Jvm.Cond.instanceMethod ({ cls := "java/lang/Object", name := "getClass", desc := "()Ljava/lang/Class;" } : Jvm.MethodName)) ∈ lw_all := lw_g (lw_at lw_m4 225 rfl) rfl
theorem q1079 : (Jvm.Cond.sameMethod "java/lang/Object" "java/lang/Object" "getClass" "()Ljava/lang/Class;") ∈ lw_all := lw_g (lw_at lw_m4 226 rfl) rfl
theorem q1098 : (Jvm.Cond.native ({ cls := "java/lang/Object", name := "getClass", desc := "()Ljava/lang/Class;" } : Jvm.MethodName)) ∈ lw_all := lw_g (lw_at lw_m5 5 rfl) rfl
theorem q2224 : (Jvm.Cond.initialized "java/lang/Object") ∈ lw_all := lw_g (lw_at lw_m9 171 rfl) rfl
theorem q2250 : (Jvm.Cond.declares ({ cls := "java/lang/Object", name := "getClass", desc := "()Ljava/lang/Class;" } : Jvm.MethodName)) ∈ lw_tbl := lw_at lw_m9 197 rfl

/-! java/lang/RuntimeException -/
def RJ2 : String := "java/lang/RuntimeException"
abbrev cJ2_init : ByteArray := prog_29_method_5_code
def yJ2_init : MethodName := ⟨RJ2, "<init>", "(Ljava/lang/String;Ljava/lang/Throwable;ZZ)V"⟩
theorem q137 : (Jvm.Cond.initialized "java/lang/RuntimeException") ∈ lw_all := lw_g (lw_at lw_m1 4 rfl) rfl
theorem q180 : (Jvm.Cond.declares ({ cls := "java/lang/RuntimeException", name := "<init>", desc := "()V" } : Jvm.MethodName)) ∈ lw_tbl := lw_at lw_m1 47 rfl
theorem q181 : (Jvm.Cond.declares ({ cls := "java/lang/RuntimeException", name := "<init>", desc := "(Ljava/lang/String;)V" } : Jvm.MethodName)) ∈ lw_tbl := lw_at lw_m1 48 rfl
theorem q221 : (Jvm.Cond.instanceMethod ({ cls := "java/lang/RuntimeException", name := "<init>", desc := "(Ljava/lang/String;Ljava/lang/Throwable;ZZ)V" } : Jvm.MethodName)) ∈ lw_all := lw_g (lw_at lw_m1 88 rfl) rfl
theorem q222 : (Jvm.Cond.code ({ cls := "java/lang/RuntimeException", name := "<init>", desc := "(Ljava/lang/String;Ljava/lang/Throwable;ZZ)V" } : Jvm.MethodName) prog_29_method_5_code (5 : Nat) (Option.none : Option Jvm.ClassFile.FieldType)) ∈ lw_all := lw_g (lw_at lw_m1 89 rfl) rfl
theorem q223 : (Jvm.Cond.methodLink "java/lang/RuntimeException" (16 : Nat) ({ cls := "java/lang/Exception", name := "<init>", desc := "(Ljava/lang/String;Ljava/lang/Throwable;ZZ)V" } : Jvm.MethodName)) ∈ lw_all := lw_g (lw_at lw_m1 90 rfl) rfl

/-! java/util/AbstractCollection -/
def RJ3 : String := "java/util/AbstractCollection"
abbrev cJ3_init : ByteArray := prog_38_method_1_code
def yJ3_init : MethodName := ⟨RJ3, "<init>", "()V"⟩
theorem q142 : (Jvm.Cond.initialized "java/util/AbstractCollection") ∈ lw_all := lw_g (lw_at lw_m1 9 rfl) rfl
theorem q355 : (Jvm.Cond.instanceMethod ({ cls := "java/util/AbstractCollection", name := "<init>", desc := "()V" } : Jvm.MethodName)) ∈ lw_all := lw_g (lw_at lw_m1 222 rfl) rfl
theorem q356 : (Jvm.Cond.code ({ cls := "java/util/AbstractCollection", name := "<init>", desc := "()V" } : Jvm.MethodName) prog_38_method_1_code (1 : Nat) (Option.none : Option Jvm.ClassFile.FieldType)) ∈ lw_all := lw_g (lw_at lw_m1 223 rfl) rfl
theorem q357 : (Jvm.Cond.methodLink "java/util/AbstractCollection" (1 : Nat) ({ cls := "java/lang/Object", name := "<init>", desc := "()V" } : Jvm.MethodName)) ∈ lw_all := lw_g (lw_at lw_m1 224 rfl) rfl

/-! java/util/AbstractList -/
def RJ4 : String := "java/util/AbstractList"
abbrev cJ4_init : ByteArray := prog_39_method_1_code
def yJ4_init : MethodName := ⟨RJ4, "<init>", "()V"⟩
theorem q143 : (Jvm.Cond.initialized "java/util/AbstractList") ∈ lw_all := lw_g (lw_at lw_m1 10 rfl) rfl
theorem q352 : (Jvm.Cond.instanceMethod ({ cls := "java/util/AbstractList", name := "<init>", desc := "()V" } : Jvm.MethodName)) ∈ lw_all := lw_g (lw_at lw_m1 219 rfl) rfl
theorem q353 : (Jvm.Cond.code ({ cls := "java/util/AbstractList", name := "<init>", desc := "()V" } : Jvm.MethodName) prog_39_method_1_code (1 : Nat) (Option.none : Option Jvm.ClassFile.FieldType)) ∈ lw_all := lw_g (lw_at lw_m1 220 rfl) rfl
theorem q354 : (Jvm.Cond.methodLink "java/util/AbstractList" (1 : Nat) ({ cls := "java/util/AbstractCollection", name := "<init>", desc := "()V" } : Jvm.MethodName)) ∈ lw_all := lw_g (lw_at lw_m1 221 rfl) rfl
theorem q362 : (Jvm.Cond.fieldLink "java/util/AbstractList" (7 : Nat) "java/util/AbstractList" "modCount" "I") ∈ lw_all := lw_g (lw_at lw_m1 229 rfl) rfl
theorem q370 : (Jvm.Cond.soleField "java/util/AbstractList" "modCount") ∈ lw_all := lw_g (lw_at lw_m1 237 rfl) rfl

/-! java/util/ArrayList -/
def RJ5 : String := "java/util/ArrayList"
def TJ5 : u_T := fun k => match k with
  | 0 => ("java/util/AbstractList", "modCount", "I", false)
  | 1 => ("java/util/ArrayList", "elementData", "[Ljava/lang/Object;", false)
  | _ => ("java/util/ArrayList", "size", "I", false)
def tyJ5 : Nat → FieldType := fun k => match k with
  | 0 => .int
  | 1 => .array (.object "java/lang/Object")
  | _ => .int
abbrev wsJ50 : List Cond := u_ws RJ5 TJ5 3
theorem nmJ5 : ∀ a, a < 3 → ∀ b, b < 3 → a ≠ b → (TJ5 a).2.1 ≠ (TJ5 b).2.1 := by decide +kernel
theorem tyJ5_ok : ∀ k, k < 3 → parseFieldDescriptor (TJ5 k).2.2.1 = some (tyJ5 k) := by decide +kernel
abbrev cJ5_init : ByteArray := prog_40_method_2_code
def yJ5_init : MethodName := ⟨RJ5, "<init>", "()V"⟩
abbrev cJ5_size : ByteArray := prog_40_method_8_code
def yJ5_size : MethodName := ⟨RJ5, "size", "()I"⟩
abbrev cJ5_get : ByteArray := prog_40_method_20_code
def yJ5_get : MethodName := ⟨RJ5, "get", "(I)Ljava/lang/Object;"⟩
abbrev cJ5_elementData : ByteArray := prog_40_method_18_code
def yJ5_elementData : MethodName := ⟨RJ5, "elementData", "(I)Ljava/lang/Object;"⟩
abbrev cJ5_add : ByteArray := prog_40_method_25_code
def yJ5_add : MethodName := ⟨RJ5, "add", "(Ljava/lang/Object;)Z"⟩
abbrev cJ5_add_2 : ByteArray := prog_40_method_24_code
def yJ5_add_2 : MethodName := ⟨RJ5, "add", "(Ljava/lang/Object;[Ljava/lang/Object;I)V"⟩
abbrev cJ5_grow : ByteArray := prog_40_method_7_code
def yJ5_grow : MethodName := ⟨RJ5, "grow", "()[Ljava/lang/Object;"⟩
abbrev cJ5_grow_2 : ByteArray := prog_40_method_6_code
def yJ5_grow_2 : MethodName := ⟨RJ5, "grow", "(I)[Ljava/lang/Object;"⟩
theorem q144 : (Jvm.Cond.initialized "java/util/ArrayList") ∈ lw_all := lw_g (lw_at lw_m1 11 rfl) rfl
theorem q347 : (Jvm.Cond.instantiable "java/util/ArrayList" (3 : Nat)) ∈ lw_all := lw_g (lw_at lw_m1 214 rfl) rfl
theorem q349 : (Jvm.Cond.instanceMethod ({ cls := "java/util/ArrayList", name := "<init>", desc := "()V" } : Jvm.MethodName)) ∈ lw_all := lw_g (lw_at lw_m1 216 rfl) rfl
theorem q350 : (Jvm.Cond.code ({ cls := "java/util/ArrayList", name := "<init>", desc := "()V" } : Jvm.MethodName) prog_40_method_2_code (1 : Nat) (Option.none : Option Jvm.ClassFile.FieldType)) ∈ lw_all := lw_g (lw_at lw_m1 217 rfl) rfl
theorem q351 : (Jvm.Cond.methodLink "java/util/ArrayList" (1 : Nat) ({ cls := "java/util/AbstractList", name := "<init>", desc := "()V" } : Jvm.MethodName)) ∈ lw_all := lw_g (lw_at lw_m1 218 rfl) rfl
theorem q358 : (Jvm.Cond.fieldLink "java/util/ArrayList" (39 : Nat) "java/util/ArrayList" "DEFAULTCAPACITY_EMPTY_ELEMENTDATA" "[Ljava/lang/Object;") ∈ lw_all := lw_g (lw_at lw_m1 225 rfl) rfl
theorem q359 : (Jvm.Cond.laysStatic "java/util/ArrayList" "DEFAULTCAPACITY_EMPTY_ELEMENTDATA" "[Ljava/lang/Object;") ∈ lw_tbl := lw_at lw_m1 226 rfl
theorem q360 : (Jvm.Cond.fieldLink "java/util/ArrayList" (9 : Nat) "java/util/ArrayList" "elementData" "[Ljava/lang/Object;") ∈ lw_all := lw_g (lw_at lw_m1 227 rfl) rfl
theorem q361 : (Jvm.Cond.fieldLink "java/util/ArrayList" (48 : Nat) "java/util/ArrayList" "size" "I") ∈ lw_all := lw_g (lw_at lw_m1 228 rfl) rfl
theorem q363 : (Jvm.Cond.fieldLink "java/util/ArrayList" (63 : Nat) "java/util/ArrayList" "modCount" "I") ∈ lw_all := lw_g (lw_at lw_m1 230 rfl) rfl
theorem q364 : (Jvm.Cond.sameField "java/util/ArrayList" "java/util/AbstractList" "modCount" "I") ∈ lw_all := lw_g (lw_at lw_m1 231 rfl) rfl
theorem q365 : (Jvm.Cond.lays "java/util/ArrayList" "java/util/ArrayList" "elementData" "[Ljava/lang/Object;") ∈ lw_all := lw_g (lw_at lw_m1 232 rfl) rfl
theorem q366 : (Jvm.Cond.soleField "java/util/ArrayList" "elementData") ∈ lw_all := lw_g (lw_at lw_m1 233 rfl) rfl
theorem q367 : (Jvm.Cond.lays "java/util/ArrayList" "java/util/ArrayList" "size" "I") ∈ lw_all := lw_g (lw_at lw_m1 234 rfl) rfl
theorem q368 : (Jvm.Cond.soleField "java/util/ArrayList" "size") ∈ lw_all := lw_g (lw_at lw_m1 235 rfl) rfl
theorem q369 : (Jvm.Cond.lays "java/util/ArrayList" "java/util/AbstractList" "modCount" "I") ∈ lw_all := lw_g (lw_at lw_m1 236 rfl) rfl
theorem q371 : (Jvm.Cond.superclass "java/util/ArrayList" "java/util/AbstractList") ∈ lw_all := lw_g (lw_at lw_m1 238 rfl) rfl
theorem q511 : (Jvm.Cond.instanceMethod ({ cls := "java/util/ArrayList", name := "size", desc := "()I" } : Jvm.MethodName)) ∈ lw_all := lw_g (lw_at lw_m2 138 rfl) rfl
theorem q512 : (Jvm.Cond.selects "java/util/ArrayList" ({ cls := "java/util/ArrayList", name := "size", desc := "()I" } : Jvm.MethodName) ({ cls := "java/util/ArrayList", name := "size", desc := "()I" } : Jvm.MethodName)) ∈ lw_all := lw_g (lw_at lw_m2 139 rfl) rfl
theorem q513 : (Jvm.Cond.code ({ cls := "java/util/ArrayList", name := "size", desc := "()I" } : Jvm.MethodName) prog_40_method_8_code (1 : Nat) (Option.some Jvm.ClassFile.FieldType.int)) ∈ lw_all := lw_g (lw_at lw_m2 140 rfl) rfl
theorem q515 : (Jvm.Cond.instanceMethod ({ cls := "java/util/ArrayList", name := "get", desc := "(I)Ljava/lang/Object;" } : Jvm.MethodName)) ∈ lw_all := lw_g (lw_at lw_m2 142 rfl) rfl
theorem q516 : (Jvm.Cond.selects "java/util/ArrayList" ({ cls := "java/util/ArrayList", name := "get", desc := "(I)Ljava/lang/Object;" } : Jvm.MethodName) ({ cls := "java/util/ArrayList", name := "get", desc := "(I)Ljava/lang/Object;" } : Jvm.MethodName)) ∈ lw_all := lw_g (lw_at lw_m2 143 rfl) rfl
theorem q517 : (Jvm.Cond.code ({ cls := "java/util/ArrayList", name := "get", desc := "(I)Ljava/lang/Object;" } : Jvm.MethodName) prog_40_method_20_code (2 : Nat) (Option.some (Jvm.ClassFile.FieldType.object "java/lang/Object"))) ∈ lw_all := lw_g (lw_at lw_m2 144 rfl) rfl
theorem q518 : (Jvm.Cond.methodLink "java/util/ArrayList" (118 : Nat) ({ cls := "java/util/Objects", name := "checkIndex", desc := "(II)I" } : Jvm.MethodName)) ∈ lw_all := lw_g (lw_at lw_m2 145 rfl) rfl
theorem q524 : (Jvm.Cond.methodLink "java/util/ArrayList" (123 : Nat) ({ cls := "java/util/ArrayList", name := "elementData", desc := "(I)Ljava/lang/Object;" } : Jvm.MethodName)) ∈ lw_all := lw_g (lw_at lw_m2 151 rfl) rfl
theorem q525 : (Jvm.Cond.instanceMethod ({ cls := "java/util/ArrayList", name := "elementData", desc := "(I)Ljava/lang/Object;" } : Jvm.MethodName)) ∈ lw_all := lw_g (lw_at lw_m2 152 rfl) rfl
theorem q526 : (Jvm.Cond.selects "java/util/ArrayList" ({ cls := "java/util/ArrayList", name := "elementData", desc := "(I)Ljava/lang/Object;" } : Jvm.MethodName) ({ cls := "java/util/ArrayList", name := "elementData", desc := "(I)Ljava/lang/Object;" } : Jvm.MethodName)) ∈ lw_all := lw_g (lw_at lw_m2 153 rfl) rfl
theorem q527 : (Jvm.Cond.code ({ cls := "java/util/ArrayList", name := "elementData", desc := "(I)Ljava/lang/Object;" } : Jvm.MethodName) prog_40_method_18_code (2 : Nat) (Option.some (Jvm.ClassFile.FieldType.object "java/lang/Object"))) ∈ lw_all := lw_g (lw_at lw_m2 154 rfl) rfl
theorem q1058 : (Jvm.Cond.instanceMethod ({ cls := "java/util/ArrayList", name := "add", desc := "(Ljava/lang/Object;)Z" } : Jvm.MethodName)) ∈ lw_all := lw_g (lw_at lw_m4 205 rfl) rfl
theorem q1059 : (Jvm.Cond.selects "java/util/ArrayList" ({ cls := "java/util/ArrayList", name := "add", desc := "(Ljava/lang/Object;)Z" } : Jvm.MethodName) ({ cls := "java/util/ArrayList", name := "add", desc := "(Ljava/lang/Object;)Z" } : Jvm.MethodName)) ∈ lw_all := lw_g (lw_at lw_m4 206 rfl) rfl
theorem q1060 : (Jvm.Cond.code ({ cls := "java/util/ArrayList", name := "add", desc := "(Ljava/lang/Object;)Z" } : Jvm.MethodName) prog_40_method_25_code (2 : Nat) (Option.some Jvm.ClassFile.FieldType.boolean)) ∈ lw_all := lw_g (lw_at lw_m4 207 rfl) rfl
theorem q1061 : (Jvm.Cond.methodLink "java/util/ArrayList" (131 : Nat) ({ cls := "java/util/ArrayList", name := "add", desc := "(Ljava/lang/Object;[Ljava/lang/Object;I)V" } : Jvm.MethodName)) ∈ lw_all := lw_g (lw_at lw_m4 208 rfl) rfl
theorem q1062 : (Jvm.Cond.privateMethod ({ cls := "java/util/ArrayList", name := "add", desc := "(Ljava/lang/Object;[Ljava/lang/Object;I)V" } : Jvm.MethodName)) ∈ lw_tbl := lw_at lw_m4 209 rfl
theorem q1063 : (Jvm.Cond.instanceMethod ({ cls := "java/util/ArrayList", name := "add", desc := "(Ljava/lang/Object;[Ljava/lang/Object;I)V" } : Jvm.MethodName)) ∈ lw_all := lw_g (lw_at lw_m4 210 rfl) rfl
theorem q1064 : (Jvm.Cond.code ({ cls := "java/util/ArrayList", name := "add", desc := "(Ljava/lang/Object;[Ljava/lang/Object;I)V" } : Jvm.MethodName) prog_40_method_24_code (4 : Nat) (Option.none : Option Jvm.ClassFile.FieldType)) ∈ lw_all := lw_g (lw_at lw_m4 211 rfl) rfl
theorem q1065 : (Jvm.Cond.methodLink "java/util/ArrayList" (129 : Nat) ({ cls := "java/util/ArrayList", name := "grow", desc := "()[Ljava/lang/Object;" } : Jvm.MethodName)) ∈ lw_all := lw_g (lw_at lw_m4 212 rfl) rfl
theorem q1066 : (Jvm.Cond.privateMethod ({ cls := "java/util/ArrayList", name := "grow", desc := "()[Ljava/lang/Object;" } : Jvm.MethodName)) ∈ lw_tbl := lw_at lw_m4 213 rfl
theorem q1067 : (Jvm.Cond.instanceMethod ({ cls := "java/util/ArrayList", name := "grow", desc := "()[Ljava/lang/Object;" } : Jvm.MethodName)) ∈ lw_all := lw_g (lw_at lw_m4 214 rfl) rfl
theorem q1068 : (Jvm.Cond.code ({ cls := "java/util/ArrayList", name := "grow", desc := "()[Ljava/lang/Object;" } : Jvm.MethodName) prog_40_method_7_code (1 : Nat) (Option.some (Jvm.ClassFile.FieldType.array (Jvm.ClassFile.FieldType.object "java/lang/Object")))) ∈ lw_all := lw_g (lw_at lw_m4 215 rfl) rfl
theorem q1069 : (Jvm.Cond.methodLink "java/util/ArrayList" (69 : Nat) ({ cls := "java/util/ArrayList", name := "grow", desc := "(I)[Ljava/lang/Object;" } : Jvm.MethodName)) ∈ lw_all := lw_g (lw_at lw_m4 216 rfl) rfl
theorem q1070 : (Jvm.Cond.privateMethod ({ cls := "java/util/ArrayList", name := "grow", desc := "(I)[Ljava/lang/Object;" } : Jvm.MethodName)) ∈ lw_tbl := lw_at lw_m4 217 rfl
theorem q1071 : (Jvm.Cond.instanceMethod ({ cls := "java/util/ArrayList", name := "grow", desc := "(I)[Ljava/lang/Object;" } : Jvm.MethodName)) ∈ lw_all := lw_g (lw_at lw_m4 218 rfl) rfl
theorem q1072 : (Jvm.Cond.code ({ cls := "java/util/ArrayList", name := "grow", desc := "(I)[Ljava/lang/Object;" } : Jvm.MethodName) prog_40_method_6_code (4 : Nat) (Option.some (Jvm.ClassFile.FieldType.array (Jvm.ClassFile.FieldType.object "java/lang/Object")))) ∈ lw_all := lw_g (lw_at lw_m4 219 rfl) rfl
theorem q1073 : (Jvm.Cond.methodLink "java/util/ArrayList" (73 : Nat) ({ cls := "jdk/internal/util/ArraysSupport", name := "newLength", desc := "(III)I" } : Jvm.MethodName)) ∈ lw_all := lw_g (lw_at lw_m4 220 rfl) rfl
theorem q1074 : (Jvm.Cond.methodLink "java/util/ArrayList" (66 : Nat) ({ cls := "java/util/Arrays", name := "copyOf", desc := "([Ljava/lang/Object;I)[Ljava/lang/Object;" } : Jvm.MethodName)) ∈ lw_all := lw_g (lw_at lw_m4 221 rfl) rfl
theorem q1097 : (Jvm.Cond.selects "java/util/ArrayList" ({ cls := "java/lang/Object", name := "getClass", desc := "()Ljava/lang/Class;" } : Jvm.MethodName) ({ cls := "java/lang/Object", name := "getClass", desc := "()Ljava/lang/Class;" } : Jvm.MethodName)) ∈ lw_all := lw_g (lw_at lw_m5 4 rfl) rfl
theorem q1105 : (Jvm.Cond.methodLink "java/util/ArrayList" (79 : Nat) ({ cls := "java/lang/Math", name := "max", desc := "(II)I" } : Jvm.MethodName)) ∈ lw_all := lw_g (lw_at lw_m5 12 rfl) rfl
theorem q1106 : (Jvm.Cond.classLink "java/util/ArrayList" (7 : Nat) "java/lang/Object") ∈ lw_all := lw_g (lw_at lw_m5 13 rfl) rfl
theorem q2234 : (Jvm.Cond.castable "java/util/ArrayList" "java/lang/Object") ∈ lw_tbl := lw_at lw_m9 181 rfl
theorem in_J5 : ∀ w ∈ wsJ50, w ∈ lw_all := lw_in wsJ50 [369, 365, 367] (by decide +kernel) (by decide +kernel)

/-! java/util/Objects -/
def RJ6 : String := "java/util/Objects"
abbrev cJ6_checkIndex : ByteArray := prog_44_method_17_code
def yJ6_checkIndex : MethodName := ⟨RJ6, "checkIndex", "(II)I"⟩
theorem q150 : (Jvm.Cond.initialized "java/util/Objects") ∈ lw_all := lw_g (lw_at lw_m1 17 rfl) rfl
theorem q519 : (Jvm.Cond.static ({ cls := "java/util/Objects", name := "checkIndex", desc := "(II)I" } : Jvm.MethodName)) ∈ lw_all := lw_g (lw_at lw_m2 146 rfl) rfl
theorem q520 : (Jvm.Cond.code ({ cls := "java/util/Objects", name := "checkIndex", desc := "(II)I" } : Jvm.MethodName) prog_44_method_17_code (2 : Nat) (Option.some Jvm.ClassFile.FieldType.int)) ∈ lw_all := lw_g (lw_at lw_m2 147 rfl) rfl
theorem q521 : (Jvm.Cond.methodLink "java/util/Objects" (105 : Nat) ({ cls := "jdk/internal/util/Preconditions", name := "checkIndex", desc := "(IILjava/util/function/BiFunction;)I" } : Jvm.MethodName)) ∈ lw_all := lw_g (lw_at lw_m2 148 rfl) rfl

/-! jdk/internal/util/Preconditions -/
def RJ7 : String := "jdk/internal/util/Preconditions"
abbrev cJ7_checkIndex : ByteArray := prog_48_method_11_code
def yJ7_checkIndex : MethodName := ⟨RJ7, "checkIndex", "(IILjava/util/function/BiFunction;)I"⟩
abbrev cJ7_checkFromIndexSize : ByteArray := prog_48_method_13_code
def yJ7_checkFromIndexSize : MethodName := ⟨RJ7, "checkFromIndexSize", "(IIILjava/util/function/BiFunction;)I"⟩
theorem q151 : (Jvm.Cond.initialized "jdk/internal/util/Preconditions") ∈ lw_all := lw_g (lw_at lw_m1 18 rfl) rfl
theorem q522 : (Jvm.Cond.static ({ cls := "jdk/internal/util/Preconditions", name := "checkIndex", desc := "(IILjava/util/function/BiFunction;)I" } : Jvm.MethodName)) ∈ lw_all := lw_g (lw_at lw_m2 149 rfl) rfl
theorem q523 : (Jvm.Cond.code ({ cls := "jdk/internal/util/Preconditions", name := "checkIndex", desc := "(IILjava/util/function/BiFunction;)I" } : Jvm.MethodName) prog_48_method_11_code (3 : Nat) (Option.some Jvm.ClassFile.FieldType.int)) ∈ lw_all := lw_g (lw_at lw_m2 150 rfl) rfl
theorem q673 : (Jvm.Cond.laysStatic "jdk/internal/util/Preconditions" "SIOOBE_FORMATTER" "Ljava/util/function/BiFunction;") ∈ lw_tbl := lw_at lw_m3 60 rfl
theorem q948 : (Jvm.Cond.static ({ cls := "jdk/internal/util/Preconditions", name := "checkFromIndexSize", desc := "(IIILjava/util/function/BiFunction;)I" } : Jvm.MethodName)) ∈ lw_all := lw_g (lw_at lw_m4 95 rfl) rfl
theorem q949 : (Jvm.Cond.code ({ cls := "jdk/internal/util/Preconditions", name := "checkFromIndexSize", desc := "(IIILjava/util/function/BiFunction;)I" } : Jvm.MethodName) prog_48_method_13_code (4 : Nat) (Option.some Jvm.ClassFile.FieldType.int)) ∈ lw_all := lw_g (lw_at lw_m4 96 rfl) rfl

/-! java/lang/String -/
def RJ8 : String := "java/lang/String"
def TJ8 : u_T := fun k => match k with
  | 0 => ("java/lang/String", "value", "[B", true)
  | 1 => ("java/lang/String", "coder", "B", true)
  | 2 => ("java/lang/String", "hash", "I", false)
  | _ => ("java/lang/String", "hashIsZero", "Z", false)
def tyJ8 : Nat → FieldType := fun k => match k with
  | 0 => .array .byte
  | 1 => .byte
  | 2 => .int
  | _ => .boolean
abbrev wsJ80 : List Cond := u_ws RJ8 TJ8 4
theorem nmJ8 : ∀ a, a < 4 → ∀ b, b < 4 → a ≠ b → (TJ8 a).2.1 ≠ (TJ8 b).2.1 := by decide +kernel
theorem tyJ8_ok : ∀ k, k < 4 → parseFieldDescriptor (TJ8 k).2.2.1 = some (tyJ8 k) := by decide +kernel
abbrev cJ8_length : ByteArray := prog_30_method_54_code
def yJ8_length : MethodName := ⟨RJ8, "length", "()I"⟩
abbrev cJ8_coder : ByteArray := prog_30_method_152_code
def yJ8_coder : MethodName := ⟨RJ8, "coder", "()B"⟩
abbrev cJ8_charAt : ByteArray := prog_30_method_56_code
def yJ8_charAt : MethodName := ⟨RJ8, "charAt", "(I)C"⟩
abbrev cJ8_isLatin1 : ByteArray := prog_30_method_154_code
def yJ8_isLatin1 : MethodName := ⟨RJ8, "isLatin1", "()Z"⟩
abbrev cJ8_checkIndex : ByteArray := prog_30_method_155_code
def yJ8_checkIndex : MethodName := ⟨RJ8, "checkIndex", "(II)V"⟩
abbrev cJ8_checkBoundsOffCount : ByteArray := prog_30_method_157_code
def yJ8_checkBoundsOffCount : MethodName := ⟨RJ8, "checkBoundsOffCount", "(III)I"⟩
abbrev cJ8_init : ByteArray := prog_30_method_53_code
def yJ8_init : MethodName := ⟨RJ8, "<init>", "(Ljava/lang/StringBuilder;)V"⟩
abbrev cJ8_init_2 : ByteArray := prog_30_method_150_code
def yJ8_init_2 : MethodName := ⟨RJ8, "<init>", "(Ljava/lang/AbstractStringBuilder;Ljava/lang/Void;)V"⟩
abbrev cJ8_equals : ByteArray := prog_30_method_66_code
def yJ8_equals : MethodName := ⟨RJ8, "equals", "(Ljava/lang/Object;)Z"⟩
theorem q153 : (Jvm.Cond.initialized "java/lang/String") ∈ lw_all := lw_g (lw_at lw_m1 20 rfl) rfl
theorem q649 : (Jvm.Cond.instanceMethod ({ cls := "java/lang/String", name := "length", desc := "()I" } : Jvm.MethodName)) ∈ lw_all := lw_g (lw_at lw_m3 36 rfl) rfl
theorem q650 : (Jvm.Cond.selects "java/lang/String" ({ cls := "java/lang/String", name := "length", desc := "()I" } : Jvm.MethodName) ({ cls := "java/lang/String", name := "length", desc := "()I" } : Jvm.MethodName)) ∈ lw_all := lw_g (lw_at lw_m3 37 rfl) rfl
theorem q651 : (Jvm.Cond.code ({ cls := "java/lang/String", name := "length", desc := "()I" } : Jvm.MethodName) prog_30_method_54_code (1 : Nat) (Option.some Jvm.ClassFile.FieldType.int)) ∈ lw_all := lw_g (lw_at lw_m3 38 rfl) rfl
theorem q652 : (Jvm.Cond.methodLink "java/lang/String" (335 : Nat) ({ cls := "java/lang/String", name := "coder", desc := "()B" } : Jvm.MethodName)) ∈ lw_all := lw_g (lw_at lw_m3 39 rfl) rfl
theorem q653 : (Jvm.Cond.instanceMethod ({ cls := "java/lang/String", name := "coder", desc := "()B" } : Jvm.MethodName)) ∈ lw_all := lw_g (lw_at lw_m3 40 rfl) rfl
theorem q654 : (Jvm.Cond.selects "java/lang/String" ({ cls := "java/lang/String", name := "coder", desc := "()B" } : Jvm.MethodName) ({ cls := "java/lang/String", name := "coder", desc := "()B" } : Jvm.MethodName)) ∈ lw_all := lw_g (lw_at lw_m3 41 rfl) rfl
theorem q655 : (Jvm.Cond.code ({ cls := "java/lang/String", name := "coder", desc := "()B" } : Jvm.MethodName) prog_30_method_152_code (1 : Nat) (Option.some Jvm.ClassFile.FieldType.byte)) ∈ lw_all := lw_g (lw_at lw_m3 42 rfl) rfl
theorem q656 : (Jvm.Cond.fieldLink "java/lang/String" (38 : Nat) "java/lang/String" "COMPACT_STRINGS" "Z") ∈ lw_all := lw_g (lw_at lw_m3 43 rfl) rfl
theorem q657 : (Jvm.Cond.laysStatic "java/lang/String" "COMPACT_STRINGS" "Z") ∈ lw_tbl := lw_at lw_m3 44 rfl
theorem q659 : (Jvm.Cond.instanceMethod ({ cls := "java/lang/String", name := "charAt", desc := "(I)C" } : Jvm.MethodName)) ∈ lw_all := lw_g (lw_at lw_m3 46 rfl) rfl
theorem q660 : (Jvm.Cond.selects "java/lang/String" ({ cls := "java/lang/String", name := "charAt", desc := "(I)C" } : Jvm.MethodName) ({ cls := "java/lang/String", name := "charAt", desc := "(I)C" } : Jvm.MethodName)) ∈ lw_all := lw_g (lw_at lw_m3 47 rfl) rfl
theorem q661 : (Jvm.Cond.code ({ cls := "java/lang/String", name := "charAt", desc := "(I)C" } : Jvm.MethodName) prog_30_method_56_code (2 : Nat) (Option.some Jvm.ClassFile.FieldType.char)) ∈ lw_all := lw_g (lw_at lw_m3 48 rfl) rfl
theorem q662 : (Jvm.Cond.methodLink "java/lang/String" (492 : Nat) ({ cls := "java/lang/String", name := "isLatin1", desc := "()Z" } : Jvm.MethodName)) ∈ lw_all := lw_g (lw_at lw_m3 49 rfl) rfl
theorem q663 : (Jvm.Cond.instanceMethod ({ cls := "java/lang/String", name := "isLatin1", desc := "()Z" } : Jvm.MethodName)) ∈ lw_all := lw_g (lw_at lw_m3 50 rfl) rfl
theorem q664 : (Jvm.Cond.selects "java/lang/String" ({ cls := "java/lang/String", name := "isLatin1", desc := "()Z" } : Jvm.MethodName) ({ cls := "java/lang/String", name := "isLatin1", desc := "()Z" } : Jvm.MethodName)) ∈ lw_all := lw_g (lw_at lw_m3 51 rfl) rfl
theorem q665 : (Jvm.Cond.code ({ cls := "java/lang/String", name := "isLatin1", desc := "()Z" } : Jvm.MethodName) prog_30_method_154_code (1 : Nat) (Option.some Jvm.ClassFile.FieldType.boolean)) ∈ lw_all := lw_g (lw_at lw_m3 52 rfl) rfl
theorem q666 : (Jvm.Cond.methodLink "java/lang/String" (495 : Nat) ({ cls := "java/lang/StringLatin1", name := "charAt", desc := "([BI)C" } : Jvm.MethodName)) ∈ lw_all := lw_g (lw_at lw_m3 53 rfl) rfl
theorem q670 : (Jvm.Cond.static ({ cls := "java/lang/String", name := "checkIndex", desc := "(II)V" } : Jvm.MethodName)) ∈ lw_all := lw_g (lw_at lw_m3 57 rfl) rfl
theorem q671 : (Jvm.Cond.code ({ cls := "java/lang/String", name := "checkIndex", desc := "(II)V" } : Jvm.MethodName) prog_30_method_155_code (2 : Nat) (Option.none : Option Jvm.ClassFile.FieldType)) ∈ lw_all := lw_g (lw_at lw_m3 58 rfl) rfl
theorem q672 : (Jvm.Cond.fieldLink "java/lang/String" (1053 : Nat) "jdk/internal/util/Preconditions" "SIOOBE_FORMATTER" "Ljava/util/function/BiFunction;") ∈ lw_all := lw_g (lw_at lw_m3 59 rfl) rfl
theorem q674 : (Jvm.Cond.methodLink "java/lang/String" (1059 : Nat) ({ cls := "jdk/internal/util/Preconditions", name := "checkIndex", desc := "(IILjava/util/function/BiFunction;)I" } : Jvm.MethodName)) ∈ lw_all := lw_g (lw_at lw_m3 61 rfl) rfl
theorem q675 : (Jvm.Cond.methodLink "java/lang/String" (498 : Nat) ({ cls := "java/lang/StringUTF16", name := "charAt", desc := "([BI)C" } : Jvm.MethodName)) ∈ lw_all := lw_g (lw_at lw_m3 62 rfl) rfl
theorem q870 : (Jvm.Cond.fieldLink "java/lang/String" (1048 : Nat) "java/lang/AbstractStringBuilder" "maybeLatin1" "Z") ∈ lw_all := lw_g (lw_at lw_m4 17 rfl) rfl
theorem q945 : (Jvm.Cond.static ({ cls := "java/lang/String", name := "checkBoundsOffCount", desc := "(III)I" } : Jvm.MethodName)) ∈ lw_all := lw_g (lw_at lw_m4 92 rfl) rfl
theorem q946 : (Jvm.Cond.code ({ cls := "java/lang/String", name := "checkBoundsOffCount", desc := "(III)I" } : Jvm.MethodName) prog_30_method_157_code (3 : Nat) (Option.some Jvm.ClassFile.FieldType.int)) ∈ lw_all := lw_g (lw_at lw_m4 93 rfl) rfl
theorem q947 : (Jvm.Cond.methodLink "java/lang/String" (1065 : Nat) ({ cls := "jdk/internal/util/Preconditions", name := "checkFromIndexSize", desc := "(IIILjava/util/function/BiFunction;)I" } : Jvm.MethodName)) ∈ lw_all := lw_g (lw_at lw_m4 94 rfl) rfl
theorem q961 : (Jvm.Cond.instantiable "java/lang/String" (4 : Nat)) ∈ lw_all := lw_g (lw_at lw_m4 108 rfl) rfl
theorem q963 : (Jvm.Cond.instanceMethod ({ cls := "java/lang/String", name := "<init>", desc := "(Ljava/lang/StringBuilder;)V" } : Jvm.MethodName)) ∈ lw_all := lw_g (lw_at lw_m4 110 rfl) rfl
theorem q964 : (Jvm.Cond.code ({ cls := "java/lang/String", name := "<init>", desc := "(Ljava/lang/StringBuilder;)V" } : Jvm.MethodName) prog_30_method_53_code (2 : Nat) (Option.none : Option Jvm.ClassFile.FieldType)) ∈ lw_all := lw_g (lw_at lw_m4 111 rfl) rfl
theorem q965 : (Jvm.Cond.methodLink "java/lang/String" (489 : Nat) ({ cls := "java/lang/String", name := "<init>", desc := "(Ljava/lang/AbstractStringBuilder;Ljava/lang/Void;)V" } : Jvm.MethodName)) ∈ lw_all := lw_g (lw_at lw_m4 112 rfl) rfl
theorem q966 : (Jvm.Cond.instanceMethod ({ cls := "java/lang/String", name := "<init>", desc := "(Ljava/lang/AbstractStringBuilder;Ljava/lang/Void;)V" } : Jvm.MethodName)) ∈ lw_all := lw_g (lw_at lw_m4 113 rfl) rfl
theorem q967 : (Jvm.Cond.code ({ cls := "java/lang/String", name := "<init>", desc := "(Ljava/lang/AbstractStringBuilder;Ljava/lang/Void;)V" } : Jvm.MethodName) prog_30_method_150_code (5 : Nat) (Option.none : Option Jvm.ClassFile.FieldType)) ∈ lw_all := lw_g (lw_at lw_m4 114 rfl) rfl
theorem q968 : (Jvm.Cond.methodLink "java/lang/String" (1 : Nat) ({ cls := "java/lang/Object", name := "<init>", desc := "()V" } : Jvm.MethodName)) ∈ lw_all := lw_g (lw_at lw_m4 115 rfl) rfl
theorem q969 : (Jvm.Cond.methodLink "java/lang/String" (552 : Nat) ({ cls := "java/lang/AbstractStringBuilder", name := "getValue", desc := "()[B" } : Jvm.MethodName)) ∈ lw_all := lw_g (lw_at lw_m4 116 rfl) rfl
theorem q974 : (Jvm.Cond.methodLink "java/lang/String" (549 : Nat) ({ cls := "java/lang/AbstractStringBuilder", name := "length", desc := "()I" } : Jvm.MethodName)) ∈ lw_all := lw_g (lw_at lw_m4 121 rfl) rfl
theorem q982 : (Jvm.Cond.methodLink "java/lang/String" (1047 : Nat) ({ cls := "java/lang/AbstractStringBuilder", name := "isLatin1", desc := "()Z" } : Jvm.MethodName)) ∈ lw_all := lw_g (lw_at lw_m4 129 rfl) rfl
theorem q983 : (Jvm.Cond.methodLink "java/lang/String" (54 : Nat) ({ cls := "java/util/Arrays", name := "copyOfRange", desc := "([BII)[B" } : Jvm.MethodName)) ∈ lw_all := lw_g (lw_at lw_m4 130 rfl) rfl
theorem q992 : (Jvm.Cond.methodLink "java/lang/String" (1051 : Nat) ({ cls := "java/lang/StringUTF16", name := "compress", desc := "([BII)[B" } : Jvm.MethodName)) ∈ lw_all := lw_g (lw_at lw_m4 139 rfl) rfl
theorem q999 : (Jvm.Cond.methodLink "java/lang/String" (47 : Nat) ({ cls := "java/lang/StringUTF16", name := "coderFromArrayLen", desc := "([BI)B" } : Jvm.MethodName)) ∈ lw_all := lw_g (lw_at lw_m4 146 rfl) rfl
theorem q1002 : (Jvm.Cond.fieldLink "java/lang/String" (9 : Nat) "java/lang/String" "value" "[B") ∈ lw_all := lw_g (lw_at lw_m4 149 rfl) rfl
theorem q1003 : (Jvm.Cond.fieldLink "java/lang/String" (15 : Nat) "java/lang/String" "coder" "B") ∈ lw_all := lw_g (lw_at lw_m4 150 rfl) rfl
theorem q1004 : (Jvm.Cond.laysFinal "java/lang/String" "java/lang/String" "value" "[B") ∈ lw_all := lw_g (lw_at lw_m4 151 rfl) rfl
theorem q1005 : (Jvm.Cond.soleField "java/lang/String" "value") ∈ lw_all := lw_g (lw_at lw_m4 152 rfl) rfl
theorem q1006 : (Jvm.Cond.laysFinal "java/lang/String" "java/lang/String" "coder" "B") ∈ lw_all := lw_g (lw_at lw_m4 153 rfl) rfl
theorem q1007 : (Jvm.Cond.soleField "java/lang/String" "coder") ∈ lw_all := lw_g (lw_at lw_m4 154 rfl) rfl
theorem q1008 : (Jvm.Cond.lays "java/lang/String" "java/lang/String" "hash" "I") ∈ lw_all := lw_g (lw_at lw_m4 155 rfl) rfl
theorem q1009 : (Jvm.Cond.soleField "java/lang/String" "hash") ∈ lw_all := lw_g (lw_at lw_m4 156 rfl) rfl
theorem q1010 : (Jvm.Cond.lays "java/lang/String" "java/lang/String" "hashIsZero" "Z") ∈ lw_all := lw_g (lw_at lw_m4 157 rfl) rfl
theorem q1011 : (Jvm.Cond.soleField "java/lang/String" "hashIsZero") ∈ lw_all := lw_g (lw_at lw_m4 158 rfl) rfl
theorem q1012 : (Jvm.Cond.superclass "java/lang/String" "java/lang/Object") ∈ lw_all := lw_g (lw_at lw_m4 159 rfl) rfl
theorem q1024 : (Jvm.Cond.instanceMethod ({ cls := "java/lang/String", name := "equals", desc := "(Ljava/lang/Object;)Z" } : Jvm.MethodName)) ∈ lw_all := lw_g (lw_at lw_m4 171 rfl) rfl
theorem q1025 : (Jvm.Cond.selects "java/lang/String" ({ cls := "java/lang/String", name := "equals", desc := "(Ljava/lang/Object;)Z" } : Jvm.MethodName) ({ cls := "java/lang/String", name := "equals", desc := "(Ljava/lang/Object;)Z" } : Jvm.MethodName)) ∈ lw_all := lw_g (lw_at lw_m4 172 rfl) rfl
theorem q1026 : (Jvm.Cond.code ({ cls := "java/lang/String", name := "equals", desc := "(Ljava/lang/Object;)Z" } : Jvm.MethodName) prog_30_method_66_code (3 : Nat) (Option.some Jvm.ClassFile.FieldType.boolean)) ∈ lw_all := lw_g (lw_at lw_m4 173 rfl) rfl
theorem q1027 : (Jvm.Cond.classLink "java/lang/String" (10 : Nat) "java/lang/String") ∈ lw_all := lw_g (lw_at lw_m4 174 rfl) rfl
theorem q1028 : (Jvm.Cond.methodLink "java/lang/String" (541 : Nat) ({ cls := "java/lang/StringLatin1", name := "equals", desc := "([B[B)Z" } : Jvm.MethodName)) ∈ lw_all := lw_g (lw_at lw_m4 175 rfl) rfl
theorem q1095 : (Jvm.Cond.selects "java/lang/String" ({ cls := "java/lang/Object", name := "getClass", desc := "()Ljava/lang/Class;" } : Jvm.MethodName) ({ cls := "java/lang/Object", name := "getClass", desc := "()Ljava/lang/Class;" } : Jvm.MethodName)) ∈ lw_all := lw_g (lw_at lw_m5 2 rfl) rfl
theorem q2225 : (Jvm.Cond.castable "java/lang/String" "java/lang/Object") ∈ lw_tbl := lw_at lw_m9 172 rfl
theorem in_J8 : ∀ w ∈ wsJ80, w ∈ lw_all := lw_in wsJ80 [1004, 1006, 1008, 1010] (by decide +kernel) (by decide +kernel)

/-! java/lang/StringLatin1 -/
def RJ9 : String := "java/lang/StringLatin1"
abbrev cJ9_charAt : ByteArray := prog_32_method_2_code
def yJ9_charAt : MethodName := ⟨RJ9, "charAt", "([BI)C"⟩
abbrev cJ9_canEncode : ByteArray := prog_32_method_3_code
def yJ9_canEncode : MethodName := ⟨RJ9, "canEncode", "(C)Z"⟩
abbrev cJ9_inflate : ByteArray := prog_32_method_50_code
def yJ9_inflate : MethodName := ⟨RJ9, "inflate", "([BI[BII)V"⟩
abbrev cJ9_equals : ByteArray := prog_32_method_13_code
def yJ9_equals : MethodName := ⟨RJ9, "equals", "([B[B)Z"⟩
theorem q154 : (Jvm.Cond.initialized "java/lang/StringLatin1") ∈ lw_all := lw_g (lw_at lw_m1 21 rfl) rfl
theorem q667 : (Jvm.Cond.static ({ cls := "java/lang/StringLatin1", name := "charAt", desc := "([BI)C" } : Jvm.MethodName)) ∈ lw_all := lw_g (lw_at lw_m3 54 rfl) rfl
theorem q668 : (Jvm.Cond.code ({ cls := "java/lang/StringLatin1", name := "charAt", desc := "([BI)C" } : Jvm.MethodName) prog_32_method_2_code (2 : Nat) (Option.some Jvm.ClassFile.FieldType.char)) ∈ lw_all := lw_g (lw_at lw_m3 55 rfl) rfl
theorem q669 : (Jvm.Cond.methodLink "java/lang/StringLatin1" (9 : Nat) ({ cls := "java/lang/String", name := "checkIndex", desc := "(II)V" } : Jvm.MethodName)) ∈ lw_all := lw_g (lw_at lw_m3 56 rfl) rfl
theorem q929 : (Jvm.Cond.static ({ cls := "java/lang/StringLatin1", name := "canEncode", desc := "(C)Z" } : Jvm.MethodName)) ∈ lw_all := lw_g (lw_at lw_m4 76 rfl) rfl
theorem q930 : (Jvm.Cond.code ({ cls := "java/lang/StringLatin1", name := "canEncode", desc := "(C)Z" } : Jvm.MethodName) prog_32_method_3_code (1 : Nat) (Option.some Jvm.ClassFile.FieldType.boolean)) ∈ lw_all := lw_g (lw_at lw_m4 77 rfl) rfl
theorem q936 : (Jvm.Cond.static ({ cls := "java/lang/StringLatin1", name := "inflate", desc := "([BI[BII)V" } : Jvm.MethodName)) ∈ lw_all := lw_g (lw_at lw_m4 83 rfl) rfl
theorem q937 : (Jvm.Cond.code ({ cls := "java/lang/StringLatin1", name := "inflate", desc := "([BI[BII)V" } : Jvm.MethodName) prog_32_method_50_code (5 : Nat) (Option.none : Option Jvm.ClassFile.FieldType)) ∈ lw_all := lw_g (lw_at lw_m4 84 rfl) rfl
theorem q938 : (Jvm.Cond.methodLink "java/lang/StringLatin1" (240 : Nat) ({ cls := "java/lang/StringUTF16", name := "inflate", desc := "([BI[BII)V" } : Jvm.MethodName)) ∈ lw_all := lw_g (lw_at lw_m4 85 rfl) rfl
theorem q1029 : (Jvm.Cond.static ({ cls := "java/lang/StringLatin1", name := "equals", desc := "([B[B)Z" } : Jvm.MethodName)) ∈ lw_all := lw_g (lw_at lw_m4 176 rfl) rfl
theorem q1030 : (Jvm.Cond.code ({ cls := "java/lang/StringLatin1", name := "equals", desc := "([B[B)Z" } : Jvm.MethodName) prog_32_method_13_code (3 : Nat) (Option.some Jvm.ClassFile.FieldType.boolean)) ∈ lw_all := lw_g (lw_at lw_m4 177 rfl) rfl

/-! HairRope -/
def RX0 : String := "HairRope"
def TX0 : u_T := fun k => match k with
  | 0 => ("HairRope", "fault", "LHairRope$Fault;", true)
  | 1 => ("HairRope", "tokens", "LHairRope$Tokens;", true)
  | 2 => ("HairRope", "parser", "LHairRope$Parser;", true)
  | 3 => ("HairRope", "text", "LHairRope$Text;", false)
  | 4 => ("HairRope", "place", "I", false)
  | 5 => ("HairRope", "undos", "I", false)
  | 6 => ("HairRope", "undoAt", "I", false)
  | 7 => ("HairRope", "village", "LHairRope$Village;", true)
  | 8 => ("HairRope", "trial", "LHairRope$Village;", true)
  | 9 => ("HairRope", "past", "[LHairRope$Village;", true)
  | 10 => ("HairRope", "slots", "[LHairRope$Village;", true)
  | 11 => ("HairRope", "drawn", "LHairRope$Sky;", true)
  | 12 => ("HairRope", "clear", "LHairRope$Sky;", true)
  | 13 => ("HairRope", "held", "[Z", true)
  | 14 => ("HairRope", "ways", "[[I", true)
  | 15 => ("HairRope", "join", "[[I", true)
  | 16 => ("HairRope", "sum", "[I", true)
  | 17 => ("HairRope", "found", "[I", true)
  | 18 => ("HairRope", "row", "[I", true)
  | 19 => ("HairRope", "tolds", "I", false)
  | 20 => ("HairRope", "fits", "I", false)
  | 21 => ("HairRope", "first", "I", false)
  | 22 => ("HairRope", "toldAt", "[I", true)
  | 23 => ("HairRope", "toldBy", "[I", true)
  | 24 => ("HairRope", "toldSo", "[Z", true)
  | 25 => ("HairRope", "felt", "[I", true)
  | _ => ("HairRope", "often", "[[I", true)
def tyX0 : Nat → FieldType := fun k => match k with
  | 0 => .object "HairRope$Fault"
  | 1 => .object "HairRope$Tokens"
  | 2 => .object "HairRope$Parser"
  | 3 => .object "HairRope$Text"
  | 4 => .int
  | 5 => .int
  | 6 => .int
  | 7 => .object "HairRope$Village"
  | 8 => .object "HairRope$Village"
  | 9 => .array (.object "HairRope$Village")
  | 10 => .array (.object "HairRope$Village")
  | 11 => .object "HairRope$Sky"
  | 12 => .object "HairRope$Sky"
  | 13 => .array .boolean
  | 14 => .array (.array .int)
  | 15 => .array (.array .int)
  | 16 => .array .int
  | 17 => .array .int
  | 18 => .array .int
  | 19 => .int
  | 20 => .int
  | 21 => .int
  | 22 => .array .int
  | 23 => .array .int
  | 24 => .array .boolean
  | 25 => .array .int
  | _ => .array (.array .int)
abbrev wsX00 : List Cond := u_ws RX0 TX0 27
set_option maxRecDepth 100000 in
theorem nmX0 : ∀ a, a < 27 → ∀ b, b < 27 → a ≠ b → (TX0 a).2.1 ≠ (TX0 b).2.1 := by decide +kernel
set_option maxRecDepth 100000 in
theorem tyX0_ok : ∀ k, k < 27 → parseFieldDescriptor (TX0 k).2.2.1 = some (tyX0 k) := by decide +kernel
abbrev cX0_init : ByteArray := prog_1_method_3_code
def yX0_init : MethodName := ⟨RX0, "<init>", "()V"⟩
abbrev cX0_feed : ByteArray := prog_1_method_4_code
def yX0_feed : MethodName := ⟨RX0, "feed", "(IIIII)I"⟩
abbrev cX0_typed : ByteArray := prog_1_method_5_code
def yX0_typed : MethodName := ⟨RX0, "typed", "(I)V"⟩
abbrev cX0_back : ByteArray := prog_1_method_6_code
def yX0_back : MethodName := ⟨RX0, "back", "(I)I"⟩
abbrev cX0_read : ByteArray := prog_1_method_7_code
def yX0_read : MethodName := ⟨RX0, "read", "()I"⟩
abbrev cX0_place : ByteArray := prog_1_method_8_code
def yX0_place : MethodName := ⟨RX0, "place", "()I"⟩
abbrev cX0_house : ByteArray := prog_1_method_16_code
def yX0_house : MethodName := ⟨RX0, "house", "(II)I"⟩
abbrev cX0_isHouse : ByteArray := prog_1_method_11_code
def yX0_isHouse : MethodName := ⟨RX0, "isHouse", "(I)Z"⟩
abbrev cX0_houses : ByteArray := prog_1_method_10_code
def yX0_houses : MethodName := ⟨RX0, "houses", "()I"⟩
abbrev cX0_isIn : ByteArray := prog_1_method_9_code
def yX0_isIn : MethodName := ⟨RX0, "isIn", "(III)Z"⟩
abbrev cX0_likes : ByteArray := prog_1_method_17_code
def yX0_likes : MethodName := ⟨RX0, "likes", "(II)I"⟩
abbrev cX0_areTwo : ByteArray := prog_1_method_12_code
def yX0_areTwo : MethodName := ⟨RX0, "areTwo", "(II)Z"⟩
abbrev cX0_joins : ByteArray := prog_1_method_18_code
def yX0_joins : MethodName := ⟨RX0, "joins", "(II)I"⟩
abbrev cX0_at : ByteArray := prog_1_method_19_code
def yX0_at : MethodName := ⟨RX0, "at", "(I)I"⟩
abbrev cX0_isPlace : ByteArray := prog_1_method_13_code
def yX0_isPlace : MethodName := ⟨RX0, "isPlace", "(I)Z"⟩
abbrev cX0_splice : ByteArray := prog_1_method_21_code
def yX0_splice : MethodName := ⟨RX0, "splice", "(I)I"⟩
abbrev cX0_keeps : ByteArray := prog_1_method_20_code
def yX0_keeps : MethodName := ⟨RX0, "keeps", "()V"⟩
abbrev cX0_unsplice : ByteArray := prog_1_method_22_code
def yX0_unsplice : MethodName := ⟨RX0, "unsplice", "()I"⟩
abbrev cX0_haul : ByteArray := prog_1_method_24_code
def yX0_haul : MethodName := ⟨RX0, "haul", "(I)I"⟩
abbrev cX0_isHaul : ByteArray := prog_1_method_15_code
def yX0_isHaul : MethodName := ⟨RX0, "isHaul", "(I)Z"⟩
abbrev cX0_isLong : ByteArray := prog_1_method_23_code
def yX0_isLong : MethodName := ⟨RX0, "isLong", "()Z"⟩
abbrev cX0_years : ByteArray := prog_1_method_26_code
def yX0_years : MethodName := ⟨RX0, "years", "(I)I"⟩
abbrev cX0_isAhead : ByteArray := prog_1_method_14_code
def yX0_isAhead : MethodName := ⟨RX0, "isAhead", "(I)Z"⟩
abbrev cX0_runs : ByteArray := prog_1_method_25_code
def yX0_runs : MethodName := ⟨RX0, "runs", "(LHairRope$Village;ILHairRope$Sky;)V"⟩
abbrev cX0_lot : ByteArray := prog_1_method_2_code
def yX0_lot : MethodName := ⟨RX0, "lot", "(III)I"⟩
abbrev cX0_mixed : ByteArray := prog_1_method_1_code
def yX0_mixed : MethodName := ⟨RX0, "mixed", "(II)I"⟩
abbrev cX0_undo : ByteArray := prog_1_method_27_code
def yX0_undo : MethodName := ⟨RX0, "undo", "()Z"⟩
abbrev cX0_most : ByteArray := prog_1_method_29_code
def yX0_most : MethodName := ⟨RX0, "most", "()I"⟩
abbrev cX0_mostOf : ByteArray := prog_1_method_28_code
def yX0_mostOf : MethodName := ⟨RX0, "mostOf", "(LHairRope$Village;)I"⟩
abbrev cX0_lasts : ByteArray := prog_1_method_30_code
def yX0_lasts : MethodName := ⟨RX0, "lasts", "(I)I"⟩
abbrev cX0_harvest : ByteArray := prog_1_method_32_code
def yX0_harvest : MethodName := ⟨RX0, "harvest", "(III)I"⟩
abbrev cX0_givenBy : ByteArray := prog_1_method_31_code
def yX0_givenBy : MethodName := ⟨RX0, "givenBy", "(III)I"⟩
abbrev cX0_swap : ByteArray := prog_1_method_33_code
def yX0_swap : MethodName := ⟨RX0, "swap", "()I"⟩
abbrev cX0_quarrel : ByteArray := prog_1_method_35_code
def yX0_quarrel : MethodName := ⟨RX0, "quarrel", "(I)I"⟩
abbrev cX0_joinAt : ByteArray := prog_1_method_34_code
def yX0_joinAt : MethodName := ⟨RX0, "joinAt", "(I)I"⟩
abbrev cX0_weakest : ByteArray := prog_1_method_36_code
def yX0_weakest : MethodName := ⟨RX0, "weakest", "(I)I"⟩
abbrev cX0_below : ByteArray := prog_1_method_37_code
def yX0_below : MethodName := ⟨RX0, "below", "(I)I"⟩
abbrev cX0_share : ByteArray := prog_1_method_38_code
def yX0_share : MethodName := ⟨RX0, "share", "(I)I"⟩
abbrev cX0_greyest : ByteArray := prog_1_method_39_code
def yX0_greyest : MethodName := ⟨RX0, "greyest", "(I)I"⟩
abbrev cX0_orders : ByteArray := prog_1_method_46_code
def yX0_orders : MethodName := ⟨RX0, "orders", "(I)I"⟩
abbrev cX0_laysJoins : ByteArray := prog_1_method_40_code
def yX0_laysJoins : MethodName := ⟨RX0, "laysJoins", "(LHairRope$Village;)V"⟩
abbrev cX0_laysOrders : ByteArray := prog_1_method_45_code
def yX0_laysOrders : MethodName := ⟨RX0, "laysOrders", "(LHairRope$Village;I)I"⟩
abbrev cX0_laysWays : ByteArray := prog_1_method_42_code
def yX0_laysWays : MethodName := ⟨RX0, "laysWays", "(LHairRope$Village;I)V"⟩
abbrev cX0_allHouses : ByteArray := prog_1_method_41_code
def yX0_allHouses : MethodName := ⟨RX0, "allHouses", "()I"⟩
abbrev cX0_waysOf : ByteArray := prog_1_method_43_code
def yX0_waysOf : MethodName := ⟨RX0, "waysOf", "(LHairRope$Village;III)I"⟩
abbrev cX0_reaching : ByteArray := prog_1_method_44_code
def yX0_reaching : MethodName := ⟨RX0, "reaching", "(I)I"⟩
abbrev cX0_peak : ByteArray := prog_1_method_47_code
def yX0_peak : MethodName := ⟨RX0, "peak", "()I"⟩
abbrev cX0_fewest : ByteArray := prog_1_method_50_code
def yX0_fewest : MethodName := ⟨RX0, "fewest", "(II)I"⟩
abbrev cX0_laysRow : ByteArray := prog_1_method_48_code
def yX0_laysRow : MethodName := ⟨RX0, "laysRow", "(II)V"⟩
abbrev cX0_isLower : ByteArray := prog_1_method_49_code
def yX0_isLower : MethodName := ⟨RX0, "isLower", "(I)Z"⟩
abbrev cX0_needed : ByteArray := prog_1_method_51_code
def yX0_needed : MethodName := ⟨RX0, "needed", "(I)I"⟩
abbrev cX0_soon : ByteArray := prog_1_method_52_code
def yX0_soon : MethodName := ⟨RX0, "soon", "(I)I"⟩
abbrev cX0_peace : ByteArray := prog_1_method_57_code
def yX0_peace : MethodName := ⟨RX0, "peace", "(II)I"⟩
abbrev cX0_isPeace : ByteArray := prog_1_method_55_code
def yX0_isPeace : MethodName := ⟨RX0, "isPeace", "(III)Z"⟩
abbrev cX0_befriends : ByteArray := prog_1_method_54_code
def yX0_befriends : MethodName := ⟨RX0, "befriends", "(I)V"⟩
abbrev cX0_peaceBy : ByteArray := prog_1_method_56_code
def yX0_peaceBy : MethodName := ⟨RX0, "peaceBy", "(IIII)I"⟩
abbrev cX0_twoOf : ByteArray := prog_1_method_53_code
def yX0_twoOf : MethodName := ⟨RX0, "twoOf", "(I)I"⟩
abbrev cX0_rests : ByteArray := prog_1_method_62_code
def yX0_rests : MethodName := ⟨RX0, "rests", "(I)I"⟩
abbrev cX0_givers : ByteArray := prog_1_method_58_code
def yX0_givers : MethodName := ⟨RX0, "givers", "()I"⟩
abbrev cX0_isRest : ByteArray := prog_1_method_61_code
def yX0_isRest : MethodName := ⟨RX0, "isRest", "(I)Z"⟩
abbrev cX0_worth : ByteArray := prog_1_method_60_code
def yX0_worth : MethodName := ⟨RX0, "worth", "(II)I"⟩
abbrev cX0_isEnough : ByteArray := prog_1_method_59_code
def yX0_isEnough : MethodName := ⟨RX0, "isEnough", "(I)Z"⟩
abbrev cX0_pivots : ByteArray := prog_1_method_63_code
def yX0_pivots : MethodName := ⟨RX0, "pivots", "()I"⟩
abbrev cX0_then : ByteArray := prog_1_method_64_code
def yX0_then : MethodName := ⟨RX0, "then", "(III)I"⟩
abbrev cX0_year : ByteArray := prog_1_method_65_code
def yX0_year : MethodName := ⟨RX0, "year", "(IIII)I"⟩
abbrev cX0_tell : ByteArray := prog_1_method_66_code
def yX0_tell : MethodName := ⟨RX0, "tell", "(IIZ)I"⟩
abbrev cX0_forget : ByteArray := prog_1_method_67_code
def yX0_forget : MethodName := ⟨RX0, "forget", "()I"⟩
abbrev cX0_rows : ByteArray := prog_1_method_71_code
def yX0_rows : MethodName := ⟨RX0, "rows", "(III)I"⟩
abbrev cX0_laysFits : ByteArray := prog_1_method_70_code
def yX0_laysFits : MethodName := ⟨RX0, "laysFits", "(II)V"⟩
abbrev cX0_rowsFit : ByteArray := prog_1_method_69_code
def yX0_rowsFit : MethodName := ⟨RX0, "rowsFit", "(IIIII)V"⟩
abbrev cX0_isSo : ByteArray := prog_1_method_68_code
def yX0_isSo : MethodName := ⟨RX0, "isSo", "(II)Z"⟩
abbrev cX0_feel : ByteArray := prog_1_method_72_code
def yX0_feel : MethodName := ⟨RX0, "feel", "(III)I"⟩
abbrev cX0_hold : ByteArray := prog_1_method_73_code
def yX0_hold : MethodName := ⟨RX0, "hold", "(I)Z"⟩
abbrev cX0_restore : ByteArray := prog_1_method_74_code
def yX0_restore : MethodName := ⟨RX0, "restore", "(I)Z"⟩
abbrev cX0_count : ByteArray := prog_1_method_75_code
def yX0_count : MethodName := ⟨RX0, "count", "(I)I"⟩
theorem q134 : (Jvm.Cond.initialized "HairRope") ∈ lw_all := lw_g (lw_at lw_m1 1 rfl) rfl
theorem q170 : (Jvm.Cond.instantiable "HairRope" (27 : Nat)) ∈ lw_all := lw_g (lw_at lw_m1 37 rfl) rfl
theorem q172 : (Jvm.Cond.instanceMethod ({ cls := "HairRope", name := "<init>", desc := "()V" } : Jvm.MethodName)) ∈ lw_all := lw_g (lw_at lw_m1 39 rfl) rfl
theorem q173 : (Jvm.Cond.code ({ cls := "HairRope", name := "<init>", desc := "()V" } : Jvm.MethodName) prog_1_method_3_code (2 : Nat) (Option.none : Option Jvm.ClassFile.FieldType)) ∈ lw_all := lw_g (lw_at lw_m1 40 rfl) rfl
theorem q174 : (Jvm.Cond.methodLink "HairRope" (8 : Nat) ({ cls := "java/lang/Object", name := "<init>", desc := "()V" } : Jvm.MethodName)) ∈ lw_all := lw_g (lw_at lw_m1 41 rfl) rfl
theorem q177 : (Jvm.Cond.classLink "HairRope" (14 : Nat) "HairRope$Fault") ∈ lw_all := lw_g (lw_at lw_m1 44 rfl) rfl
theorem q216 : (Jvm.Cond.methodLink "HairRope" (16 : Nat) ({ cls := "HairRope$Fault", name := "<init>", desc := "()V" } : Jvm.MethodName)) ∈ lw_all := lw_g (lw_at lw_m1 83 rfl) rfl
theorem q230 : (Jvm.Cond.fieldLink "HairRope" (140 : Nat) "HairRope$Fault" "number" "I") ∈ lw_all := lw_g (lw_at lw_m1 97 rfl) rfl
theorem q232 : (Jvm.Cond.fieldLink "HairRope" (143 : Nat) "HairRope$Fault" "place" "I") ∈ lw_all := lw_g (lw_at lw_m1 99 rfl) rfl
theorem q251 : (Jvm.Cond.classLink "HairRope" (21 : Nat) "HairRope$Tokens") ∈ lw_all := lw_g (lw_at lw_m1 118 rfl) rfl
theorem q253 : (Jvm.Cond.methodLinkNest "HairRope" (23 : Nat) ({ cls := "HairRope$Tokens", name := "<init>", desc := "()V" } : Jvm.MethodName) "HairRope") ∈ lw_tbl := lw_at lw_m1 120 rfl
theorem q283 : (Jvm.Cond.fieldLink "HairRope" (126 : Nat) "HairRope$Tokens" "tape" "[B") ∈ lw_all := lw_g (lw_at lw_m1 150 rfl) rfl
theorem q285 : (Jvm.Cond.fieldLink "HairRope" (119 : Nat) "HairRope$Tokens" "taped" "I") ∈ lw_all := lw_g (lw_at lw_m1 152 rfl) rfl
theorem q312 : (Jvm.Cond.classLink "HairRope" (28 : Nat) "HairRope$Parser") ∈ lw_all := lw_g (lw_at lw_m1 179 rfl) rfl
theorem q314 : (Jvm.Cond.methodLink "HairRope" (30 : Nat) ({ cls := "HairRope$Parser", name := "<init>", desc := "(LHairRope$Tokens;LHairRope$Fault;)V" } : Jvm.MethodName)) ∈ lw_all := lw_g (lw_at lw_m1 181 rfl) rfl
theorem q340 : (Jvm.Cond.classLink "HairRope" (37 : Nat) "HairRope$Text") ∈ lw_all := lw_g (lw_at lw_m1 207 rfl) rfl
theorem q342 : (Jvm.Cond.methodLink "HairRope" (39 : Nat) ({ cls := "HairRope$Text", name := "<init>", desc := "()V" } : Jvm.MethodName)) ∈ lw_all := lw_g (lw_at lw_m1 209 rfl) rfl
theorem q378 : (Jvm.Cond.fieldLink "HairRope" (144 : Nat) "HairRope$Text" "houses" "Ljava/util/ArrayList;") ∈ lw_all := lw_g (lw_at lw_m2 5 rfl) rfl
theorem q384 : (Jvm.Cond.fieldLink "HairRope" (205 : Nat) "HairRope$Text" "like" "[[I") ∈ lw_all := lw_g (lw_at lw_m2 11 rfl) rfl
theorem q390 : (Jvm.Cond.fieldLink "HairRope" (246 : Nat) "HairRope$Text" "well" "I") ∈ lw_all := lw_g (lw_at lw_m2 17 rfl) rfl
theorem q393 : (Jvm.Cond.fieldLink "HairRope" (356 : Nat) "HairRope$Text" "water" "I") ∈ lw_all := lw_g (lw_at lw_m2 20 rfl) rfl
theorem q398 : (Jvm.Cond.fieldLink "HairRope" (368 : Nat) "HairRope$Text" "seed" "I") ∈ lw_all := lw_g (lw_at lw_m2 25 rfl) rfl
theorem q417 : (Jvm.Cond.classLink "HairRope" (48 : Nat) "HairRope$Village") ∈ lw_all := lw_g (lw_at lw_m2 44 rfl) rfl
theorem q419 : (Jvm.Cond.methodLinkNest "HairRope" (50 : Nat) ({ cls := "HairRope$Village", name := "<init>", desc := "()V" } : Jvm.MethodName) "HairRope") ∈ lw_tbl := lw_at lw_m2 46 rfl
theorem q440 : (Jvm.Cond.fieldLink "HairRope" (167 : Nat) "HairRope$Village" "hair" "[I") ∈ lw_all := lw_g (lw_at lw_m2 67 rfl) rfl
theorem q442 : (Jvm.Cond.fieldLink "HairRope" (183 : Nat) "HairRope$Village" "plait" "[I") ∈ lw_all := lw_g (lw_at lw_m2 69 rfl) rfl
theorem q444 : (Jvm.Cond.fieldLink "HairRope" (186 : Nat) "HairRope$Village" "strong" "[I") ∈ lw_all := lw_g (lw_at lw_m2 71 rfl) rfl
theorem q446 : (Jvm.Cond.fieldLink "HairRope" (198 : Nat) "HairRope$Village" "given" "[I") ∈ lw_all := lw_g (lw_at lw_m2 73 rfl) rfl
theorem q448 : (Jvm.Cond.fieldLink "HairRope" (215 : Nat) "HairRope$Village" "rope" "[I") ∈ lw_all := lw_g (lw_at lw_m2 75 rfl) rfl
theorem q450 : (Jvm.Cond.fieldLink "HairRope" (164 : Nat) "HairRope$Village" "many" "I") ∈ lw_all := lw_g (lw_at lw_m2 77 rfl) rfl
theorem q453 : (Jvm.Cond.fieldLink "HairRope" (272 : Nat) "HairRope$Village" "year" "I") ∈ lw_all := lw_g (lw_at lw_m2 80 rfl) rfl
theorem q455 : (Jvm.Cond.fieldLink "HairRope" (259 : Nat) "HairRope$Village" "drawn" "I") ∈ lw_all := lw_g (lw_at lw_m2 82 rfl) rfl
theorem q458 : (Jvm.Cond.fieldLink "HairRope" (371 : Nat) "HairRope$Village" "seed" "I") ∈ lw_all := lw_g (lw_at lw_m2 85 rfl) rfl
theorem q488 : (Jvm.Cond.classLink "HairRope" (65 : Nat) "HairRope$Drawn") ∈ lw_all := lw_g (lw_at lw_m2 115 rfl) rfl
theorem q490 : (Jvm.Cond.methodLinkNest "HairRope" (67 : Nat) ({ cls := "HairRope$Drawn", name := "<init>", desc := "()V" } : Jvm.MethodName) "HairRope") ∈ lw_tbl := lw_at lw_m2 117 rfl
theorem q498 : (Jvm.Cond.classLink "HairRope" (72 : Nat) "HairRope$Clear") ∈ lw_all := lw_g (lw_at lw_m2 125 rfl) rfl
theorem q500 : (Jvm.Cond.methodLinkNest "HairRope" (74 : Nat) ({ cls := "HairRope$Clear", name := "<init>", desc := "()V" } : Jvm.MethodName) "HairRope") ∈ lw_tbl := lw_at lw_m2 127 rfl
theorem q505 : (Jvm.Cond.classLink "HairRope" (82 : Nat) "[[I") ∈ lw_all := lw_g (lw_at lw_m2 132 rfl) rfl
theorem q506 : (Jvm.Cond.methodLink "HairRope" (115 : Nat) ({ cls := "HairRope$Village", name := "begins", desc := "(LHairRope$Text;)V" } : Jvm.MethodName)) ∈ lw_all := lw_g (lw_at lw_m2 133 rfl) rfl
theorem q529 : (Jvm.Cond.fieldLink "HairRope" (17 : Nat) "HairRope" "fault" "LHairRope$Fault;") ∈ lw_all := lw_g (lw_at lw_m2 156 rfl) rfl
theorem q530 : (Jvm.Cond.fieldLink "HairRope" (24 : Nat) "HairRope" "tokens" "LHairRope$Tokens;") ∈ lw_all := lw_g (lw_at lw_m2 157 rfl) rfl
theorem q531 : (Jvm.Cond.fieldLink "HairRope" (33 : Nat) "HairRope" "parser" "LHairRope$Parser;") ∈ lw_all := lw_g (lw_at lw_m2 158 rfl) rfl
theorem q532 : (Jvm.Cond.fieldLink "HairRope" (40 : Nat) "HairRope" "text" "LHairRope$Text;") ∈ lw_all := lw_g (lw_at lw_m2 159 rfl) rfl
theorem q533 : (Jvm.Cond.fieldLink "HairRope" (44 : Nat) "HairRope" "place" "I") ∈ lw_all := lw_g (lw_at lw_m2 160 rfl) rfl
theorem q534 : (Jvm.Cond.fieldLink "HairRope" (134 : Nat) "HairRope" "undos" "I") ∈ lw_all := lw_g (lw_at lw_m2 161 rfl) rfl
theorem q535 : (Jvm.Cond.fieldLink "HairRope" (218 : Nat) "HairRope" "undoAt" "I") ∈ lw_all := lw_g (lw_at lw_m2 162 rfl) rfl
theorem q536 : (Jvm.Cond.fieldLink "HairRope" (51 : Nat) "HairRope" "village" "LHairRope$Village;") ∈ lw_all := lw_g (lw_at lw_m2 163 rfl) rfl
theorem q537 : (Jvm.Cond.fieldLink "HairRope" (55 : Nat) "HairRope" "trial" "LHairRope$Village;") ∈ lw_all := lw_g (lw_at lw_m2 164 rfl) rfl
theorem q538 : (Jvm.Cond.fieldLink "HairRope" (58 : Nat) "HairRope" "past" "[LHairRope$Village;") ∈ lw_all := lw_g (lw_at lw_m2 165 rfl) rfl
theorem q539 : (Jvm.Cond.fieldLink "HairRope" (62 : Nat) "HairRope" "slots" "[LHairRope$Village;") ∈ lw_all := lw_g (lw_at lw_m2 166 rfl) rfl
theorem q540 : (Jvm.Cond.fieldLink "HairRope" (68 : Nat) "HairRope" "drawn" "LHairRope$Sky;") ∈ lw_all := lw_g (lw_at lw_m2 167 rfl) rfl
theorem q541 : (Jvm.Cond.fieldLink "HairRope" (75 : Nat) "HairRope" "clear" "LHairRope$Sky;") ∈ lw_all := lw_g (lw_at lw_m2 168 rfl) rfl
theorem q542 : (Jvm.Cond.fieldLink "HairRope" (78 : Nat) "HairRope" "held" "[Z") ∈ lw_all := lw_g (lw_at lw_m2 169 rfl) rfl
theorem q543 : (Jvm.Cond.fieldLink "HairRope" (84 : Nat) "HairRope" "ways" "[[I") ∈ lw_all := lw_g (lw_at lw_m2 170 rfl) rfl
theorem q544 : (Jvm.Cond.fieldLink "HairRope" (87 : Nat) "HairRope" "join" "[[I") ∈ lw_all := lw_g (lw_at lw_m2 171 rfl) rfl
theorem q545 : (Jvm.Cond.fieldLink "HairRope" (90 : Nat) "HairRope" "sum" "[I") ∈ lw_all := lw_g (lw_at lw_m2 172 rfl) rfl
theorem q546 : (Jvm.Cond.fieldLink "HairRope" (94 : Nat) "HairRope" "found" "[I") ∈ lw_all := lw_g (lw_at lw_m2 173 rfl) rfl
theorem q547 : (Jvm.Cond.fieldLink "HairRope" (97 : Nat) "HairRope" "row" "[I") ∈ lw_all := lw_g (lw_at lw_m2 174 rfl) rfl
theorem q548 : (Jvm.Cond.fieldLink "HairRope" (137 : Nat) "HairRope" "tolds" "I") ∈ lw_all := lw_g (lw_at lw_m2 175 rfl) rfl
theorem q549 : (Jvm.Cond.fieldLink "HairRope" (375 : Nat) "HairRope" "fits" "I") ∈ lw_all := lw_g (lw_at lw_m2 176 rfl) rfl
theorem q550 : (Jvm.Cond.fieldLink "HairRope" (378 : Nat) "HairRope" "first" "I") ∈ lw_all := lw_g (lw_at lw_m2 177 rfl) rfl
theorem q551 : (Jvm.Cond.fieldLink "HairRope" (100 : Nat) "HairRope" "toldAt" "[I") ∈ lw_all := lw_g (lw_at lw_m2 178 rfl) rfl
theorem q552 : (Jvm.Cond.fieldLink "HairRope" (103 : Nat) "HairRope" "toldBy" "[I") ∈ lw_all := lw_g (lw_at lw_m2 179 rfl) rfl
theorem q553 : (Jvm.Cond.fieldLink "HairRope" (106 : Nat) "HairRope" "toldSo" "[Z") ∈ lw_all := lw_g (lw_at lw_m2 180 rfl) rfl
theorem q554 : (Jvm.Cond.fieldLink "HairRope" (109 : Nat) "HairRope" "felt" "[I") ∈ lw_all := lw_g (lw_at lw_m2 181 rfl) rfl
theorem q555 : (Jvm.Cond.fieldLink "HairRope" (112 : Nat) "HairRope" "often" "[[I") ∈ lw_all := lw_g (lw_at lw_m2 182 rfl) rfl
theorem q556 : (Jvm.Cond.laysFinal "HairRope" "HairRope" "fault" "LHairRope$Fault;") ∈ lw_all := lw_g (lw_at lw_m2 183 rfl) rfl
theorem q557 : (Jvm.Cond.soleField "HairRope" "fault") ∈ lw_all := lw_g (lw_at lw_m2 184 rfl) rfl
theorem q558 : (Jvm.Cond.laysFinal "HairRope" "HairRope" "tokens" "LHairRope$Tokens;") ∈ lw_all := lw_g (lw_at lw_m2 185 rfl) rfl
theorem q559 : (Jvm.Cond.soleField "HairRope" "tokens") ∈ lw_all := lw_g (lw_at lw_m2 186 rfl) rfl
theorem q560 : (Jvm.Cond.laysFinal "HairRope" "HairRope" "parser" "LHairRope$Parser;") ∈ lw_all := lw_g (lw_at lw_m2 187 rfl) rfl
theorem q561 : (Jvm.Cond.soleField "HairRope" "parser") ∈ lw_all := lw_g (lw_at lw_m2 188 rfl) rfl
theorem q562 : (Jvm.Cond.lays "HairRope" "HairRope" "text" "LHairRope$Text;") ∈ lw_all := lw_g (lw_at lw_m2 189 rfl) rfl
theorem q563 : (Jvm.Cond.soleField "HairRope" "text") ∈ lw_all := lw_g (lw_at lw_m2 190 rfl) rfl
theorem q564 : (Jvm.Cond.lays "HairRope" "HairRope" "place" "I") ∈ lw_all := lw_g (lw_at lw_m2 191 rfl) rfl
theorem q565 : (Jvm.Cond.soleField "HairRope" "place") ∈ lw_all := lw_g (lw_at lw_m2 192 rfl) rfl
theorem q566 : (Jvm.Cond.lays "HairRope" "HairRope" "undos" "I") ∈ lw_all := lw_g (lw_at lw_m2 193 rfl) rfl
theorem q567 : (Jvm.Cond.soleField "HairRope" "undos") ∈ lw_all := lw_g (lw_at lw_m2 194 rfl) rfl
theorem q568 : (Jvm.Cond.lays "HairRope" "HairRope" "undoAt" "I") ∈ lw_all := lw_g (lw_at lw_m2 195 rfl) rfl
theorem q569 : (Jvm.Cond.soleField "HairRope" "undoAt") ∈ lw_all := lw_g (lw_at lw_m2 196 rfl) rfl
theorem q570 : (Jvm.Cond.laysFinal "HairRope" "HairRope" "village" "LHairRope$Village;") ∈ lw_all := lw_g (lw_at lw_m2 197 rfl) rfl
theorem q571 : (Jvm.Cond.soleField "HairRope" "village") ∈ lw_all := lw_g (lw_at lw_m2 198 rfl) rfl
theorem q572 : (Jvm.Cond.laysFinal "HairRope" "HairRope" "trial" "LHairRope$Village;") ∈ lw_all := lw_g (lw_at lw_m2 199 rfl) rfl
theorem q573 : (Jvm.Cond.soleField "HairRope" "trial") ∈ lw_all := lw_g (lw_at lw_m2 200 rfl) rfl
theorem q574 : (Jvm.Cond.laysFinal "HairRope" "HairRope" "past" "[LHairRope$Village;") ∈ lw_all := lw_g (lw_at lw_m2 201 rfl) rfl
theorem q575 : (Jvm.Cond.soleField "HairRope" "past") ∈ lw_all := lw_g (lw_at lw_m2 202 rfl) rfl
theorem q576 : (Jvm.Cond.laysFinal "HairRope" "HairRope" "slots" "[LHairRope$Village;") ∈ lw_all := lw_g (lw_at lw_m2 203 rfl) rfl
theorem q577 : (Jvm.Cond.soleField "HairRope" "slots") ∈ lw_all := lw_g (lw_at lw_m2 204 rfl) rfl
theorem q578 : (Jvm.Cond.laysFinal "HairRope" "HairRope" "drawn" "LHairRope$Sky;") ∈ lw_all := lw_g (lw_at lw_m2 205 rfl) rfl
theorem q579 : (Jvm.Cond.soleField "HairRope" "drawn") ∈ lw_all := lw_g (lw_at lw_m2 206 rfl) rfl
theorem q580 : (Jvm.Cond.laysFinal "HairRope" "HairRope" "clear" "LHairRope$Sky;") ∈ lw_all := lw_g (lw_at lw_m2 207 rfl) rfl
theorem q581 : (Jvm.Cond.soleField "HairRope" "clear") ∈ lw_all := lw_g (lw_at lw_m2 208 rfl) rfl
theorem q582 : (Jvm.Cond.laysFinal "HairRope" "HairRope" "held" "[Z") ∈ lw_all := lw_g (lw_at lw_m2 209 rfl) rfl
theorem q583 : (Jvm.Cond.soleField "HairRope" "held") ∈ lw_all := lw_g (lw_at lw_m2 210 rfl) rfl
theorem q584 : (Jvm.Cond.laysFinal "HairRope" "HairRope" "ways" "[[I") ∈ lw_all := lw_g (lw_at lw_m2 211 rfl) rfl
theorem q585 : (Jvm.Cond.soleField "HairRope" "ways") ∈ lw_all := lw_g (lw_at lw_m2 212 rfl) rfl
theorem q586 : (Jvm.Cond.laysFinal "HairRope" "HairRope" "join" "[[I") ∈ lw_all := lw_g (lw_at lw_m2 213 rfl) rfl
theorem q587 : (Jvm.Cond.soleField "HairRope" "join") ∈ lw_all := lw_g (lw_at lw_m2 214 rfl) rfl
theorem q588 : (Jvm.Cond.laysFinal "HairRope" "HairRope" "sum" "[I") ∈ lw_all := lw_g (lw_at lw_m2 215 rfl) rfl
theorem q589 : (Jvm.Cond.soleField "HairRope" "sum") ∈ lw_all := lw_g (lw_at lw_m2 216 rfl) rfl
theorem q590 : (Jvm.Cond.laysFinal "HairRope" "HairRope" "found" "[I") ∈ lw_all := lw_g (lw_at lw_m2 217 rfl) rfl
theorem q591 : (Jvm.Cond.soleField "HairRope" "found") ∈ lw_all := lw_g (lw_at lw_m2 218 rfl) rfl
theorem q592 : (Jvm.Cond.laysFinal "HairRope" "HairRope" "row" "[I") ∈ lw_all := lw_g (lw_at lw_m2 219 rfl) rfl
theorem q593 : (Jvm.Cond.soleField "HairRope" "row") ∈ lw_all := lw_g (lw_at lw_m2 220 rfl) rfl
theorem q594 : (Jvm.Cond.lays "HairRope" "HairRope" "tolds" "I") ∈ lw_all := lw_g (lw_at lw_m2 221 rfl) rfl
theorem q595 : (Jvm.Cond.soleField "HairRope" "tolds") ∈ lw_all := lw_g (lw_at lw_m2 222 rfl) rfl
theorem q596 : (Jvm.Cond.lays "HairRope" "HairRope" "fits" "I") ∈ lw_all := lw_g (lw_at lw_m2 223 rfl) rfl
theorem q597 : (Jvm.Cond.soleField "HairRope" "fits") ∈ lw_all := lw_g (lw_at lw_m2 224 rfl) rfl
theorem q598 : (Jvm.Cond.lays "HairRope" "HairRope" "first" "I") ∈ lw_all := lw_g (lw_at lw_m2 225 rfl) rfl
theorem q599 : (Jvm.Cond.soleField "HairRope" "first") ∈ lw_all := lw_g (lw_at lw_m2 226 rfl) rfl
theorem q600 : (Jvm.Cond.laysFinal "HairRope" "HairRope" "toldAt" "[I") ∈ lw_all := lw_g (lw_at lw_m2 227 rfl) rfl
theorem q601 : (Jvm.Cond.soleField "HairRope" "toldAt") ∈ lw_all := lw_g (lw_at lw_m2 228 rfl) rfl
theorem q602 : (Jvm.Cond.laysFinal "HairRope" "HairRope" "toldBy" "[I") ∈ lw_all := lw_g (lw_at lw_m2 229 rfl) rfl
theorem q603 : (Jvm.Cond.soleField "HairRope" "toldBy") ∈ lw_all := lw_g (lw_at lw_m2 230 rfl) rfl
theorem q604 : (Jvm.Cond.laysFinal "HairRope" "HairRope" "toldSo" "[Z") ∈ lw_all := lw_g (lw_at lw_m2 231 rfl) rfl
theorem q605 : (Jvm.Cond.soleField "HairRope" "toldSo") ∈ lw_all := lw_g (lw_at lw_m2 232 rfl) rfl
theorem q606 : (Jvm.Cond.laysFinal "HairRope" "HairRope" "felt" "[I") ∈ lw_all := lw_g (lw_at lw_m2 233 rfl) rfl
theorem q607 : (Jvm.Cond.soleField "HairRope" "felt") ∈ lw_all := lw_g (lw_at lw_m2 234 rfl) rfl
theorem q608 : (Jvm.Cond.laysFinal "HairRope" "HairRope" "often" "[[I") ∈ lw_all := lw_g (lw_at lw_m2 235 rfl) rfl
theorem q609 : (Jvm.Cond.soleField "HairRope" "often") ∈ lw_all := lw_g (lw_at lw_m2 236 rfl) rfl
theorem q610 : (Jvm.Cond.superclass "HairRope" "java/lang/Object") ∈ lw_all := lw_g (lw_at lw_m2 237 rfl) rfl
theorem q613 : (Jvm.Cond.instanceMethod ({ cls := "HairRope", name := "feed", desc := "(IIIII)I" } : Jvm.MethodName)) ∈ lw_all := lw_g (lw_at lw_m3 0 rfl) rfl
theorem q614 : (Jvm.Cond.selects "HairRope" ({ cls := "HairRope", name := "feed", desc := "(IIIII)I" } : Jvm.MethodName) ({ cls := "HairRope", name := "feed", desc := "(IIIII)I" } : Jvm.MethodName)) ∈ lw_all := lw_g (lw_at lw_m3 1 rfl) rfl
theorem q615 : (Jvm.Cond.code ({ cls := "HairRope", name := "feed", desc := "(IIIII)I" } : Jvm.MethodName) prog_1_method_4_code (6 : Nat) (Option.some Jvm.ClassFile.FieldType.int)) ∈ lw_all := lw_g (lw_at lw_m3 2 rfl) rfl
theorem q616 : (Jvm.Cond.methodLink "HairRope" (122 : Nat) ({ cls := "HairRope", name := "typed", desc := "(I)V" } : Jvm.MethodName)) ∈ lw_all := lw_g (lw_at lw_m3 3 rfl) rfl
theorem q617 : (Jvm.Cond.privateMethod ({ cls := "HairRope", name := "typed", desc := "(I)V" } : Jvm.MethodName)) ∈ lw_tbl := lw_at lw_m3 4 rfl
theorem q618 : (Jvm.Cond.instanceMethod ({ cls := "HairRope", name := "typed", desc := "(I)V" } : Jvm.MethodName)) ∈ lw_all := lw_g (lw_at lw_m3 5 rfl) rfl
theorem q619 : (Jvm.Cond.code ({ cls := "HairRope", name := "typed", desc := "(I)V" } : Jvm.MethodName) prog_1_method_5_code (3 : Nat) (Option.none : Option Jvm.ClassFile.FieldType)) ∈ lw_all := lw_g (lw_at lw_m3 6 rfl) rfl
theorem q621 : (Jvm.Cond.instanceMethod ({ cls := "HairRope", name := "back", desc := "(I)I" } : Jvm.MethodName)) ∈ lw_all := lw_g (lw_at lw_m3 8 rfl) rfl
theorem q622 : (Jvm.Cond.selects "HairRope" ({ cls := "HairRope", name := "back", desc := "(I)I" } : Jvm.MethodName) ({ cls := "HairRope", name := "back", desc := "(I)I" } : Jvm.MethodName)) ∈ lw_all := lw_g (lw_at lw_m3 9 rfl) rfl
theorem q623 : (Jvm.Cond.code ({ cls := "HairRope", name := "back", desc := "(I)I" } : Jvm.MethodName) prog_1_method_6_code (2 : Nat) (Option.some Jvm.ClassFile.FieldType.int)) ∈ lw_all := lw_g (lw_at lw_m3 10 rfl) rfl
theorem q625 : (Jvm.Cond.instanceMethod ({ cls := "HairRope", name := "read", desc := "()I" } : Jvm.MethodName)) ∈ lw_all := lw_g (lw_at lw_m3 12 rfl) rfl
theorem q626 : (Jvm.Cond.selects "HairRope" ({ cls := "HairRope", name := "read", desc := "()I" } : Jvm.MethodName) ({ cls := "HairRope", name := "read", desc := "()I" } : Jvm.MethodName)) ∈ lw_all := lw_g (lw_at lw_m3 13 rfl) rfl
theorem q627 : (Jvm.Cond.codeWith ({ cls := "HairRope", name := "read", desc := "()I" } : Jvm.MethodName) prog_1_method_7_code (3 : Nat) (Option.some Jvm.ClassFile.FieldType.int) [((7 : Nat), (59 : Nat), (62 : Nat), (14 : Nat))]) ∈ lw_all := lw_g (lw_at lw_m3 14 rfl) rfl
theorem q628 : (Jvm.Cond.methodLink "HairRope" (130 : Nat) ({ cls := "HairRope$Parser", name := "read", desc := "()LHairRope$Text;" } : Jvm.MethodName)) ∈ lw_all := lw_g (lw_at lw_m3 15 rfl) rfl
theorem q1044 : (Jvm.Cond.fieldLink "HairRope" (176 : Nat) "HairRope$House" "strong" "I") ∈ lw_all := lw_g (lw_at lw_m4 191 rfl) rfl
theorem q1080 : (Jvm.Cond.selects "HairRope" ({ cls := "java/lang/Object", name := "getClass", desc := "()Ljava/lang/Class;" } : Jvm.MethodName) ({ cls := "java/lang/Object", name := "getClass", desc := "()Ljava/lang/Class;" } : Jvm.MethodName)) ∈ lw_all := lw_g (lw_at lw_m4 227 rfl) rfl
theorem q1113 : (Jvm.Cond.instanceMethod ({ cls := "HairRope", name := "place", desc := "()I" } : Jvm.MethodName)) ∈ lw_all := lw_g (lw_at lw_m5 20 rfl) rfl
theorem q1114 : (Jvm.Cond.selects "HairRope" ({ cls := "HairRope", name := "place", desc := "()I" } : Jvm.MethodName) ({ cls := "HairRope", name := "place", desc := "()I" } : Jvm.MethodName)) ∈ lw_all := lw_g (lw_at lw_m5 21 rfl) rfl
theorem q1115 : (Jvm.Cond.code ({ cls := "HairRope", name := "place", desc := "()I" } : Jvm.MethodName) prog_1_method_8_code (1 : Nat) (Option.some Jvm.ClassFile.FieldType.int)) ∈ lw_all := lw_g (lw_at lw_m5 22 rfl) rfl
theorem q1117 : (Jvm.Cond.instanceMethod ({ cls := "HairRope", name := "house", desc := "(II)I" } : Jvm.MethodName)) ∈ lw_all := lw_g (lw_at lw_m5 24 rfl) rfl
theorem q1118 : (Jvm.Cond.selects "HairRope" ({ cls := "HairRope", name := "house", desc := "(II)I" } : Jvm.MethodName) ({ cls := "HairRope", name := "house", desc := "(II)I" } : Jvm.MethodName)) ∈ lw_all := lw_g (lw_at lw_m5 25 rfl) rfl
theorem q1119 : (Jvm.Cond.code ({ cls := "HairRope", name := "house", desc := "(II)I" } : Jvm.MethodName) prog_1_method_16_code (3 : Nat) (Option.some Jvm.ClassFile.FieldType.int)) ∈ lw_all := lw_g (lw_at lw_m5 26 rfl) rfl
theorem q1120 : (Jvm.Cond.methodLink "HairRope" (160 : Nat) ({ cls := "HairRope", name := "isHouse", desc := "(I)Z" } : Jvm.MethodName)) ∈ lw_all := lw_g (lw_at lw_m5 27 rfl) rfl
theorem q1121 : (Jvm.Cond.privateMethod ({ cls := "HairRope", name := "isHouse", desc := "(I)Z" } : Jvm.MethodName)) ∈ lw_tbl := lw_at lw_m5 28 rfl
theorem q1122 : (Jvm.Cond.instanceMethod ({ cls := "HairRope", name := "isHouse", desc := "(I)Z" } : Jvm.MethodName)) ∈ lw_all := lw_g (lw_at lw_m5 29 rfl) rfl
theorem q1123 : (Jvm.Cond.code ({ cls := "HairRope", name := "isHouse", desc := "(I)Z" } : Jvm.MethodName) prog_1_method_11_code (2 : Nat) (Option.some Jvm.ClassFile.FieldType.boolean)) ∈ lw_all := lw_g (lw_at lw_m5 30 rfl) rfl
theorem q1124 : (Jvm.Cond.methodLink "HairRope" (154 : Nat) ({ cls := "HairRope", name := "houses", desc := "()I" } : Jvm.MethodName)) ∈ lw_all := lw_g (lw_at lw_m5 31 rfl) rfl
theorem q1125 : (Jvm.Cond.privateMethod ({ cls := "HairRope", name := "houses", desc := "()I" } : Jvm.MethodName)) ∈ lw_tbl := lw_at lw_m5 32 rfl
theorem q1126 : (Jvm.Cond.instanceMethod ({ cls := "HairRope", name := "houses", desc := "()I" } : Jvm.MethodName)) ∈ lw_all := lw_g (lw_at lw_m5 33 rfl) rfl
theorem q1127 : (Jvm.Cond.code ({ cls := "HairRope", name := "houses", desc := "()I" } : Jvm.MethodName) prog_1_method_10_code (1 : Nat) (Option.some Jvm.ClassFile.FieldType.int)) ∈ lw_all := lw_g (lw_at lw_m5 34 rfl) rfl
theorem q1128 : (Jvm.Cond.methodLink "HairRope" (148 : Nat) ({ cls := "java/util/ArrayList", name := "size", desc := "()I" } : Jvm.MethodName)) ∈ lw_all := lw_g (lw_at lw_m5 35 rfl) rfl
theorem q1129 : (Jvm.Cond.methodLink "HairRope" (156 : Nat) ({ cls := "HairRope", name := "isIn", desc := "(III)Z" } : Jvm.MethodName)) ∈ lw_all := lw_g (lw_at lw_m5 36 rfl) rfl
theorem q1130 : (Jvm.Cond.static ({ cls := "HairRope", name := "isIn", desc := "(III)Z" } : Jvm.MethodName)) ∈ lw_all := lw_g (lw_at lw_m5 37 rfl) rfl
theorem q1131 : (Jvm.Cond.code ({ cls := "HairRope", name := "isIn", desc := "(III)Z" } : Jvm.MethodName) prog_1_method_9_code (3 : Nat) (Option.some Jvm.ClassFile.FieldType.boolean)) ∈ lw_all := lw_g (lw_at lw_m5 38 rfl) rfl
theorem q1132 : (Jvm.Cond.methodLink "HairRope" (170 : Nat) ({ cls := "java/util/ArrayList", name := "get", desc := "(I)Ljava/lang/Object;" } : Jvm.MethodName)) ∈ lw_all := lw_g (lw_at lw_m5 39 rfl) rfl
theorem q1133 : (Jvm.Cond.classLink "HairRope" (174 : Nat) "HairRope$House") ∈ lw_all := lw_g (lw_at lw_m5 40 rfl) rfl
theorem q1134 : (Jvm.Cond.methodLink "HairRope" (179 : Nat) ({ cls := "HairRope$Village", name := "placeOf", desc := "(I)I" } : Jvm.MethodName)) ∈ lw_all := lw_g (lw_at lw_m5 41 rfl) rfl
theorem q1138 : (Jvm.Cond.methodLink "HairRope" (188 : Nat) ({ cls := "HairRope$Village", name := "grows", desc := "(LHairRope$Text;I)I" } : Jvm.MethodName)) ∈ lw_all := lw_g (lw_at lw_m5 45 rfl) rfl
theorem q1175 : (Jvm.Cond.methodLink "HairRope" (192 : Nat) ({ cls := "HairRope$Village", name := "weakens", desc := "(LHairRope$Text;I)I" } : Jvm.MethodName)) ∈ lw_all := lw_g (lw_at lw_m5 82 rfl) rfl
theorem q1179 : (Jvm.Cond.methodLink "HairRope" (195 : Nat) ({ cls := "HairRope$Village", name := "costs", desc := "(LHairRope$Text;I)I" } : Jvm.MethodName)) ∈ lw_all := lw_g (lw_at lw_m5 86 rfl) rfl
theorem q1184 : (Jvm.Cond.instanceMethod ({ cls := "HairRope", name := "likes", desc := "(II)I" } : Jvm.MethodName)) ∈ lw_all := lw_g (lw_at lw_m5 91 rfl) rfl
theorem q1185 : (Jvm.Cond.selects "HairRope" ({ cls := "HairRope", name := "likes", desc := "(II)I" } : Jvm.MethodName) ({ cls := "HairRope", name := "likes", desc := "(II)I" } : Jvm.MethodName)) ∈ lw_all := lw_g (lw_at lw_m5 92 rfl) rfl
theorem q1186 : (Jvm.Cond.code ({ cls := "HairRope", name := "likes", desc := "(II)I" } : Jvm.MethodName) prog_1_method_17_code (3 : Nat) (Option.some Jvm.ClassFile.FieldType.int)) ∈ lw_all := lw_g (lw_at lw_m5 93 rfl) rfl
theorem q1187 : (Jvm.Cond.methodLink "HairRope" (201 : Nat) ({ cls := "HairRope", name := "areTwo", desc := "(II)Z" } : Jvm.MethodName)) ∈ lw_all := lw_g (lw_at lw_m5 94 rfl) rfl
theorem q1188 : (Jvm.Cond.privateMethod ({ cls := "HairRope", name := "areTwo", desc := "(II)Z" } : Jvm.MethodName)) ∈ lw_tbl := lw_at lw_m5 95 rfl
theorem q1189 : (Jvm.Cond.instanceMethod ({ cls := "HairRope", name := "areTwo", desc := "(II)Z" } : Jvm.MethodName)) ∈ lw_all := lw_g (lw_at lw_m5 96 rfl) rfl
theorem q1190 : (Jvm.Cond.code ({ cls := "HairRope", name := "areTwo", desc := "(II)Z" } : Jvm.MethodName) prog_1_method_12_code (3 : Nat) (Option.some Jvm.ClassFile.FieldType.boolean)) ∈ lw_all := lw_g (lw_at lw_m5 97 rfl) rfl
theorem q1192 : (Jvm.Cond.instanceMethod ({ cls := "HairRope", name := "joins", desc := "(II)I" } : Jvm.MethodName)) ∈ lw_all := lw_g (lw_at lw_m5 99 rfl) rfl
theorem q1193 : (Jvm.Cond.selects "HairRope" ({ cls := "HairRope", name := "joins", desc := "(II)I" } : Jvm.MethodName) ({ cls := "HairRope", name := "joins", desc := "(II)I" } : Jvm.MethodName)) ∈ lw_all := lw_g (lw_at lw_m5 100 rfl) rfl
theorem q1194 : (Jvm.Cond.code ({ cls := "HairRope", name := "joins", desc := "(II)I" } : Jvm.MethodName) prog_1_method_18_code (3 : Nat) (Option.some Jvm.ClassFile.FieldType.int)) ∈ lw_all := lw_g (lw_at lw_m5 101 rfl) rfl
theorem q1195 : (Jvm.Cond.methodLink "HairRope" (208 : Nat) ({ cls := "HairRope$Village", name := "joins", desc := "(LHairRope$Text;III)I" } : Jvm.MethodName)) ∈ lw_all := lw_g (lw_at lw_m5 102 rfl) rfl
theorem q1200 : (Jvm.Cond.instanceMethod ({ cls := "HairRope", name := "at", desc := "(I)I" } : Jvm.MethodName)) ∈ lw_all := lw_g (lw_at lw_m5 107 rfl) rfl
theorem q1201 : (Jvm.Cond.selects "HairRope" ({ cls := "HairRope", name := "at", desc := "(I)I" } : Jvm.MethodName) ({ cls := "HairRope", name := "at", desc := "(I)I" } : Jvm.MethodName)) ∈ lw_all := lw_g (lw_at lw_m5 108 rfl) rfl
theorem q1202 : (Jvm.Cond.code ({ cls := "HairRope", name := "at", desc := "(I)I" } : Jvm.MethodName) prog_1_method_19_code (2 : Nat) (Option.some Jvm.ClassFile.FieldType.int)) ∈ lw_all := lw_g (lw_at lw_m5 109 rfl) rfl
theorem q1203 : (Jvm.Cond.methodLink "HairRope" (212 : Nat) ({ cls := "HairRope", name := "isPlace", desc := "(I)Z" } : Jvm.MethodName)) ∈ lw_all := lw_g (lw_at lw_m5 110 rfl) rfl
theorem q1204 : (Jvm.Cond.privateMethod ({ cls := "HairRope", name := "isPlace", desc := "(I)Z" } : Jvm.MethodName)) ∈ lw_tbl := lw_at lw_m5 111 rfl
theorem q1205 : (Jvm.Cond.instanceMethod ({ cls := "HairRope", name := "isPlace", desc := "(I)Z" } : Jvm.MethodName)) ∈ lw_all := lw_g (lw_at lw_m5 112 rfl) rfl
theorem q1206 : (Jvm.Cond.code ({ cls := "HairRope", name := "isPlace", desc := "(I)Z" } : Jvm.MethodName) prog_1_method_13_code (2 : Nat) (Option.some Jvm.ClassFile.FieldType.boolean)) ∈ lw_all := lw_g (lw_at lw_m5 113 rfl) rfl
theorem q1208 : (Jvm.Cond.instanceMethod ({ cls := "HairRope", name := "splice", desc := "(I)I" } : Jvm.MethodName)) ∈ lw_all := lw_g (lw_at lw_m5 115 rfl) rfl
theorem q1209 : (Jvm.Cond.selects "HairRope" ({ cls := "HairRope", name := "splice", desc := "(I)I" } : Jvm.MethodName) ({ cls := "HairRope", name := "splice", desc := "(I)I" } : Jvm.MethodName)) ∈ lw_all := lw_g (lw_at lw_m5 116 rfl) rfl
theorem q1210 : (Jvm.Cond.code ({ cls := "HairRope", name := "splice", desc := "(I)I" } : Jvm.MethodName) prog_1_method_21_code (2 : Nat) (Option.some Jvm.ClassFile.FieldType.int)) ∈ lw_all := lw_g (lw_at lw_m5 117 rfl) rfl
theorem q1211 : (Jvm.Cond.methodLink "HairRope" (230 : Nat) ({ cls := "HairRope$Village", name := "has", desc := "(I)Z" } : Jvm.MethodName)) ∈ lw_all := lw_g (lw_at lw_m5 118 rfl) rfl
theorem q1212 : (Jvm.Cond.methodLink "HairRope" (233 : Nat) ({ cls := "HairRope", name := "keeps", desc := "()V" } : Jvm.MethodName)) ∈ lw_all := lw_g (lw_at lw_m5 119 rfl) rfl
theorem q1213 : (Jvm.Cond.privateMethod ({ cls := "HairRope", name := "keeps", desc := "()V" } : Jvm.MethodName)) ∈ lw_tbl := lw_at lw_m5 120 rfl
theorem q1214 : (Jvm.Cond.instanceMethod ({ cls := "HairRope", name := "keeps", desc := "()V" } : Jvm.MethodName)) ∈ lw_all := lw_g (lw_at lw_m5 121 rfl) rfl
theorem q1215 : (Jvm.Cond.code ({ cls := "HairRope", name := "keeps", desc := "()V" } : Jvm.MethodName) prog_1_method_20_code (1 : Nat) (Option.none : Option Jvm.ClassFile.FieldType)) ∈ lw_all := lw_g (lw_at lw_m5 122 rfl) rfl
theorem q1216 : (Jvm.Cond.methodLink "HairRope" (221 : Nat) ({ cls := "HairRope$Village", name := "becomes", desc := "(LHairRope$Village;)V" } : Jvm.MethodName)) ∈ lw_all := lw_g (lw_at lw_m5 123 rfl) rfl
theorem q1224 : (Jvm.Cond.methodLink "HairRope" (225 : Nat) ({ cls := "java/lang/Math", name := "min", desc := "(II)I" } : Jvm.MethodName)) ∈ lw_all := lw_g (lw_at lw_m5 131 rfl) rfl
theorem q1225 : (Jvm.Cond.methodLink "HairRope" (236 : Nat) ({ cls := "HairRope$Village", name := "splices", desc := "(LHairRope$Text;I)V" } : Jvm.MethodName)) ∈ lw_all := lw_g (lw_at lw_m5 132 rfl) rfl
theorem q1229 : (Jvm.Cond.methodLink "HairRope" (240 : Nat) ({ cls := "HairRope$Village", name := "ropeLong", desc := "()I" } : Jvm.MethodName)) ∈ lw_all := lw_g (lw_at lw_m5 136 rfl) rfl
theorem q1234 : (Jvm.Cond.instanceMethod ({ cls := "HairRope", name := "unsplice", desc := "()I" } : Jvm.MethodName)) ∈ lw_all := lw_g (lw_at lw_m5 141 rfl) rfl
theorem q1235 : (Jvm.Cond.selects "HairRope" ({ cls := "HairRope", name := "unsplice", desc := "()I" } : Jvm.MethodName) ({ cls := "HairRope", name := "unsplice", desc := "()I" } : Jvm.MethodName)) ∈ lw_all := lw_g (lw_at lw_m5 142 rfl) rfl
theorem q1236 : (Jvm.Cond.code ({ cls := "HairRope", name := "unsplice", desc := "()I" } : Jvm.MethodName) prog_1_method_22_code (2 : Nat) (Option.some Jvm.ClassFile.FieldType.int)) ∈ lw_all := lw_g (lw_at lw_m5 143 rfl) rfl
theorem q1237 : (Jvm.Cond.methodLink "HairRope" (243 : Nat) ({ cls := "HairRope$Village", name := "loses", desc := "(I)V" } : Jvm.MethodName)) ∈ lw_all := lw_g (lw_at lw_m5 144 rfl) rfl
theorem q1242 : (Jvm.Cond.instanceMethod ({ cls := "HairRope", name := "haul", desc := "(I)I" } : Jvm.MethodName)) ∈ lw_all := lw_g (lw_at lw_m5 149 rfl) rfl
theorem q1243 : (Jvm.Cond.selects "HairRope" ({ cls := "HairRope", name := "haul", desc := "(I)I" } : Jvm.MethodName) ({ cls := "HairRope", name := "haul", desc := "(I)I" } : Jvm.MethodName)) ∈ lw_all := lw_g (lw_at lw_m5 150 rfl) rfl
theorem q1244 : (Jvm.Cond.code ({ cls := "HairRope", name := "haul", desc := "(I)I" } : Jvm.MethodName) prog_1_method_24_code (3 : Nat) (Option.some Jvm.ClassFile.FieldType.int)) ∈ lw_all := lw_g (lw_at lw_m5 151 rfl) rfl
theorem q1245 : (Jvm.Cond.methodLink "HairRope" (249 : Nat) ({ cls := "HairRope", name := "isHaul", desc := "(I)Z" } : Jvm.MethodName)) ∈ lw_all := lw_g (lw_at lw_m5 152 rfl) rfl
theorem q1246 : (Jvm.Cond.static ({ cls := "HairRope", name := "isHaul", desc := "(I)Z" } : Jvm.MethodName)) ∈ lw_all := lw_g (lw_at lw_m5 153 rfl) rfl
theorem q1247 : (Jvm.Cond.code ({ cls := "HairRope", name := "isHaul", desc := "(I)Z" } : Jvm.MethodName) prog_1_method_15_code (1 : Nat) (Option.some Jvm.ClassFile.FieldType.boolean)) ∈ lw_all := lw_g (lw_at lw_m5 154 rfl) rfl
theorem q1248 : (Jvm.Cond.methodLink "HairRope" (252 : Nat) ({ cls := "HairRope", name := "isLong", desc := "()Z" } : Jvm.MethodName)) ∈ lw_all := lw_g (lw_at lw_m5 155 rfl) rfl
theorem q1249 : (Jvm.Cond.privateMethod ({ cls := "HairRope", name := "isLong", desc := "()Z" } : Jvm.MethodName)) ∈ lw_tbl := lw_at lw_m5 156 rfl
theorem q1250 : (Jvm.Cond.instanceMethod ({ cls := "HairRope", name := "isLong", desc := "()Z" } : Jvm.MethodName)) ∈ lw_all := lw_g (lw_at lw_m5 157 rfl) rfl
theorem q1251 : (Jvm.Cond.code ({ cls := "HairRope", name := "isLong", desc := "()Z" } : Jvm.MethodName) prog_1_method_23_code (1 : Nat) (Option.some Jvm.ClassFile.FieldType.boolean)) ∈ lw_all := lw_g (lw_at lw_m5 158 rfl) rfl
theorem q1252 : (Jvm.Cond.methodLink "HairRope" (256 : Nat) ({ cls := "HairRope$Village", name := "breaksAt", desc := "(LHairRope$Text;I)I" } : Jvm.MethodName)) ∈ lw_all := lw_g (lw_at lw_m5 159 rfl) rfl
theorem q1262 : (Jvm.Cond.instanceMethod ({ cls := "HairRope", name := "years", desc := "(I)I" } : Jvm.MethodName)) ∈ lw_all := lw_g (lw_at lw_m5 169 rfl) rfl
theorem q1263 : (Jvm.Cond.selects "HairRope" ({ cls := "HairRope", name := "years", desc := "(I)I" } : Jvm.MethodName) ({ cls := "HairRope", name := "years", desc := "(I)I" } : Jvm.MethodName)) ∈ lw_all := lw_g (lw_at lw_m5 170 rfl) rfl
theorem q1264 : (Jvm.Cond.code ({ cls := "HairRope", name := "years", desc := "(I)I" } : Jvm.MethodName) prog_1_method_26_code (2 : Nat) (Option.some Jvm.ClassFile.FieldType.int)) ∈ lw_all := lw_g (lw_at lw_m5 171 rfl) rfl
theorem q1265 : (Jvm.Cond.methodLink "HairRope" (265 : Nat) ({ cls := "HairRope", name := "isAhead", desc := "(I)Z" } : Jvm.MethodName)) ∈ lw_all := lw_g (lw_at lw_m5 172 rfl) rfl
theorem q1266 : (Jvm.Cond.static ({ cls := "HairRope", name := "isAhead", desc := "(I)Z" } : Jvm.MethodName)) ∈ lw_all := lw_g (lw_at lw_m5 173 rfl) rfl
theorem q1267 : (Jvm.Cond.code ({ cls := "HairRope", name := "isAhead", desc := "(I)Z" } : Jvm.MethodName) prog_1_method_14_code (1 : Nat) (Option.some Jvm.ClassFile.FieldType.boolean)) ∈ lw_all := lw_g (lw_at lw_m5 174 rfl) rfl
theorem q1268 : (Jvm.Cond.methodLink "HairRope" (268 : Nat) ({ cls := "HairRope", name := "runs", desc := "(LHairRope$Village;ILHairRope$Sky;)V" } : Jvm.MethodName)) ∈ lw_all := lw_g (lw_at lw_m5 175 rfl) rfl
theorem q1269 : (Jvm.Cond.privateMethod ({ cls := "HairRope", name := "runs", desc := "(LHairRope$Village;ILHairRope$Sky;)V" } : Jvm.MethodName)) ∈ lw_tbl := lw_at lw_m5 176 rfl
theorem q1270 : (Jvm.Cond.instanceMethod ({ cls := "HairRope", name := "runs", desc := "(LHairRope$Village;ILHairRope$Sky;)V" } : Jvm.MethodName)) ∈ lw_all := lw_g (lw_at lw_m5 177 rfl) rfl
theorem q1271 : (Jvm.Cond.code ({ cls := "HairRope", name := "runs", desc := "(LHairRope$Village;ILHairRope$Sky;)V" } : Jvm.MethodName) prog_1_method_25_code (5 : Nat) (Option.none : Option Jvm.ClassFile.FieldType)) ∈ lw_all := lw_g (lw_at lw_m5 178 rfl) rfl
theorem q1272 : (Jvm.Cond.methodLink "HairRope" (261 : Nat) ({ cls := "HairRope$Village", name := "goesBy", desc := "(LHairRope$Text;LHairRope$Sky;)V" } : Jvm.MethodName)) ∈ lw_all := lw_g (lw_at lw_m5 179 rfl) rfl
theorem q1288 : (Jvm.Cond.static ({ cls := "HairRope", name := "lot", desc := "(III)I" } : Jvm.MethodName)) ∈ lw_all := lw_g (lw_at lw_m5 195 rfl) rfl
theorem q1289 : (Jvm.Cond.code ({ cls := "HairRope", name := "lot", desc := "(III)I" } : Jvm.MethodName) prog_1_method_2_code (3 : Nat) (Option.some Jvm.ClassFile.FieldType.int)) ∈ lw_all := lw_g (lw_at lw_m5 196 rfl) rfl
theorem q1290 : (Jvm.Cond.methodLink "HairRope" (2 : Nat) ({ cls := "HairRope", name := "mixed", desc := "(II)I" } : Jvm.MethodName)) ∈ lw_all := lw_g (lw_at lw_m5 197 rfl) rfl
theorem q1291 : (Jvm.Cond.static ({ cls := "HairRope", name := "mixed", desc := "(II)I" } : Jvm.MethodName)) ∈ lw_all := lw_g (lw_at lw_m5 198 rfl) rfl
theorem q1292 : (Jvm.Cond.code ({ cls := "HairRope", name := "mixed", desc := "(II)I" } : Jvm.MethodName) prog_1_method_1_code (3 : Nat) (Option.some Jvm.ClassFile.FieldType.int)) ∈ lw_all := lw_g (lw_at lw_m5 199 rfl) rfl
theorem q1293 : (Jvm.Cond.constant "HairRope" (1 : Nat) (1103515245 : Int32)) ∈ lw_all := lw_g (lw_at lw_m5 200 rfl) rfl
theorem q1295 : (Jvm.Cond.instanceMethod ({ cls := "HairRope", name := "undo", desc := "()Z" } : Jvm.MethodName)) ∈ lw_all := lw_g (lw_at lw_m5 202 rfl) rfl
theorem q1296 : (Jvm.Cond.selects "HairRope" ({ cls := "HairRope", name := "undo", desc := "()Z" } : Jvm.MethodName) ({ cls := "HairRope", name := "undo", desc := "()Z" } : Jvm.MethodName)) ∈ lw_all := lw_g (lw_at lw_m5 203 rfl) rfl
theorem q1297 : (Jvm.Cond.code ({ cls := "HairRope", name := "undo", desc := "()Z" } : Jvm.MethodName) prog_1_method_27_code (1 : Nat) (Option.some Jvm.ClassFile.FieldType.boolean)) ∈ lw_all := lw_g (lw_at lw_m5 204 rfl) rfl
theorem q1299 : (Jvm.Cond.instanceMethod ({ cls := "HairRope", name := "most", desc := "()I" } : Jvm.MethodName)) ∈ lw_all := lw_g (lw_at lw_m5 206 rfl) rfl
theorem q1300 : (Jvm.Cond.selects "HairRope" ({ cls := "HairRope", name := "most", desc := "()I" } : Jvm.MethodName) ({ cls := "HairRope", name := "most", desc := "()I" } : Jvm.MethodName)) ∈ lw_all := lw_g (lw_at lw_m5 207 rfl) rfl
theorem q1301 : (Jvm.Cond.code ({ cls := "HairRope", name := "most", desc := "()I" } : Jvm.MethodName) prog_1_method_29_code (1 : Nat) (Option.some Jvm.ClassFile.FieldType.int)) ∈ lw_all := lw_g (lw_at lw_m5 208 rfl) rfl
theorem q1302 : (Jvm.Cond.methodLink "HairRope" (275 : Nat) ({ cls := "HairRope", name := "mostOf", desc := "(LHairRope$Village;)I" } : Jvm.MethodName)) ∈ lw_all := lw_g (lw_at lw_m5 209 rfl) rfl
theorem q1303 : (Jvm.Cond.privateMethod ({ cls := "HairRope", name := "mostOf", desc := "(LHairRope$Village;)I" } : Jvm.MethodName)) ∈ lw_tbl := lw_at lw_m5 210 rfl
theorem q1304 : (Jvm.Cond.instanceMethod ({ cls := "HairRope", name := "mostOf", desc := "(LHairRope$Village;)I" } : Jvm.MethodName)) ∈ lw_all := lw_g (lw_at lw_m5 211 rfl) rfl
theorem q1305 : (Jvm.Cond.code ({ cls := "HairRope", name := "mostOf", desc := "(LHairRope$Village;)I" } : Jvm.MethodName) prog_1_method_28_code (3 : Nat) (Option.some Jvm.ClassFile.FieldType.int)) ∈ lw_all := lw_g (lw_at lw_m5 212 rfl) rfl
theorem q1307 : (Jvm.Cond.instanceMethod ({ cls := "HairRope", name := "lasts", desc := "(I)I" } : Jvm.MethodName)) ∈ lw_all := lw_g (lw_at lw_m5 214 rfl) rfl
theorem q1308 : (Jvm.Cond.selects "HairRope" ({ cls := "HairRope", name := "lasts", desc := "(I)I" } : Jvm.MethodName) ({ cls := "HairRope", name := "lasts", desc := "(I)I" } : Jvm.MethodName)) ∈ lw_all := lw_g (lw_at lw_m5 215 rfl) rfl
theorem q1309 : (Jvm.Cond.code ({ cls := "HairRope", name := "lasts", desc := "(I)I" } : Jvm.MethodName) prog_1_method_30_code (3 : Nat) (Option.some Jvm.ClassFile.FieldType.int)) ∈ lw_all := lw_g (lw_at lw_m5 216 rfl) rfl
theorem q1311 : (Jvm.Cond.instanceMethod ({ cls := "HairRope", name := "harvest", desc := "(III)I" } : Jvm.MethodName)) ∈ lw_all := lw_g (lw_at lw_m5 218 rfl) rfl
theorem q1312 : (Jvm.Cond.selects "HairRope" ({ cls := "HairRope", name := "harvest", desc := "(III)I" } : Jvm.MethodName) ({ cls := "HairRope", name := "harvest", desc := "(III)I" } : Jvm.MethodName)) ∈ lw_all := lw_g (lw_at lw_m5 219 rfl) rfl
theorem q1313 : (Jvm.Cond.code ({ cls := "HairRope", name := "harvest", desc := "(III)I" } : Jvm.MethodName) prog_1_method_32_code (8 : Nat) (Option.some Jvm.ClassFile.FieldType.int)) ∈ lw_all := lw_g (lw_at lw_m5 220 rfl) rfl
theorem q1314 : (Jvm.Cond.methodLink "HairRope" (279 : Nat) ({ cls := "HairRope", name := "givenBy", desc := "(III)I" } : Jvm.MethodName)) ∈ lw_all := lw_g (lw_at lw_m5 221 rfl) rfl
theorem q1315 : (Jvm.Cond.privateMethod ({ cls := "HairRope", name := "givenBy", desc := "(III)I" } : Jvm.MethodName)) ∈ lw_tbl := lw_at lw_m5 222 rfl
theorem q1316 : (Jvm.Cond.instanceMethod ({ cls := "HairRope", name := "givenBy", desc := "(III)I" } : Jvm.MethodName)) ∈ lw_all := lw_g (lw_at lw_m5 223 rfl) rfl
theorem q1317 : (Jvm.Cond.code ({ cls := "HairRope", name := "givenBy", desc := "(III)I" } : Jvm.MethodName) prog_1_method_31_code (6 : Nat) (Option.some Jvm.ClassFile.FieldType.int)) ∈ lw_all := lw_g (lw_at lw_m5 224 rfl) rfl
theorem q1319 : (Jvm.Cond.instanceMethod ({ cls := "HairRope", name := "swap", desc := "()I" } : Jvm.MethodName)) ∈ lw_all := lw_g (lw_at lw_m5 226 rfl) rfl
theorem q1320 : (Jvm.Cond.selects "HairRope" ({ cls := "HairRope", name := "swap", desc := "()I" } : Jvm.MethodName) ({ cls := "HairRope", name := "swap", desc := "()I" } : Jvm.MethodName)) ∈ lw_all := lw_g (lw_at lw_m5 227 rfl) rfl
theorem q1321 : (Jvm.Cond.code ({ cls := "HairRope", name := "swap", desc := "()I" } : Jvm.MethodName) prog_1_method_33_code (5 : Nat) (Option.some Jvm.ClassFile.FieldType.int)) ∈ lw_all := lw_g (lw_at lw_m5 228 rfl) rfl
theorem q1322 : (Jvm.Cond.methodLink "HairRope" (283 : Nat) ({ cls := "HairRope", name := "most", desc := "()I" } : Jvm.MethodName)) ∈ lw_all := lw_g (lw_at lw_m5 229 rfl) rfl
theorem q1324 : (Jvm.Cond.instanceMethod ({ cls := "HairRope", name := "quarrel", desc := "(I)I" } : Jvm.MethodName)) ∈ lw_all := lw_g (lw_at lw_m5 231 rfl) rfl
theorem q1325 : (Jvm.Cond.selects "HairRope" ({ cls := "HairRope", name := "quarrel", desc := "(I)I" } : Jvm.MethodName) ({ cls := "HairRope", name := "quarrel", desc := "(I)I" } : Jvm.MethodName)) ∈ lw_all := lw_g (lw_at lw_m5 232 rfl) rfl
theorem q1326 : (Jvm.Cond.code ({ cls := "HairRope", name := "quarrel", desc := "(I)I" } : Jvm.MethodName) prog_1_method_35_code (4 : Nat) (Option.some Jvm.ClassFile.FieldType.int)) ∈ lw_all := lw_g (lw_at lw_m5 233 rfl) rfl
theorem q1327 : (Jvm.Cond.methodLink "HairRope" (288 : Nat) ({ cls := "HairRope", name := "joinAt", desc := "(I)I" } : Jvm.MethodName)) ∈ lw_all := lw_g (lw_at lw_m5 234 rfl) rfl
theorem q1328 : (Jvm.Cond.privateMethod ({ cls := "HairRope", name := "joinAt", desc := "(I)I" } : Jvm.MethodName)) ∈ lw_tbl := lw_at lw_m5 235 rfl
theorem q1329 : (Jvm.Cond.instanceMethod ({ cls := "HairRope", name := "joinAt", desc := "(I)I" } : Jvm.MethodName)) ∈ lw_all := lw_g (lw_at lw_m5 236 rfl) rfl
theorem q1330 : (Jvm.Cond.code ({ cls := "HairRope", name := "joinAt", desc := "(I)I" } : Jvm.MethodName) prog_1_method_34_code (2 : Nat) (Option.some Jvm.ClassFile.FieldType.int)) ∈ lw_all := lw_g (lw_at lw_m5 237 rfl) rfl
theorem q1331 : (Jvm.Cond.methodLink "HairRope" (286 : Nat) ({ cls := "HairRope", name := "joins", desc := "(II)I" } : Jvm.MethodName)) ∈ lw_all := lw_g (lw_at lw_m5 238 rfl) rfl
theorem q1333 : (Jvm.Cond.instanceMethod ({ cls := "HairRope", name := "weakest", desc := "(I)I" } : Jvm.MethodName)) ∈ lw_all := lw_g (lw_at lw_m6 0 rfl) rfl
theorem q1334 : (Jvm.Cond.selects "HairRope" ({ cls := "HairRope", name := "weakest", desc := "(I)I" } : Jvm.MethodName) ({ cls := "HairRope", name := "weakest", desc := "(I)I" } : Jvm.MethodName)) ∈ lw_all := lw_g (lw_at lw_m6 1 rfl) rfl
theorem q1335 : (Jvm.Cond.code ({ cls := "HairRope", name := "weakest", desc := "(I)I" } : Jvm.MethodName) prog_1_method_36_code (3 : Nat) (Option.some Jvm.ClassFile.FieldType.int)) ∈ lw_all := lw_g (lw_at lw_m6 2 rfl) rfl
theorem q1336 : (Jvm.Cond.methodLink "HairRope" (291 : Nat) ({ cls := "java/lang/Math", name := "max", desc := "(II)I" } : Jvm.MethodName)) ∈ lw_all := lw_g (lw_at lw_m6 3 rfl) rfl
theorem q1338 : (Jvm.Cond.instanceMethod ({ cls := "HairRope", name := "below", desc := "(I)I" } : Jvm.MethodName)) ∈ lw_all := lw_g (lw_at lw_m6 5 rfl) rfl
theorem q1339 : (Jvm.Cond.selects "HairRope" ({ cls := "HairRope", name := "below", desc := "(I)I" } : Jvm.MethodName) ({ cls := "HairRope", name := "below", desc := "(I)I" } : Jvm.MethodName)) ∈ lw_all := lw_g (lw_at lw_m6 6 rfl) rfl
theorem q1340 : (Jvm.Cond.code ({ cls := "HairRope", name := "below", desc := "(I)I" } : Jvm.MethodName) prog_1_method_37_code (2 : Nat) (Option.some Jvm.ClassFile.FieldType.int)) ∈ lw_all := lw_g (lw_at lw_m6 7 rfl) rfl
theorem q1341 : (Jvm.Cond.methodLink "HairRope" (294 : Nat) ({ cls := "HairRope$Village", name := "below", desc := "(I)I" } : Jvm.MethodName)) ∈ lw_all := lw_g (lw_at lw_m6 8 rfl) rfl
theorem q1343 : (Jvm.Cond.instanceMethod ({ cls := "HairRope", name := "share", desc := "(I)I" } : Jvm.MethodName)) ∈ lw_all := lw_g (lw_at lw_m6 10 rfl) rfl
theorem q1344 : (Jvm.Cond.selects "HairRope" ({ cls := "HairRope", name := "share", desc := "(I)I" } : Jvm.MethodName) ({ cls := "HairRope", name := "share", desc := "(I)I" } : Jvm.MethodName)) ∈ lw_all := lw_g (lw_at lw_m6 11 rfl) rfl
theorem q1345 : (Jvm.Cond.code ({ cls := "HairRope", name := "share", desc := "(I)I" } : Jvm.MethodName) prog_1_method_38_code (2 : Nat) (Option.some Jvm.ClassFile.FieldType.int)) ∈ lw_all := lw_g (lw_at lw_m6 12 rfl) rfl
theorem q1347 : (Jvm.Cond.instanceMethod ({ cls := "HairRope", name := "greyest", desc := "(I)I" } : Jvm.MethodName)) ∈ lw_all := lw_g (lw_at lw_m6 14 rfl) rfl
theorem q1348 : (Jvm.Cond.selects "HairRope" ({ cls := "HairRope", name := "greyest", desc := "(I)I" } : Jvm.MethodName) ({ cls := "HairRope", name := "greyest", desc := "(I)I" } : Jvm.MethodName)) ∈ lw_all := lw_g (lw_at lw_m6 15 rfl) rfl
theorem q1349 : (Jvm.Cond.code ({ cls := "HairRope", name := "greyest", desc := "(I)I" } : Jvm.MethodName) prog_1_method_39_code (4 : Nat) (Option.some Jvm.ClassFile.FieldType.int)) ∈ lw_all := lw_g (lw_at lw_m6 16 rfl) rfl
theorem q1351 : (Jvm.Cond.instanceMethod ({ cls := "HairRope", name := "orders", desc := "(I)I" } : Jvm.MethodName)) ∈ lw_all := lw_g (lw_at lw_m6 18 rfl) rfl
theorem q1352 : (Jvm.Cond.selects "HairRope" ({ cls := "HairRope", name := "orders", desc := "(I)I" } : Jvm.MethodName) ({ cls := "HairRope", name := "orders", desc := "(I)I" } : Jvm.MethodName)) ∈ lw_all := lw_g (lw_at lw_m6 19 rfl) rfl
theorem q1353 : (Jvm.Cond.code ({ cls := "HairRope", name := "orders", desc := "(I)I" } : Jvm.MethodName) prog_1_method_46_code (2 : Nat) (Option.some Jvm.ClassFile.FieldType.int)) ∈ lw_all := lw_g (lw_at lw_m6 20 rfl) rfl
theorem q1354 : (Jvm.Cond.methodLink "HairRope" (322 : Nat) ({ cls := "HairRope", name := "laysJoins", desc := "(LHairRope$Village;)V" } : Jvm.MethodName)) ∈ lw_all := lw_g (lw_at lw_m6 21 rfl) rfl
theorem q1355 : (Jvm.Cond.privateMethod ({ cls := "HairRope", name := "laysJoins", desc := "(LHairRope$Village;)V" } : Jvm.MethodName)) ∈ lw_tbl := lw_at lw_m6 22 rfl
theorem q1356 : (Jvm.Cond.instanceMethod ({ cls := "HairRope", name := "laysJoins", desc := "(LHairRope$Village;)V" } : Jvm.MethodName)) ∈ lw_all := lw_g (lw_at lw_m6 23 rfl) rfl
theorem q1357 : (Jvm.Cond.code ({ cls := "HairRope", name := "laysJoins", desc := "(LHairRope$Village;)V" } : Jvm.MethodName) prog_1_method_40_code (4 : Nat) (Option.none : Option Jvm.ClassFile.FieldType)) ∈ lw_all := lw_g (lw_at lw_m6 24 rfl) rfl
theorem q1358 : (Jvm.Cond.methodLink "HairRope" (325 : Nat) ({ cls := "HairRope", name := "laysOrders", desc := "(LHairRope$Village;I)I" } : Jvm.MethodName)) ∈ lw_all := lw_g (lw_at lw_m6 25 rfl) rfl
theorem q1359 : (Jvm.Cond.privateMethod ({ cls := "HairRope", name := "laysOrders", desc := "(LHairRope$Village;I)I" } : Jvm.MethodName)) ∈ lw_tbl := lw_at lw_m6 26 rfl
theorem q1360 : (Jvm.Cond.instanceMethod ({ cls := "HairRope", name := "laysOrders", desc := "(LHairRope$Village;I)I" } : Jvm.MethodName)) ∈ lw_all := lw_g (lw_at lw_m6 27 rfl) rfl
theorem q1361 : (Jvm.Cond.code ({ cls := "HairRope", name := "laysOrders", desc := "(LHairRope$Village;I)I" } : Jvm.MethodName) prog_1_method_45_code (5 : Nat) (Option.some Jvm.ClassFile.FieldType.int)) ∈ lw_all := lw_g (lw_at lw_m6 28 rfl) rfl
theorem q1362 : (Jvm.Cond.methodLink "HairRope" (315 : Nat) ({ cls := "HairRope", name := "laysWays", desc := "(LHairRope$Village;I)V" } : Jvm.MethodName)) ∈ lw_all := lw_g (lw_at lw_m6 29 rfl) rfl
theorem q1363 : (Jvm.Cond.privateMethod ({ cls := "HairRope", name := "laysWays", desc := "(LHairRope$Village;I)V" } : Jvm.MethodName)) ∈ lw_tbl := lw_at lw_m6 30 rfl
theorem q1364 : (Jvm.Cond.instanceMethod ({ cls := "HairRope", name := "laysWays", desc := "(LHairRope$Village;I)V" } : Jvm.MethodName)) ∈ lw_all := lw_g (lw_at lw_m6 31 rfl) rfl
theorem q1365 : (Jvm.Cond.code ({ cls := "HairRope", name := "laysWays", desc := "(LHairRope$Village;I)V" } : Jvm.MethodName) prog_1_method_42_code (6 : Nat) (Option.none : Option Jvm.ClassFile.FieldType)) ∈ lw_all := lw_g (lw_at lw_m6 32 rfl) rfl
theorem q1366 : (Jvm.Cond.methodLink "HairRope" (297 : Nat) ({ cls := "HairRope", name := "allHouses", desc := "()I" } : Jvm.MethodName)) ∈ lw_all := lw_g (lw_at lw_m6 33 rfl) rfl
theorem q1367 : (Jvm.Cond.privateMethod ({ cls := "HairRope", name := "allHouses", desc := "()I" } : Jvm.MethodName)) ∈ lw_tbl := lw_at lw_m6 34 rfl
theorem q1368 : (Jvm.Cond.instanceMethod ({ cls := "HairRope", name := "allHouses", desc := "()I" } : Jvm.MethodName)) ∈ lw_all := lw_g (lw_at lw_m6 35 rfl) rfl
theorem q1369 : (Jvm.Cond.code ({ cls := "HairRope", name := "allHouses", desc := "()I" } : Jvm.MethodName) prog_1_method_41_code (1 : Nat) (Option.some Jvm.ClassFile.FieldType.int)) ∈ lw_all := lw_g (lw_at lw_m6 36 rfl) rfl
theorem q1370 : (Jvm.Cond.methodLink "HairRope" (300 : Nat) ({ cls := "java/lang/Integer", name := "numberOfTrailingZeros", desc := "(I)I" } : Jvm.MethodName)) ∈ lw_all := lw_g (lw_at lw_m6 37 rfl) rfl
theorem q1374 : (Jvm.Cond.methodLink "HairRope" (305 : Nat) ({ cls := "HairRope$Village", name := "longOf", desc := "(I)I" } : Jvm.MethodName)) ∈ lw_all := lw_g (lw_at lw_m6 41 rfl) rfl
theorem q1378 : (Jvm.Cond.methodLink "HairRope" (308 : Nat) ({ cls := "HairRope", name := "waysOf", desc := "(LHairRope$Village;III)I" } : Jvm.MethodName)) ∈ lw_all := lw_g (lw_at lw_m6 45 rfl) rfl
theorem q1379 : (Jvm.Cond.privateMethod ({ cls := "HairRope", name := "waysOf", desc := "(LHairRope$Village;III)I" } : Jvm.MethodName)) ∈ lw_tbl := lw_at lw_m6 46 rfl
theorem q1380 : (Jvm.Cond.instanceMethod ({ cls := "HairRope", name := "waysOf", desc := "(LHairRope$Village;III)I" } : Jvm.MethodName)) ∈ lw_all := lw_g (lw_at lw_m6 47 rfl) rfl
theorem q1381 : (Jvm.Cond.code ({ cls := "HairRope", name := "waysOf", desc := "(LHairRope$Village;III)I" } : Jvm.MethodName) prog_1_method_43_code (8 : Nat) (Option.some Jvm.ClassFile.FieldType.int)) ∈ lw_all := lw_g (lw_at lw_m6 48 rfl) rfl
theorem q1382 : (Jvm.Cond.methodLink "HairRope" (312 : Nat) ({ cls := "HairRope$Village", name := "strength", desc := "(LHairRope$Text;I)I" } : Jvm.MethodName)) ∈ lw_all := lw_g (lw_at lw_m6 49 rfl) rfl
theorem q1383 : (Jvm.Cond.methodLink "HairRope" (319 : Nat) ({ cls := "HairRope", name := "reaching", desc := "(I)I" } : Jvm.MethodName)) ∈ lw_all := lw_g (lw_at lw_m6 50 rfl) rfl
theorem q1384 : (Jvm.Cond.privateMethod ({ cls := "HairRope", name := "reaching", desc := "(I)I" } : Jvm.MethodName)) ∈ lw_tbl := lw_at lw_m6 51 rfl
theorem q1385 : (Jvm.Cond.instanceMethod ({ cls := "HairRope", name := "reaching", desc := "(I)I" } : Jvm.MethodName)) ∈ lw_all := lw_g (lw_at lw_m6 52 rfl) rfl
theorem q1386 : (Jvm.Cond.code ({ cls := "HairRope", name := "reaching", desc := "(I)I" } : Jvm.MethodName) prog_1_method_44_code (4 : Nat) (Option.some Jvm.ClassFile.FieldType.int)) ∈ lw_all := lw_g (lw_at lw_m6 53 rfl) rfl
theorem q1388 : (Jvm.Cond.instanceMethod ({ cls := "HairRope", name := "peak", desc := "()I" } : Jvm.MethodName)) ∈ lw_all := lw_g (lw_at lw_m6 55 rfl) rfl
theorem q1389 : (Jvm.Cond.selects "HairRope" ({ cls := "HairRope", name := "peak", desc := "()I" } : Jvm.MethodName) ({ cls := "HairRope", name := "peak", desc := "()I" } : Jvm.MethodName)) ∈ lw_all := lw_g (lw_at lw_m6 56 rfl) rfl
theorem q1390 : (Jvm.Cond.code ({ cls := "HairRope", name := "peak", desc := "()I" } : Jvm.MethodName) prog_1_method_47_code (2 : Nat) (Option.some Jvm.ClassFile.FieldType.int)) ∈ lw_all := lw_g (lw_at lw_m6 57 rfl) rfl
theorem q1392 : (Jvm.Cond.instanceMethod ({ cls := "HairRope", name := "fewest", desc := "(II)I" } : Jvm.MethodName)) ∈ lw_all := lw_g (lw_at lw_m6 59 rfl) rfl
theorem q1393 : (Jvm.Cond.selects "HairRope" ({ cls := "HairRope", name := "fewest", desc := "(II)I" } : Jvm.MethodName) ({ cls := "HairRope", name := "fewest", desc := "(II)I" } : Jvm.MethodName)) ∈ lw_all := lw_g (lw_at lw_m6 60 rfl) rfl
theorem q1394 : (Jvm.Cond.code ({ cls := "HairRope", name := "fewest", desc := "(II)I" } : Jvm.MethodName) prog_1_method_50_code (7 : Nat) (Option.some Jvm.ClassFile.FieldType.int)) ∈ lw_all := lw_g (lw_at lw_m6 61 rfl) rfl
theorem q1395 : (Jvm.Cond.constant "HairRope" (329 : Nat) (1000000 : Int32)) ∈ lw_all := lw_g (lw_at lw_m6 62 rfl) rfl
theorem q1396 : (Jvm.Cond.methodLink "HairRope" (330 : Nat) ({ cls := "java/lang/Integer", name := "bitCount", desc := "(I)I" } : Jvm.MethodName)) ∈ lw_all := lw_g (lw_at lw_m6 63 rfl) rfl
theorem q1402 : (Jvm.Cond.methodLink "HairRope" (333 : Nat) ({ cls := "HairRope", name := "laysRow", desc := "(II)V" } : Jvm.MethodName)) ∈ lw_all := lw_g (lw_at lw_m6 69 rfl) rfl
theorem q1403 : (Jvm.Cond.privateMethod ({ cls := "HairRope", name := "laysRow", desc := "(II)V" } : Jvm.MethodName)) ∈ lw_tbl := lw_at lw_m6 70 rfl
theorem q1404 : (Jvm.Cond.instanceMethod ({ cls := "HairRope", name := "laysRow", desc := "(II)V" } : Jvm.MethodName)) ∈ lw_all := lw_g (lw_at lw_m6 71 rfl) rfl
theorem q1405 : (Jvm.Cond.code ({ cls := "HairRope", name := "laysRow", desc := "(II)V" } : Jvm.MethodName) prog_1_method_48_code (7 : Nat) (Option.none : Option Jvm.ClassFile.FieldType)) ∈ lw_all := lw_g (lw_at lw_m6 72 rfl) rfl
theorem q1406 : (Jvm.Cond.methodLink "HairRope" (337 : Nat) ({ cls := "HairRope", name := "isLower", desc := "(I)Z" } : Jvm.MethodName)) ∈ lw_all := lw_g (lw_at lw_m6 73 rfl) rfl
theorem q1407 : (Jvm.Cond.privateMethod ({ cls := "HairRope", name := "isLower", desc := "(I)Z" } : Jvm.MethodName)) ∈ lw_tbl := lw_at lw_m6 74 rfl
theorem q1408 : (Jvm.Cond.instanceMethod ({ cls := "HairRope", name := "isLower", desc := "(I)Z" } : Jvm.MethodName)) ∈ lw_all := lw_g (lw_at lw_m6 75 rfl) rfl
theorem q1409 : (Jvm.Cond.code ({ cls := "HairRope", name := "isLower", desc := "(I)Z" } : Jvm.MethodName) prog_1_method_49_code (3 : Nat) (Option.some Jvm.ClassFile.FieldType.boolean)) ∈ lw_all := lw_g (lw_at lw_m6 76 rfl) rfl
theorem q1411 : (Jvm.Cond.instanceMethod ({ cls := "HairRope", name := "needed", desc := "(I)I" } : Jvm.MethodName)) ∈ lw_all := lw_g (lw_at lw_m6 78 rfl) rfl
theorem q1412 : (Jvm.Cond.selects "HairRope" ({ cls := "HairRope", name := "needed", desc := "(I)I" } : Jvm.MethodName) ({ cls := "HairRope", name := "needed", desc := "(I)I" } : Jvm.MethodName)) ∈ lw_all := lw_g (lw_at lw_m6 79 rfl) rfl
theorem q1413 : (Jvm.Cond.code ({ cls := "HairRope", name := "needed", desc := "(I)I" } : Jvm.MethodName) prog_1_method_51_code (5 : Nat) (Option.some Jvm.ClassFile.FieldType.int)) ∈ lw_all := lw_g (lw_at lw_m6 80 rfl) rfl
theorem q1415 : (Jvm.Cond.instanceMethod ({ cls := "HairRope", name := "soon", desc := "(I)I" } : Jvm.MethodName)) ∈ lw_all := lw_g (lw_at lw_m6 82 rfl) rfl
theorem q1416 : (Jvm.Cond.selects "HairRope" ({ cls := "HairRope", name := "soon", desc := "(I)I" } : Jvm.MethodName) ({ cls := "HairRope", name := "soon", desc := "(I)I" } : Jvm.MethodName)) ∈ lw_all := lw_g (lw_at lw_m6 83 rfl) rfl
theorem q1417 : (Jvm.Cond.code ({ cls := "HairRope", name := "soon", desc := "(I)I" } : Jvm.MethodName) prog_1_method_52_code (3 : Nat) (Option.some Jvm.ClassFile.FieldType.int)) ∈ lw_all := lw_g (lw_at lw_m6 84 rfl) rfl
theorem q1419 : (Jvm.Cond.instanceMethod ({ cls := "HairRope", name := "peace", desc := "(II)I" } : Jvm.MethodName)) ∈ lw_all := lw_g (lw_at lw_m6 86 rfl) rfl
theorem q1420 : (Jvm.Cond.selects "HairRope" ({ cls := "HairRope", name := "peace", desc := "(II)I" } : Jvm.MethodName) ({ cls := "HairRope", name := "peace", desc := "(II)I" } : Jvm.MethodName)) ∈ lw_all := lw_g (lw_at lw_m6 87 rfl) rfl
theorem q1421 : (Jvm.Cond.code ({ cls := "HairRope", name := "peace", desc := "(II)I" } : Jvm.MethodName) prog_1_method_57_code (6 : Nat) (Option.some Jvm.ClassFile.FieldType.int)) ∈ lw_all := lw_g (lw_at lw_m6 88 rfl) rfl
theorem q1422 : (Jvm.Cond.methodLink "HairRope" (343 : Nat) ({ cls := "HairRope", name := "isPeace", desc := "(III)Z" } : Jvm.MethodName)) ∈ lw_all := lw_g (lw_at lw_m6 89 rfl) rfl
theorem q1423 : (Jvm.Cond.privateMethod ({ cls := "HairRope", name := "isPeace", desc := "(III)Z" } : Jvm.MethodName)) ∈ lw_tbl := lw_at lw_m6 90 rfl
theorem q1424 : (Jvm.Cond.instanceMethod ({ cls := "HairRope", name := "isPeace", desc := "(III)Z" } : Jvm.MethodName)) ∈ lw_all := lw_g (lw_at lw_m6 91 rfl) rfl
theorem q1425 : (Jvm.Cond.code ({ cls := "HairRope", name := "isPeace", desc := "(III)Z" } : Jvm.MethodName) prog_1_method_55_code (4 : Nat) (Option.some Jvm.ClassFile.FieldType.boolean)) ∈ lw_all := lw_g (lw_at lw_m6 92 rfl) rfl
theorem q1426 : (Jvm.Cond.methodLink "HairRope" (340 : Nat) ({ cls := "HairRope", name := "befriends", desc := "(I)V" } : Jvm.MethodName)) ∈ lw_all := lw_g (lw_at lw_m6 93 rfl) rfl
theorem q1427 : (Jvm.Cond.privateMethod ({ cls := "HairRope", name := "befriends", desc := "(I)V" } : Jvm.MethodName)) ∈ lw_tbl := lw_at lw_m6 94 rfl
theorem q1428 : (Jvm.Cond.instanceMethod ({ cls := "HairRope", name := "befriends", desc := "(I)V" } : Jvm.MethodName)) ∈ lw_all := lw_g (lw_at lw_m6 95 rfl) rfl
theorem q1429 : (Jvm.Cond.code ({ cls := "HairRope", name := "befriends", desc := "(I)V" } : Jvm.MethodName) prog_1_method_54_code (4 : Nat) (Option.none : Option Jvm.ClassFile.FieldType)) ∈ lw_all := lw_g (lw_at lw_m6 96 rfl) rfl
theorem q1430 : (Jvm.Cond.methodLink "HairRope" (346 : Nat) ({ cls := "HairRope", name := "peaceBy", desc := "(IIII)I" } : Jvm.MethodName)) ∈ lw_all := lw_g (lw_at lw_m6 97 rfl) rfl
theorem q1431 : (Jvm.Cond.static ({ cls := "HairRope", name := "peaceBy", desc := "(IIII)I" } : Jvm.MethodName)) ∈ lw_all := lw_g (lw_at lw_m6 98 rfl) rfl
theorem q1432 : (Jvm.Cond.code ({ cls := "HairRope", name := "peaceBy", desc := "(IIII)I" } : Jvm.MethodName) prog_1_method_56_code (4 : Nat) (Option.some Jvm.ClassFile.FieldType.int)) ∈ lw_all := lw_g (lw_at lw_m6 99 rfl) rfl
theorem q1433 : (Jvm.Cond.methodLink "HairRope" (350 : Nat) ({ cls := "HairRope", name := "twoOf", desc := "(I)I" } : Jvm.MethodName)) ∈ lw_all := lw_g (lw_at lw_m6 100 rfl) rfl
theorem q1434 : (Jvm.Cond.privateMethod ({ cls := "HairRope", name := "twoOf", desc := "(I)I" } : Jvm.MethodName)) ∈ lw_tbl := lw_at lw_m6 101 rfl
theorem q1435 : (Jvm.Cond.instanceMethod ({ cls := "HairRope", name := "twoOf", desc := "(I)I" } : Jvm.MethodName)) ∈ lw_all := lw_g (lw_at lw_m6 102 rfl) rfl
theorem q1436 : (Jvm.Cond.code ({ cls := "HairRope", name := "twoOf", desc := "(I)I" } : Jvm.MethodName) prog_1_method_53_code (5 : Nat) (Option.some Jvm.ClassFile.FieldType.int)) ∈ lw_all := lw_g (lw_at lw_m6 103 rfl) rfl
theorem q1438 : (Jvm.Cond.instanceMethod ({ cls := "HairRope", name := "rests", desc := "(I)I" } : Jvm.MethodName)) ∈ lw_all := lw_g (lw_at lw_m6 105 rfl) rfl
theorem q1439 : (Jvm.Cond.selects "HairRope" ({ cls := "HairRope", name := "rests", desc := "(I)I" } : Jvm.MethodName) ({ cls := "HairRope", name := "rests", desc := "(I)I" } : Jvm.MethodName)) ∈ lw_all := lw_g (lw_at lw_m6 106 rfl) rfl
theorem q1440 : (Jvm.Cond.code ({ cls := "HairRope", name := "rests", desc := "(I)I" } : Jvm.MethodName) prog_1_method_62_code (5 : Nat) (Option.some Jvm.ClassFile.FieldType.int)) ∈ lw_all := lw_g (lw_at lw_m6 107 rfl) rfl
theorem q1441 : (Jvm.Cond.methodLink "HairRope" (359 : Nat) ({ cls := "HairRope", name := "givers", desc := "()I" } : Jvm.MethodName)) ∈ lw_all := lw_g (lw_at lw_m6 108 rfl) rfl
theorem q1442 : (Jvm.Cond.privateMethod ({ cls := "HairRope", name := "givers", desc := "()I" } : Jvm.MethodName)) ∈ lw_tbl := lw_at lw_m6 109 rfl
theorem q1443 : (Jvm.Cond.instanceMethod ({ cls := "HairRope", name := "givers", desc := "()I" } : Jvm.MethodName)) ∈ lw_all := lw_g (lw_at lw_m6 110 rfl) rfl
theorem q1444 : (Jvm.Cond.code ({ cls := "HairRope", name := "givers", desc := "()I" } : Jvm.MethodName) prog_1_method_58_code (3 : Nat) (Option.some Jvm.ClassFile.FieldType.int)) ∈ lw_all := lw_g (lw_at lw_m6 111 rfl) rfl
theorem q1445 : (Jvm.Cond.methodLink "HairRope" (365 : Nat) ({ cls := "HairRope", name := "isRest", desc := "(I)Z" } : Jvm.MethodName)) ∈ lw_all := lw_g (lw_at lw_m6 112 rfl) rfl
theorem q1446 : (Jvm.Cond.privateMethod ({ cls := "HairRope", name := "isRest", desc := "(I)Z" } : Jvm.MethodName)) ∈ lw_tbl := lw_at lw_m6 113 rfl
theorem q1447 : (Jvm.Cond.instanceMethod ({ cls := "HairRope", name := "isRest", desc := "(I)Z" } : Jvm.MethodName)) ∈ lw_all := lw_g (lw_at lw_m6 114 rfl) rfl
theorem q1448 : (Jvm.Cond.code ({ cls := "HairRope", name := "isRest", desc := "(I)Z" } : Jvm.MethodName) prog_1_method_61_code (3 : Nat) (Option.some Jvm.ClassFile.FieldType.boolean)) ∈ lw_all := lw_g (lw_at lw_m6 115 rfl) rfl
theorem q1449 : (Jvm.Cond.methodLink "HairRope" (362 : Nat) ({ cls := "HairRope", name := "worth", desc := "(II)I" } : Jvm.MethodName)) ∈ lw_all := lw_g (lw_at lw_m6 116 rfl) rfl
theorem q1450 : (Jvm.Cond.privateMethod ({ cls := "HairRope", name := "worth", desc := "(II)I" } : Jvm.MethodName)) ∈ lw_tbl := lw_at lw_m6 117 rfl
theorem q1451 : (Jvm.Cond.instanceMethod ({ cls := "HairRope", name := "worth", desc := "(II)I" } : Jvm.MethodName)) ∈ lw_all := lw_g (lw_at lw_m6 118 rfl) rfl
theorem q1452 : (Jvm.Cond.code ({ cls := "HairRope", name := "worth", desc := "(II)I" } : Jvm.MethodName) prog_1_method_60_code (3 : Nat) (Option.some Jvm.ClassFile.FieldType.int)) ∈ lw_all := lw_g (lw_at lw_m6 119 rfl) rfl
theorem q1453 : (Jvm.Cond.methodLink "HairRope" (353 : Nat) ({ cls := "HairRope", name := "isEnough", desc := "(I)Z" } : Jvm.MethodName)) ∈ lw_all := lw_g (lw_at lw_m6 120 rfl) rfl
theorem q1454 : (Jvm.Cond.privateMethod ({ cls := "HairRope", name := "isEnough", desc := "(I)Z" } : Jvm.MethodName)) ∈ lw_tbl := lw_at lw_m6 121 rfl
theorem q1455 : (Jvm.Cond.instanceMethod ({ cls := "HairRope", name := "isEnough", desc := "(I)Z" } : Jvm.MethodName)) ∈ lw_all := lw_g (lw_at lw_m6 122 rfl) rfl
theorem q1456 : (Jvm.Cond.code ({ cls := "HairRope", name := "isEnough", desc := "(I)Z" } : Jvm.MethodName) prog_1_method_59_code (4 : Nat) (Option.some Jvm.ClassFile.FieldType.boolean)) ∈ lw_all := lw_g (lw_at lw_m6 123 rfl) rfl
theorem q1458 : (Jvm.Cond.instanceMethod ({ cls := "HairRope", name := "pivots", desc := "()I" } : Jvm.MethodName)) ∈ lw_all := lw_g (lw_at lw_m6 125 rfl) rfl
theorem q1459 : (Jvm.Cond.selects "HairRope" ({ cls := "HairRope", name := "pivots", desc := "()I" } : Jvm.MethodName) ({ cls := "HairRope", name := "pivots", desc := "()I" } : Jvm.MethodName)) ∈ lw_all := lw_g (lw_at lw_m6 126 rfl) rfl
theorem q1460 : (Jvm.Cond.code ({ cls := "HairRope", name := "pivots", desc := "()I" } : Jvm.MethodName) prog_1_method_63_code (3 : Nat) (Option.some Jvm.ClassFile.FieldType.int)) ∈ lw_all := lw_g (lw_at lw_m6 127 rfl) rfl
theorem q1462 : (Jvm.Cond.instanceMethod ({ cls := "HairRope", name := "then", desc := "(III)I" } : Jvm.MethodName)) ∈ lw_all := lw_g (lw_at lw_m6 129 rfl) rfl
theorem q1463 : (Jvm.Cond.selects "HairRope" ({ cls := "HairRope", name := "then", desc := "(III)I" } : Jvm.MethodName) ({ cls := "HairRope", name := "then", desc := "(III)I" } : Jvm.MethodName)) ∈ lw_all := lw_g (lw_at lw_m6 130 rfl) rfl
theorem q1464 : (Jvm.Cond.code ({ cls := "HairRope", name := "then", desc := "(III)I" } : Jvm.MethodName) prog_1_method_64_code (4 : Nat) (Option.some Jvm.ClassFile.FieldType.int)) ∈ lw_all := lw_g (lw_at lw_m6 131 rfl) rfl
theorem q1466 : (Jvm.Cond.instanceMethod ({ cls := "HairRope", name := "year", desc := "(IIII)I" } : Jvm.MethodName)) ∈ lw_all := lw_g (lw_at lw_m6 133 rfl) rfl
theorem q1467 : (Jvm.Cond.selects "HairRope" ({ cls := "HairRope", name := "year", desc := "(IIII)I" } : Jvm.MethodName) ({ cls := "HairRope", name := "year", desc := "(IIII)I" } : Jvm.MethodName)) ∈ lw_all := lw_g (lw_at lw_m6 134 rfl) rfl
theorem q1468 : (Jvm.Cond.code ({ cls := "HairRope", name := "year", desc := "(IIII)I" } : Jvm.MethodName) prog_1_method_65_code (7 : Nat) (Option.some Jvm.ClassFile.FieldType.int)) ∈ lw_all := lw_g (lw_at lw_m6 135 rfl) rfl
theorem q1470 : (Jvm.Cond.instanceMethod ({ cls := "HairRope", name := "tell", desc := "(IIZ)I" } : Jvm.MethodName)) ∈ lw_all := lw_g (lw_at lw_m6 137 rfl) rfl
theorem q1471 : (Jvm.Cond.selects "HairRope" ({ cls := "HairRope", name := "tell", desc := "(IIZ)I" } : Jvm.MethodName) ({ cls := "HairRope", name := "tell", desc := "(IIZ)I" } : Jvm.MethodName)) ∈ lw_all := lw_g (lw_at lw_m6 138 rfl) rfl
theorem q1472 : (Jvm.Cond.code ({ cls := "HairRope", name := "tell", desc := "(IIZ)I" } : Jvm.MethodName) prog_1_method_66_code (4 : Nat) (Option.some Jvm.ClassFile.FieldType.int)) ∈ lw_all := lw_g (lw_at lw_m6 139 rfl) rfl
theorem q1474 : (Jvm.Cond.instanceMethod ({ cls := "HairRope", name := "forget", desc := "()I" } : Jvm.MethodName)) ∈ lw_all := lw_g (lw_at lw_m6 141 rfl) rfl
theorem q1475 : (Jvm.Cond.selects "HairRope" ({ cls := "HairRope", name := "forget", desc := "()I" } : Jvm.MethodName) ({ cls := "HairRope", name := "forget", desc := "()I" } : Jvm.MethodName)) ∈ lw_all := lw_g (lw_at lw_m6 142 rfl) rfl
theorem q1476 : (Jvm.Cond.code ({ cls := "HairRope", name := "forget", desc := "()I" } : Jvm.MethodName) prog_1_method_67_code (2 : Nat) (Option.some Jvm.ClassFile.FieldType.int)) ∈ lw_all := lw_g (lw_at lw_m6 143 rfl) rfl
theorem q1478 : (Jvm.Cond.instanceMethod ({ cls := "HairRope", name := "rows", desc := "(III)I" } : Jvm.MethodName)) ∈ lw_all := lw_g (lw_at lw_m6 145 rfl) rfl
theorem q1479 : (Jvm.Cond.selects "HairRope" ({ cls := "HairRope", name := "rows", desc := "(III)I" } : Jvm.MethodName) ({ cls := "HairRope", name := "rows", desc := "(III)I" } : Jvm.MethodName)) ∈ lw_all := lw_g (lw_at lw_m6 146 rfl) rfl
theorem q1480 : (Jvm.Cond.code ({ cls := "HairRope", name := "rows", desc := "(III)I" } : Jvm.MethodName) prog_1_method_71_code (4 : Nat) (Option.some Jvm.ClassFile.FieldType.int)) ∈ lw_all := lw_g (lw_at lw_m6 147 rfl) rfl
theorem q1481 : (Jvm.Cond.methodLink "HairRope" (385 : Nat) ({ cls := "HairRope", name := "laysFits", desc := "(II)V" } : Jvm.MethodName)) ∈ lw_all := lw_g (lw_at lw_m6 148 rfl) rfl
theorem q1482 : (Jvm.Cond.privateMethod ({ cls := "HairRope", name := "laysFits", desc := "(II)V" } : Jvm.MethodName)) ∈ lw_tbl := lw_at lw_m6 149 rfl
theorem q1483 : (Jvm.Cond.instanceMethod ({ cls := "HairRope", name := "laysFits", desc := "(II)V" } : Jvm.MethodName)) ∈ lw_all := lw_g (lw_at lw_m6 150 rfl) rfl
theorem q1484 : (Jvm.Cond.code ({ cls := "HairRope", name := "laysFits", desc := "(II)V" } : Jvm.MethodName) prog_1_method_70_code (5 : Nat) (Option.none : Option Jvm.ClassFile.FieldType)) ∈ lw_all := lw_g (lw_at lw_m6 151 rfl) rfl
theorem q1485 : (Jvm.Cond.methodLink "HairRope" (381 : Nat) ({ cls := "HairRope", name := "rowsFit", desc := "(IIIII)V" } : Jvm.MethodName)) ∈ lw_all := lw_g (lw_at lw_m6 152 rfl) rfl
theorem q1486 : (Jvm.Cond.privateMethod ({ cls := "HairRope", name := "rowsFit", desc := "(IIIII)V" } : Jvm.MethodName)) ∈ lw_tbl := lw_at lw_m6 153 rfl
theorem q1487 : (Jvm.Cond.instanceMethod ({ cls := "HairRope", name := "rowsFit", desc := "(IIIII)V" } : Jvm.MethodName)) ∈ lw_all := lw_g (lw_at lw_m6 154 rfl) rfl
theorem q1488 : (Jvm.Cond.code ({ cls := "HairRope", name := "rowsFit", desc := "(IIIII)V" } : Jvm.MethodName) prog_1_method_69_code (7 : Nat) (Option.none : Option Jvm.ClassFile.FieldType)) ∈ lw_all := lw_g (lw_at lw_m6 155 rfl) rfl
theorem q1489 : (Jvm.Cond.methodLink "HairRope" (372 : Nat) ({ cls := "HairRope", name := "isSo", desc := "(II)Z" } : Jvm.MethodName)) ∈ lw_all := lw_g (lw_at lw_m6 156 rfl) rfl
theorem q1490 : (Jvm.Cond.privateMethod ({ cls := "HairRope", name := "isSo", desc := "(II)Z" } : Jvm.MethodName)) ∈ lw_tbl := lw_at lw_m6 157 rfl
theorem q1491 : (Jvm.Cond.instanceMethod ({ cls := "HairRope", name := "isSo", desc := "(II)Z" } : Jvm.MethodName)) ∈ lw_all := lw_g (lw_at lw_m6 158 rfl) rfl
theorem q1492 : (Jvm.Cond.code ({ cls := "HairRope", name := "isSo", desc := "(II)Z" } : Jvm.MethodName) prog_1_method_68_code (4 : Nat) (Option.some Jvm.ClassFile.FieldType.boolean)) ∈ lw_all := lw_g (lw_at lw_m6 159 rfl) rfl
theorem q1494 : (Jvm.Cond.instanceMethod ({ cls := "HairRope", name := "feel", desc := "(III)I" } : Jvm.MethodName)) ∈ lw_all := lw_g (lw_at lw_m6 161 rfl) rfl
theorem q1495 : (Jvm.Cond.selects "HairRope" ({ cls := "HairRope", name := "feel", desc := "(III)I" } : Jvm.MethodName) ({ cls := "HairRope", name := "feel", desc := "(III)I" } : Jvm.MethodName)) ∈ lw_all := lw_g (lw_at lw_m6 162 rfl) rfl
theorem q1496 : (Jvm.Cond.code ({ cls := "HairRope", name := "feel", desc := "(III)I" } : Jvm.MethodName) prog_1_method_72_code (9 : Nat) (Option.some Jvm.ClassFile.FieldType.int)) ∈ lw_all := lw_g (lw_at lw_m6 163 rfl) rfl
theorem q1498 : (Jvm.Cond.instanceMethod ({ cls := "HairRope", name := "hold", desc := "(I)Z" } : Jvm.MethodName)) ∈ lw_all := lw_g (lw_at lw_m6 165 rfl) rfl
theorem q1499 : (Jvm.Cond.selects "HairRope" ({ cls := "HairRope", name := "hold", desc := "(I)Z" } : Jvm.MethodName) ({ cls := "HairRope", name := "hold", desc := "(I)Z" } : Jvm.MethodName)) ∈ lw_all := lw_g (lw_at lw_m6 166 rfl) rfl
theorem q1500 : (Jvm.Cond.code ({ cls := "HairRope", name := "hold", desc := "(I)Z" } : Jvm.MethodName) prog_1_method_73_code (2 : Nat) (Option.some Jvm.ClassFile.FieldType.boolean)) ∈ lw_all := lw_g (lw_at lw_m6 167 rfl) rfl
theorem q1502 : (Jvm.Cond.instanceMethod ({ cls := "HairRope", name := "restore", desc := "(I)Z" } : Jvm.MethodName)) ∈ lw_all := lw_g (lw_at lw_m6 169 rfl) rfl
theorem q1503 : (Jvm.Cond.selects "HairRope" ({ cls := "HairRope", name := "restore", desc := "(I)Z" } : Jvm.MethodName) ({ cls := "HairRope", name := "restore", desc := "(I)Z" } : Jvm.MethodName)) ∈ lw_all := lw_g (lw_at lw_m6 170 rfl) rfl
theorem q1504 : (Jvm.Cond.code ({ cls := "HairRope", name := "restore", desc := "(I)Z" } : Jvm.MethodName) prog_1_method_74_code (2 : Nat) (Option.some Jvm.ClassFile.FieldType.boolean)) ∈ lw_all := lw_g (lw_at lw_m6 171 rfl) rfl
theorem q1506 : (Jvm.Cond.instanceMethod ({ cls := "HairRope", name := "count", desc := "(I)I" } : Jvm.MethodName)) ∈ lw_all := lw_g (lw_at lw_m6 173 rfl) rfl
theorem q1507 : (Jvm.Cond.selects "HairRope" ({ cls := "HairRope", name := "count", desc := "(I)I" } : Jvm.MethodName) ({ cls := "HairRope", name := "count", desc := "(I)I" } : Jvm.MethodName)) ∈ lw_all := lw_g (lw_at lw_m6 174 rfl) rfl
theorem q1508 : (Jvm.Cond.code ({ cls := "HairRope", name := "count", desc := "(I)I" } : Jvm.MethodName) prog_1_method_75_code (4 : Nat) (Option.some Jvm.ClassFile.FieldType.int)) ∈ lw_all := lw_g (lw_at lw_m6 175 rfl) rfl
theorem q2229 : (Jvm.Cond.castable "HairRope" "java/lang/Object") ∈ lw_tbl := lw_at lw_m9 176 rfl
theorem in_X0 : ∀ w ∈ wsX00, w ∈ lw_all := lw_in wsX00 [556, 558, 560, 562, 564, 566, 568, 570, 572, 574, 576, 578, 580, 582, 584, 586, 588, 590, 592, 594, 596, 598, 600, 602, 604, 606, 608] (by decide +kernel) (by decide +kernel)

/-! HairRope$Fault -/
def RX1 : String := "HairRope$Fault"
def TX1 : u_T := fun k => match k with
  | 0 => ("java/lang/Throwable", "cause", "Ljava/lang/Throwable;", false)
  | 1 => ("java/lang/Throwable", "stackTrace", "[Ljava/lang/StackTraceElement;", false)
  | 2 => ("java/lang/Throwable", "suppressedExceptions", "Ljava/util/List;", false)
  | 3 => ("java/lang/Throwable", "detailMessage", "Ljava/lang/String;", false)
  | 4 => ("java/lang/Throwable", "backtrace", "Ljava/lang/Object;", false)
  | 5 => ("java/lang/Throwable", "depth", "I", false)
  | 6 => ("HairRope$Fault", "number", "I", false)
  | _ => ("HairRope$Fault", "place", "I", false)
def tyX1 : Nat → FieldType := fun k => match k with
  | 0 => .object "java/lang/Throwable"
  | 1 => .array (.object "java/lang/StackTraceElement")
  | 2 => .object "java/util/List"
  | 3 => .object "java/lang/String"
  | 4 => .object "java/lang/Object"
  | 5 => .int
  | 6 => .int
  | _ => .int
abbrev wsX10 : List Cond := u_ws RX1 TX1 8
theorem nmX1 : ∀ a, a < 8 → ∀ b, b < 8 → a ≠ b → (TX1 a).2.1 ≠ (TX1 b).2.1 := by decide +kernel
theorem tyX1_ok : ∀ k, k < 8 → parseFieldDescriptor (TX1 k).2.2.1 = some (tyX1 k) := by decide +kernel
abbrev cX1_init : ByteArray := prog_5_method_1_code
def yX1_init : MethodName := ⟨RX1, "<init>", "()V"⟩
abbrev cX1_of : ByteArray := prog_5_method_2_code
def yX1_of : MethodName := ⟨RX1, "of", "(II)LHairRope$Fault;"⟩
theorem q138 : (Jvm.Cond.initialized "HairRope$Fault") ∈ lw_all := lw_g (lw_at lw_m1 5 rfl) rfl
theorem q178 : (Jvm.Cond.instantiable "HairRope$Fault" (8 : Nat)) ∈ lw_all := lw_g (lw_at lw_m1 45 rfl) rfl
theorem q179 : (Jvm.Cond.castable "HairRope$Fault" "HairRope$Fault") ∈ lw_tbl := lw_at lw_m1 46 rfl
theorem q186 : (Jvm.Cond.selects "HairRope$Fault" ({ cls := "java/lang/Throwable", name := "fillInStackTrace", desc := "(I)Ljava/lang/Throwable;" } : Jvm.MethodName) ({ cls := "java/lang/Throwable", name := "fillInStackTrace", desc := "(I)Ljava/lang/Throwable;" } : Jvm.MethodName)) ∈ lw_all := lw_g (lw_at lw_m1 53 rfl) rfl
theorem q187 : (Jvm.Cond.selects "HairRope$Fault" ({ cls := "java/lang/Throwable", name := "fillInStackTrace", desc := "()Ljava/lang/Throwable;" } : Jvm.MethodName) ({ cls := "java/lang/Throwable", name := "fillInStackTrace", desc := "()Ljava/lang/Throwable;" } : Jvm.MethodName)) ∈ lw_all := lw_g (lw_at lw_m1 54 rfl) rfl
theorem q188 : (Jvm.Cond.lays "HairRope$Fault" "java/lang/Throwable" "cause" "Ljava/lang/Throwable;") ∈ lw_all := lw_g (lw_at lw_m1 55 rfl) rfl
theorem q190 : (Jvm.Cond.lays "HairRope$Fault" "java/lang/Throwable" "stackTrace" "[Ljava/lang/StackTraceElement;") ∈ lw_all := lw_g (lw_at lw_m1 57 rfl) rfl
theorem q192 : (Jvm.Cond.lays "HairRope$Fault" "java/lang/Throwable" "suppressedExceptions" "Ljava/util/List;") ∈ lw_all := lw_g (lw_at lw_m1 59 rfl) rfl
theorem q194 : (Jvm.Cond.lays "HairRope$Fault" "java/lang/Throwable" "detailMessage" "Ljava/lang/String;") ∈ lw_all := lw_g (lw_at lw_m1 61 rfl) rfl
theorem q196 : (Jvm.Cond.lays "HairRope$Fault" "java/lang/Throwable" "backtrace" "Ljava/lang/Object;") ∈ lw_all := lw_g (lw_at lw_m1 63 rfl) rfl
theorem q217 : (Jvm.Cond.instanceMethod ({ cls := "HairRope$Fault", name := "<init>", desc := "()V" } : Jvm.MethodName)) ∈ lw_all := lw_g (lw_at lw_m1 84 rfl) rfl
theorem q218 : (Jvm.Cond.code ({ cls := "HairRope$Fault", name := "<init>", desc := "()V" } : Jvm.MethodName) prog_5_method_1_code (1 : Nat) (Option.none : Option Jvm.ClassFile.FieldType)) ∈ lw_all := lw_g (lw_at lw_m1 85 rfl) rfl
theorem q219 : (Jvm.Cond.stringRef "HairRope$Fault" (1 : Nat) "") ∈ lw_tbl := lw_at lw_m1 86 rfl
theorem q220 : (Jvm.Cond.methodLink "HairRope$Fault" (3 : Nat) ({ cls := "java/lang/RuntimeException", name := "<init>", desc := "(Ljava/lang/String;Ljava/lang/Throwable;ZZ)V" } : Jvm.MethodName)) ∈ lw_all := lw_g (lw_at lw_m1 87 rfl) rfl
theorem q229 : (Jvm.Cond.fieldLink "HairRope$Fault" (9 : Nat) "HairRope$Fault" "number" "I") ∈ lw_all := lw_g (lw_at lw_m1 96 rfl) rfl
theorem q231 : (Jvm.Cond.fieldLink "HairRope$Fault" (15 : Nat) "HairRope$Fault" "place" "I") ∈ lw_all := lw_g (lw_at lw_m1 98 rfl) rfl
theorem q238 : (Jvm.Cond.lays "HairRope$Fault" "HairRope$Fault" "number" "I") ∈ lw_all := lw_g (lw_at lw_m1 105 rfl) rfl
theorem q239 : (Jvm.Cond.soleField "HairRope$Fault" "number") ∈ lw_all := lw_g (lw_at lw_m1 106 rfl) rfl
theorem q240 : (Jvm.Cond.lays "HairRope$Fault" "HairRope$Fault" "place" "I") ∈ lw_all := lw_g (lw_at lw_m1 107 rfl) rfl
theorem q241 : (Jvm.Cond.soleField "HairRope$Fault" "place") ∈ lw_all := lw_g (lw_at lw_m1 108 rfl) rfl
theorem q246 : (Jvm.Cond.lays "HairRope$Fault" "java/lang/Throwable" "depth" "I") ∈ lw_all := lw_g (lw_at lw_m1 113 rfl) rfl
theorem q249 : (Jvm.Cond.superclass "HairRope$Fault" "java/lang/RuntimeException") ∈ lw_all := lw_g (lw_at lw_m1 116 rfl) rfl
theorem q721 : (Jvm.Cond.instanceMethod ({ cls := "HairRope$Fault", name := "of", desc := "(II)LHairRope$Fault;" } : Jvm.MethodName)) ∈ lw_all := lw_g (lw_at lw_m3 108 rfl) rfl
theorem q722 : (Jvm.Cond.selects "HairRope$Fault" ({ cls := "HairRope$Fault", name := "of", desc := "(II)LHairRope$Fault;" } : Jvm.MethodName) ({ cls := "HairRope$Fault", name := "of", desc := "(II)LHairRope$Fault;" } : Jvm.MethodName)) ∈ lw_all := lw_g (lw_at lw_m3 109 rfl) rfl
theorem q723 : (Jvm.Cond.code ({ cls := "HairRope$Fault", name := "of", desc := "(II)LHairRope$Fault;" } : Jvm.MethodName) prog_5_method_2_code (3 : Nat) (Option.some (Jvm.ClassFile.FieldType.object "HairRope$Fault"))) ∈ lw_all := lw_g (lw_at lw_m3 110 rfl) rfl
theorem q1084 : (Jvm.Cond.selects "HairRope$Fault" ({ cls := "java/lang/Object", name := "getClass", desc := "()Ljava/lang/Class;" } : Jvm.MethodName) ({ cls := "java/lang/Object", name := "getClass", desc := "()Ljava/lang/Class;" } : Jvm.MethodName)) ∈ lw_all := lw_g (lw_at lw_m4 231 rfl) rfl
theorem q2230 : (Jvm.Cond.castable "HairRope$Fault" "java/lang/Object") ∈ lw_tbl := lw_at lw_m9 177 rfl
theorem in_X1 : ∀ w ∈ wsX10, w ∈ lw_all := lw_in wsX10 [188, 190, 192, 194, 196, 246, 238, 240] (by decide +kernel) (by decide +kernel)

/-! HairRopeModel -/
def RX10 : String := "HairRopeModel"
def TX10 : u_T := fun k => match k with
  | 0 => ("HairRopeModel", "thrown", "I", false)
  | 1 => ("HairRopeModel", "tape", "[B", true)
  | 2 => ("HairRopeModel", "taped", "I", false)
  | 3 => ("HairRopeModel", "text", "[B", true)
  | 4 => ("HairRopeModel", "size", "I", false)
  | 5 => ("HairRopeModel", "tKind", "[I", true)
  | 6 => ("HairRopeModel", "tPlace", "[I", true)
  | 7 => ("HairRopeModel", "tValue", "[I", true)
  | 8 => ("HairRopeModel", "tName", "[J", true)
  | 9 => ("HairRopeModel", "keys", "[J", true)
  | 10 => ("HairRopeModel", "tokens", "I", false)
  | 11 => ("HairRopeModel", "t", "I", false)
  | 12 => ("HairRopeModel", "open", "I", false)
  | 13 => ("HairRopeModel", "fault", "I", false)
  | 14 => ("HairRopeModel", "faultPlace", "I", false)
  | 15 => ("HairRopeModel", "worst", "I", false)
  | 16 => ("HairRopeModel", "worstPlace", "I", false)
  | 17 => ("HairRopeModel", "place", "I", false)
  | 18 => ("HairRopeModel", "live", "I", false)
  | 19 => ("HairRopeModel", "side", "I", false)
  | 20 => ("HairRopeModel", "names", "I", false)
  | 21 => ("HairRopeModel", "nameOf", "[J", true)
  | 22 => ("HairRopeModel", "houses", "[I", true)
  | 23 => ("HairRopeModel", "firstHair", "[I", true)
  | 24 => ("HairRopeModel", "firstStrong", "[I", true)
  | 25 => ("HairRopeModel", "likesMany", "[I", true)
  | 26 => ("HairRopeModel", "likeTold", "[I", true)
  | 27 => ("HairRopeModel", "well", "[I", true)
  | 28 => ("HairRopeModel", "water", "[I", true)
  | 29 => ("HairRopeModel", "blight", "[I", true)
  | 30 => ("HairRopeModel", "seed", "[I", true)
  | 31 => ("HairRopeModel", "lawFirst", "[I", true)
  | 32 => ("HairRopeModel", "lawLast", "[I", true)
  | 33 => ("HairRopeModel", "branches", "I", false)
  | 34 => ("HairRopeModel", "hasTest", "[Z", true)
  | 35 => ("HairRopeModel", "testFrom", "[I", true)
  | 36 => ("HairRopeModel", "testMid", "[I", true)
  | 37 => ("HairRopeModel", "testTo", "[I", true)
  | 38 => ("HairRopeModel", "termTo", "[I", true)
  | 39 => ("HairRopeModel", "codes", "I", false)
  | 40 => ("HairRopeModel", "code", "[I", true)
  | 41 => ("HairRopeModel", "codeInt", "[I", true)
  | 42 => ("HairRopeModel", "waits", "[I", true)
  | 43 => ("HairRopeModel", "waiting", "I", false)
  | 44 => ("HairRopeModel", "variables", "[I", true)
  | 45 => ("HairRopeModel", "pile", "[I", true)
  | 46 => ("HairRopeModel", "isBroken", "Z", false)
  | 47 => ("HairRopeModel", "now", "[I", true)
  | 48 => ("HairRopeModel", "row", "[I", true)
  | 49 => ("HairRopeModel", "lots", "I", false)
  | 50 => ("HairRopeModel", "isStill", "Z", false)
  | 51 => ("HairRopeModel", "growsNow", "[I", true)
  | 52 => ("HairRopeModel", "weakensNow", "[I", true)
  | 53 => ("HairRopeModel", "undos", "I", false)
  | 54 => ("HairRopeModel", "history", "[I", true)
  | 55 => ("HairRopeModel", "longBy", "[I", true)
  | 56 => ("HairRopeModel", "strongBy", "[I", true)
  | 57 => ("HairRopeModel", "joinBy", "[I", true)
  | 58 => ("HairRopeModel", "nineBy", "[I", true)
  | 59 => ("HairRopeModel", "heldBy", "[I", true)
  | 60 => ("HairRopeModel", "orderAt", "[I", true)
  | 61 => ("HairRopeModel", "orderMany", "I", false)
  | 62 => ("HairRopeModel", "bestOrder", "[I", true)
  | 63 => ("HairRopeModel", "tolds", "I", false)
  | 64 => ("HairRopeModel", "toldPlace", "[I", true)
  | 65 => ("HairRopeModel", "toldBy", "[I", true)
  | 66 => ("HairRopeModel", "toldSo", "[Z", true)
  | 67 => ("HairRopeModel", "digits", "[I", true)
  | 68 => ("HairRopeModel", "aboveBy", "[I", true)
  | 69 => ("HairRopeModel", "isHeld", "[Z", true)
  | _ => ("HairRopeModel", "heldRows", "[I", true)
def tyX10 : Nat → FieldType := fun k => match k with
  | 0 => .int
  | 1 => .array .byte
  | 2 => .int
  | 3 => .array .byte
  | 4 => .int
  | 5 => .array .int
  | 6 => .array .int
  | 7 => .array .int
  | 8 => .array .long
  | 9 => .array .long
  | 10 => .int
  | 11 => .int
  | 12 => .int
  | 13 => .int
  | 14 => .int
  | 15 => .int
  | 16 => .int
  | 17 => .int
  | 18 => .int
  | 19 => .int
  | 20 => .int
  | 21 => .array .long
  | 22 => .array .int
  | 23 => .array .int
  | 24 => .array .int
  | 25 => .array .int
  | 26 => .array .int
  | 27 => .array .int
  | 28 => .array .int
  | 29 => .array .int
  | 30 => .array .int
  | 31 => .array .int
  | 32 => .array .int
  | 33 => .int
  | 34 => .array .boolean
  | 35 => .array .int
  | 36 => .array .int
  | 37 => .array .int
  | 38 => .array .int
  | 39 => .int
  | 40 => .array .int
  | 41 => .array .int
  | 42 => .array .int
  | 43 => .int
  | 44 => .array .int
  | 45 => .array .int
  | 46 => .boolean
  | 47 => .array .int
  | 48 => .array .int
  | 49 => .int
  | 50 => .boolean
  | 51 => .array .int
  | 52 => .array .int
  | 53 => .int
  | 54 => .array .int
  | 55 => .array .int
  | 56 => .array .int
  | 57 => .array .int
  | 58 => .array .int
  | 59 => .array .int
  | 60 => .array .int
  | 61 => .int
  | 62 => .array .int
  | 63 => .int
  | 64 => .array .int
  | 65 => .array .int
  | 66 => .array .boolean
  | 67 => .array .int
  | 68 => .array .int
  | 69 => .array .boolean
  | _ => .array .int
abbrev wsX100 : List Cond := u_ws RX10 TX10 71
set_option maxRecDepth 100000 in
theorem nmX10 : ∀ a, a < 71 → ∀ b, b < 71 → a ≠ b → (TX10 a).2.1 ≠ (TX10 b).2.1 := by decide +kernel
set_option maxRecDepth 100000 in
theorem tyX10_ok : ∀ k, k < 71 → parseFieldDescriptor (TX10 k).2.2.1 = some (tyX10 k) := by decide +kernel
abbrev cX10_init : ByteArray := prog_18_method_2_code
def yX10_init : MethodName := ⟨RX10, "<init>", "()V"⟩
abbrev cX10_plain : ByteArray := prog_18_method_19_code
def yX10_plain : MethodName := ⟨RX10, "plain", "(I)V"⟩
abbrev cX10_letters : ByteArray := prog_18_method_10_code
def yX10_letters : MethodName := ⟨RX10, "letters", "(IIIIIII)J"⟩
abbrev cX10_appends : ByteArray := prog_18_method_9_code
def yX10_appends : MethodName := ⟨RX10, "appends", "(JI)J"⟩
abbrev cX10_begins : ByteArray := prog_18_method_42_code
def yX10_begins : MethodName := ⟨RX10, "begins", "()V"⟩
abbrev cX10_keepsRow : ByteArray := prog_18_method_43_code
def yX10_keepsRow : MethodName := ⟨RX10, "keepsRow", "()V"⟩
abbrev cX10_feed : ByteArray := prog_18_method_3_code
def yX10_feed : MethodName := ⟨RX10, "feed", "(IIIII)I"⟩
abbrev cX10_lays : ByteArray := prog_18_method_4_code
def yX10_lays : MethodName := ⟨RX10, "lays", "(I)V"⟩
abbrev cX10_back : ByteArray := prog_18_method_5_code
def yX10_back : MethodName := ⟨RX10, "back", "(I)I"⟩
abbrev cX10_read : ByteArray := prog_18_method_20_code
def yX10_read : MethodName := ⟨RX10, "read", "()I"⟩
abbrev cX10_cut : ByteArray := prog_18_method_12_code
def yX10_cut : MethodName := ⟨RX10, "cut", "()V"⟩
abbrev cX10_byteAt : ByteArray := prog_18_method_6_code
def yX10_byteAt : MethodName := ⟨RX10, "byteAt", "(I)I"⟩
abbrev cX10_token : ByteArray := prog_18_method_11_code
def yX10_token : MethodName := ⟨RX10, "token", "(IIIJ)V"⟩
abbrev cX10_isLetter : ByteArray := prog_18_method_8_code
def yX10_isLetter : MethodName := ⟨RX10, "isLetter", "(I)Z"⟩
abbrev cX10_isDigit : ByteArray := prog_18_method_7_code
def yX10_isDigit : MethodName := ⟨RX10, "isDigit", "(I)Z"⟩
abbrev cX10_sign : ByteArray := prog_18_method_13_code
def yX10_sign : MethodName := ⟨RX10, "sign", "(III)I"⟩
abbrev cX10_is : ByteArray := prog_18_method_14_code
def yX10_is : MethodName := ⟨RX10, "is", "(I)Z"⟩
abbrev cX10_tellOne : ByteArray := prog_18_method_24_code
def yX10_tellOne : MethodName := ⟨RX10, "tellOne", "()V"⟩
abbrev cX10_roomFor : ByteArray := prog_18_method_22_code
def yX10_roomFor : MethodName := ⟨RX10, "roomFor", "(II)V"⟩
abbrev cX10_fail : ByteArray := prog_18_method_15_code
def yX10_fail : MethodName := ⟨RX10, "fail", "(I)V"⟩
abbrev cX10_goesOn : ByteArray := prog_18_method_17_code
def yX10_goesOn : MethodName := ⟨RX10, "goesOn", "()V"⟩
abbrev cX10_tellHouse : ByteArray := prog_18_method_27_code
def yX10_tellHouse : MethodName := ⟨RX10, "tellHouse", "()V"⟩
abbrev cX10_must : ByteArray := prog_18_method_18_code
def yX10_must : MethodName := ⟨RX10, "must", "(I)V"⟩
abbrev cX10_wrong : ByteArray := prog_18_method_16_code
def yX10_wrong : MethodName := ⟨RX10, "wrong", "(II)V"⟩
abbrev cX10_bounded : ByteArray := prog_18_method_26_code
def yX10_bounded : MethodName := ⟨RX10, "bounded", "(II)I"⟩
abbrev cX10_tellLikes : ByteArray := prog_18_method_28_code
def yX10_tellLikes : MethodName := ⟨RX10, "tellLikes", "()V"⟩
abbrev cX10_known : ByteArray := prog_18_method_25_code
def yX10_known : MethodName := ⟨RX10, "known", "()I"⟩
abbrev cX10_toldInt : ByteArray := prog_18_method_23_code
def yX10_toldInt : MethodName := ⟨RX10, "toldInt", "(II)I"⟩
abbrev cX10_tellLaw : ByteArray := prog_18_method_29_code
def yX10_tellLaw : MethodName := ⟨RX10, "tellLaw", "(I)V"⟩
abbrev cX10_expression : ByteArray := prog_18_method_33_code
def yX10_expression : MethodName := ⟨RX10, "expression", "()V"⟩
abbrev cX10_unit : ByteArray := prog_18_method_34_code
def yX10_unit : MethodName := ⟨RX10, "unit", "()V"⟩
abbrev cX10_emit : ByteArray := prog_18_method_31_code
def yX10_emit : MethodName := ⟨RX10, "emit", "(II)V"⟩
abbrev cX10_comesOut : ByteArray := prog_18_method_32_code
def yX10_comesOut : MethodName := ⟨RX10, "comesOut", "(Z)V"⟩
abbrev cX10_term : ByteArray := prog_18_method_30_code
def yX10_term : MethodName := ⟨RX10, "term", "()V"⟩
abbrev cX10_place : ByteArray := prog_18_method_21_code
def yX10_place : MethodName := ⟨RX10, "place", "()I"⟩
abbrev cX10_house : ByteArray := prog_18_method_67_code
def yX10_house : MethodName := ⟨RX10, "house", "(II)I"⟩
abbrev cX10_isHouse : ByteArray := prog_18_method_39_code
def yX10_isHouse : MethodName := ⟨RX10, "isHouse", "(I)Z"⟩
abbrev cX10_in : ByteArray := prog_18_method_36_code
def yX10_in : MethodName := ⟨RX10, "in", "(III)Z"⟩
abbrev cX10_copies : ByteArray := prog_18_method_44_code
def yX10_copies : MethodName := ⟨RX10, "copies", "()V"⟩
abbrev cX10_strongFirst : ByteArray := prog_18_method_41_code
def yX10_strongFirst : MethodName := ⟨RX10, "strongFirst", "(I)I"⟩
abbrev cX10_hasPlait : ByteArray := prog_18_method_48_code
def yX10_hasPlait : MethodName := ⟨RX10, "hasPlait", "(I)Z"⟩
abbrev cX10_placeOf : ByteArray := prog_18_method_50_code
def yX10_placeOf : MethodName := ⟨RX10, "placeOf", "(I)I"⟩
abbrev cX10_growsOf : ByteArray := prog_18_method_54_code
def yX10_growsOf : MethodName := ⟨RX10, "growsOf", "(I)I"⟩
abbrev cX10_views : ByteArray := prog_18_method_53_code
def yX10_views : MethodName := ⟨RX10, "views", "(I)V"⟩
abbrev cX10_strongOf : ByteArray := prog_18_method_49_code
def yX10_strongOf : MethodName := ⟨RX10, "strongOf", "(I)I"⟩
abbrev cX10_lawTells : ByteArray := prog_18_method_52_code
def yX10_lawTells : MethodName := ⟨RX10, "lawTells", "(II)I"⟩
abbrev cX10_termOf : ByteArray := prog_18_method_35_code
def yX10_termOf : MethodName := ⟨RX10, "termOf", "(II)I"⟩
abbrev cX10_within : ByteArray := prog_18_method_37_code
def yX10_within : MethodName := ⟨RX10, "within", "(III)I"⟩
abbrev cX10_weakensOf : ByteArray := prog_18_method_55_code
def yX10_weakensOf : MethodName := ⟨RX10, "weakensOf", "(I)I"⟩
abbrev cX10_costsOf : ByteArray := prog_18_method_56_code
def yX10_costsOf : MethodName := ⟨RX10, "costsOf", "(I)I"⟩
abbrev cX10_likes : ByteArray := prog_18_method_69_code
def yX10_likes : MethodName := ⟨RX10, "likes", "(II)I"⟩
abbrev cX10_areTwo : ByteArray := prog_18_method_68_code
def yX10_areTwo : MethodName := ⟨RX10, "areTwo", "(II)Z"⟩
abbrev cX10_likeOf : ByteArray := prog_18_method_40_code
def yX10_likeOf : MethodName := ⟨RX10, "likeOf", "(II)I"⟩
abbrev cX10_joins : ByteArray := prog_18_method_70_code
def yX10_joins : MethodName := ⟨RX10, "joins", "(II)I"⟩
abbrev cX10_joinsOf : ByteArray := prog_18_method_58_code
def yX10_joinsOf : MethodName := ⟨RX10, "joinsOf", "(II)I"⟩
abbrev cX10_joinsBy : ByteArray := prog_18_method_57_code
def yX10_joinsBy : MethodName := ⟨RX10, "joinsBy", "(III)I"⟩
abbrev cX10_at : ByteArray := prog_18_method_71_code
def yX10_at : MethodName := ⟨RX10, "at", "(I)I"⟩
abbrev cX10_splice : ByteArray := prog_18_method_73_code
def yX10_splice : MethodName := ⟨RX10, "splice", "(I)I"⟩
abbrev cX10_records : ByteArray := prog_18_method_72_code
def yX10_records : MethodName := ⟨RX10, "records", "()V"⟩
abbrev cX10_ropeLong : ByteArray := prog_18_method_51_code
def yX10_ropeLong : MethodName := ⟨RX10, "ropeLong", "()I"⟩
abbrev cX10_unsplice : ByteArray := prog_18_method_74_code
def yX10_unsplice : MethodName := ⟨RX10, "unsplice", "()I"⟩
abbrev cX10_loses : ByteArray := prog_18_method_63_code
def yX10_loses : MethodName := ⟨RX10, "loses", "(I)V"⟩
abbrev cX10_haul : ByteArray := prog_18_method_76_code
def yX10_haul : MethodName := ⟨RX10, "haul", "(I)I"⟩
abbrev cX10_isWeight : ByteArray := prog_18_method_75_code
def yX10_isWeight : MethodName := ⟨RX10, "isWeight", "(I)Z"⟩
abbrev cX10_breaksAt : ByteArray := prog_18_method_62_code
def yX10_breaksAt : MethodName := ⟨RX10, "breaksAt", "(I)I"⟩
abbrev cX10_spareAt : ByteArray := prog_18_method_60_code
def yX10_spareAt : MethodName := ⟨RX10, "spareAt", "(I)I"⟩
abbrev cX10_belowOf : ByteArray := prog_18_method_59_code
def yX10_belowOf : MethodName := ⟨RX10, "belowOf", "(I)I"⟩
abbrev cX10_years : ByteArray := prog_18_method_78_code
def yX10_years : MethodName := ⟨RX10, "years", "(I)I"⟩
abbrev cX10_isLong : ByteArray := prog_18_method_77_code
def yX10_isLong : MethodName := ⟨RX10, "isLong", "(I)Z"⟩
abbrev cX10_goes : ByteArray := prog_18_method_66_code
def yX10_goes : MethodName := ⟨RX10, "goes", "(I)V"⟩
abbrev cX10_yearGoes : ByteArray := prog_18_method_65_code
def yX10_yearGoes : MethodName := ⟨RX10, "yearGoes", "()V"⟩
abbrev cX10_isBlighted : ByteArray := prog_18_method_64_code
def yX10_isBlighted : MethodName := ⟨RX10, "isBlighted", "(I)Z"⟩
abbrev cX10_lotOf : ByteArray := prog_18_method_47_code
def yX10_lotOf : MethodName := ⟨RX10, "lotOf", "(I)I"⟩
abbrev cX10_mixed : ByteArray := prog_18_method_46_code
def yX10_mixed : MethodName := ⟨RX10, "mixed", "(II)I"⟩
abbrev cX10_undo : ByteArray := prog_18_method_79_code
def yX10_undo : MethodName := ⟨RX10, "undo", "()Z"⟩
abbrev cX10_most : ByteArray := prog_18_method_81_code
def yX10_most : MethodName := ⟨RX10, "most", "()I"⟩
abbrev cX10_mostOf : ByteArray := prog_18_method_80_code
def yX10_mostOf : MethodName := ⟨RX10, "mostOf", "()I"⟩
abbrev cX10_spareLeast : ByteArray := prog_18_method_61_code
def yX10_spareLeast : MethodName := ⟨RX10, "spareLeast", "()I"⟩
abbrev cX10_weakest : ByteArray := prog_18_method_82_code
def yX10_weakest : MethodName := ⟨RX10, "weakest", "(I)I"⟩
abbrev cX10_below : ByteArray := prog_18_method_83_code
def yX10_below : MethodName := ⟨RX10, "below", "(I)I"⟩
abbrev cX10_lasts : ByteArray := prog_18_method_84_code
def yX10_lasts : MethodName := ⟨RX10, "lasts", "(I)I"⟩
abbrev cX10_copiesStill : ByteArray := prog_18_method_45_code
def yX10_copiesStill : MethodName := ⟨RX10, "copiesStill", "()V"⟩
abbrev cX10_quarrel : ByteArray := prog_18_method_85_code
def yX10_quarrel : MethodName := ⟨RX10, "quarrel", "(I)I"⟩
abbrev cX10_greyest : ByteArray := prog_18_method_86_code
def yX10_greyest : MethodName := ⟨RX10, "greyest", "(I)I"⟩
abbrev cX10_share : ByteArray := prog_18_method_87_code
def yX10_share : MethodName := ⟨RX10, "share", "(I)I"⟩
abbrev cX10_swap : ByteArray := prog_18_method_88_code
def yX10_swap : MethodName := ⟨RX10, "swap", "()I"⟩
abbrev cX10_orders : ByteArray := prog_18_method_94_code
def yX10_orders : MethodName := ⟨RX10, "orders", "(I)I"⟩
abbrev cX10_fillsPlans : ByteArray := prog_18_method_89_code
def yX10_fillsPlans : MethodName := ⟨RX10, "fillsPlans", "()V"⟩
abbrev cX10_goesToNext : ByteArray := prog_18_method_92_code
def yX10_goesToNext : MethodName := ⟨RX10, "goesToNext", "()Z"⟩
abbrev cX10_nextFrom : ByteArray := prog_18_method_91_code
def yX10_nextFrom : MethodName := ⟨RX10, "nextFrom", "(I)I"⟩
abbrev cX10_isIn : ByteArray := prog_18_method_90_code
def yX10_isIn : MethodName := ⟨RX10, "isIn", "(I)Z"⟩
abbrev cX10_orderSpare : ByteArray := prog_18_method_93_code
def yX10_orderSpare : MethodName := ⟨RX10, "orderSpare", "()I"⟩
abbrev cX10_peak : ByteArray := prog_18_method_96_code
def yX10_peak : MethodName := ⟨RX10, "peak", "()I"⟩
abbrev cX10_peakOf : ByteArray := prog_18_method_95_code
def yX10_peakOf : MethodName := ⟨RX10, "peakOf", "()I"⟩
abbrev cX10_fewest : ByteArray := prog_18_method_98_code
def yX10_fewest : MethodName := ⟨RX10, "fewest", "(II)I"⟩
abbrev cX10_fewestOf : ByteArray := prog_18_method_97_code
def yX10_fewestOf : MethodName := ⟨RX10, "fewestOf", "(I)I"⟩
abbrev cX10_needed : ByteArray := prog_18_method_99_code
def yX10_needed : MethodName := ⟨RX10, "needed", "(I)I"⟩
abbrev cX10_soon : ByteArray := prog_18_method_100_code
def yX10_soon : MethodName := ⟨RX10, "soon", "(I)I"⟩
abbrev cX10_peace : ByteArray := prog_18_method_104_code
def yX10_peace : MethodName := ⟨RX10, "peace", "(II)I"⟩
abbrev cX10_isPeace : ByteArray := prog_18_method_102_code
def yX10_isPeace : MethodName := ⟨RX10, "isPeace", "(III)Z"⟩
abbrev cX10_likesMost : ByteArray := prog_18_method_101_code
def yX10_likesMost : MethodName := ⟨RX10, "likesMost", "(I)V"⟩
abbrev cX10_isPair : ByteArray := prog_18_method_103_code
def yX10_isPair : MethodName := ⟨RX10, "isPair", "(I)Z"⟩
abbrev cX10_rests : ByteArray := prog_18_method_110_code
def yX10_rests : MethodName := ⟨RX10, "rests", "(I)I"⟩
abbrev cX10_givesBits : ByteArray := prog_18_method_105_code
def yX10_givesBits : MethodName := ⟨RX10, "givesBits", "()I"⟩
abbrev cX10_isRest : ByteArray := prog_18_method_109_code
def yX10_isRest : MethodName := ⟨RX10, "isRest", "(I)Z"⟩
abbrev cX10_hasOf : ByteArray := prog_18_method_108_code
def yX10_hasOf : MethodName := ⟨RX10, "hasOf", "(II)I"⟩
abbrev cX10_isEnough : ByteArray := prog_18_method_106_code
def yX10_isEnough : MethodName := ⟨RX10, "isEnough", "(I)Z"⟩
abbrev cX10_givesCost : ByteArray := prog_18_method_107_code
def yX10_givesCost : MethodName := ⟨RX10, "givesCost", "(I)I"⟩
abbrev cX10_bits : ByteArray := prog_18_method_38_code
def yX10_bits : MethodName := ⟨RX10, "bits", "(I)I"⟩
abbrev cX10_pivots : ByteArray := prog_18_method_111_code
def yX10_pivots : MethodName := ⟨RX10, "pivots", "()I"⟩
abbrev cX10_harvest : ByteArray := prog_18_method_113_code
def yX10_harvest : MethodName := ⟨RX10, "harvest", "(III)I"⟩
abbrev cX10_harvestOf : ByteArray := prog_18_method_112_code
def yX10_harvestOf : MethodName := ⟨RX10, "harvestOf", "(III)I"⟩
abbrev cX10_then : ByteArray := prog_18_method_114_code
def yX10_then : MethodName := ⟨RX10, "then", "(III)I"⟩
abbrev cX10_year : ByteArray := prog_18_method_116_code
def yX10_year : MethodName := ⟨RX10, "year", "(IIII)I"⟩
abbrev cX10_isMark : ByteArray := prog_18_method_115_code
def yX10_isMark : MethodName := ⟨RX10, "isMark", "(I)Z"⟩
abbrev cX10_tell : ByteArray := prog_18_method_117_code
def yX10_tell : MethodName := ⟨RX10, "tell", "(IIZ)I"⟩
abbrev cX10_forget : ByteArray := prog_18_method_118_code
def yX10_forget : MethodName := ⟨RX10, "forget", "()I"⟩
abbrev cX10_rows : ByteArray := prog_18_method_122_code
def yX10_rows : MethodName := ⟨RX10, "rows", "(III)I"⟩
abbrev cX10_isAsked : ByteArray := prog_18_method_121_code
def yX10_isAsked : MethodName := ⟨RX10, "isAsked", "(II)Z"⟩
abbrev cX10_sixes : ByteArray := prog_18_method_119_code
def yX10_sixes : MethodName := ⟨RX10, "sixes", "(I)I"⟩
abbrev cX10_doesFit : ByteArray := prog_18_method_120_code
def yX10_doesFit : MethodName := ⟨RX10, "doesFit", "(III)Z"⟩
abbrev cX10_feel : ByteArray := prog_18_method_123_code
def yX10_feel : MethodName := ⟨RX10, "feel", "(III)I"⟩
abbrev cX10_hold : ByteArray := prog_18_method_124_code
def yX10_hold : MethodName := ⟨RX10, "hold", "(I)Z"⟩
abbrev cX10_restore : ByteArray := prog_18_method_125_code
def yX10_restore : MethodName := ⟨RX10, "restore", "(I)Z"⟩
abbrev cX10_count : ByteArray := prog_18_method_127_code
def yX10_count : MethodName := ⟨RX10, "count", "(I)I"⟩
abbrev cX10_sumNow : ByteArray := prog_18_method_126_code
def yX10_sumNow : MethodName := ⟨RX10, "sumNow", "(I)I"⟩
theorem q152 : (Jvm.Cond.initialized "HairRopeModel") ∈ lw_all := lw_g (lw_at lw_m1 19 rfl) rfl
theorem q1094 : (Jvm.Cond.selects "HairRopeModel" ({ cls := "java/lang/Object", name := "getClass", desc := "()Ljava/lang/Class;" } : Jvm.MethodName) ({ cls := "java/lang/Object", name := "getClass", desc := "()Ljava/lang/Class;" } : Jvm.MethodName)) ∈ lw_all := lw_g (lw_at lw_m5 1 rfl) rfl
theorem q1510 : (Jvm.Cond.instantiable "HairRopeModel" (71 : Nat)) ∈ lw_all := lw_g (lw_at lw_m6 177 rfl) rfl
theorem q1512 : (Jvm.Cond.instanceMethod ({ cls := "HairRopeModel", name := "<init>", desc := "()V" } : Jvm.MethodName)) ∈ lw_all := lw_g (lw_at lw_m6 179 rfl) rfl
theorem q1513 : (Jvm.Cond.code ({ cls := "HairRopeModel", name := "<init>", desc := "()V" } : Jvm.MethodName) prog_18_method_2_code (1 : Nat) (Option.none : Option Jvm.ClassFile.FieldType)) ∈ lw_all := lw_g (lw_at lw_m6 180 rfl) rfl
theorem q1514 : (Jvm.Cond.methodLink "HairRopeModel" (7 : Nat) ({ cls := "java/lang/Object", name := "<init>", desc := "()V" } : Jvm.MethodName)) ∈ lw_all := lw_g (lw_at lw_m6 181 rfl) rfl
theorem q1515 : (Jvm.Cond.methodLink "HairRopeModel" (164 : Nat) ({ cls := "HairRopeModel", name := "plain", desc := "(I)V" } : Jvm.MethodName)) ∈ lw_all := lw_g (lw_at lw_m6 182 rfl) rfl
theorem q1516 : (Jvm.Cond.privateMethod ({ cls := "HairRopeModel", name := "plain", desc := "(I)V" } : Jvm.MethodName)) ∈ lw_tbl := lw_at lw_m6 183 rfl
theorem q1517 : (Jvm.Cond.instanceMethod ({ cls := "HairRopeModel", name := "plain", desc := "(I)V" } : Jvm.MethodName)) ∈ lw_all := lw_g (lw_at lw_m6 184 rfl) rfl
theorem q1518 : (Jvm.Cond.code ({ cls := "HairRopeModel", name := "plain", desc := "(I)V" } : Jvm.MethodName) prog_18_method_19_code (3 : Nat) (Option.none : Option Jvm.ClassFile.FieldType)) ∈ lw_all := lw_g (lw_at lw_m6 185 rfl) rfl
theorem q1519 : (Jvm.Cond.methodLink "HairRopeModel" (168 : Nat) ({ cls := "HairRopeModel", name := "letters", desc := "(IIIIIII)J" } : Jvm.MethodName)) ∈ lw_all := lw_g (lw_at lw_m6 186 rfl) rfl
theorem q1520 : (Jvm.Cond.static ({ cls := "HairRopeModel", name := "letters", desc := "(IIIIIII)J" } : Jvm.MethodName)) ∈ lw_all := lw_g (lw_at lw_m6 187 rfl) rfl
theorem q1521 : (Jvm.Cond.code ({ cls := "HairRopeModel", name := "letters", desc := "(IIIIIII)J" } : Jvm.MethodName) prog_18_method_10_code (7 : Nat) (Option.some Jvm.ClassFile.FieldType.long)) ∈ lw_all := lw_g (lw_at lw_m6 188 rfl) rfl
theorem q1522 : (Jvm.Cond.methodLink "HairRopeModel" (189 : Nat) ({ cls := "HairRopeModel", name := "appends", desc := "(JI)J" } : Jvm.MethodName)) ∈ lw_all := lw_g (lw_at lw_m6 189 rfl) rfl
theorem q1523 : (Jvm.Cond.static ({ cls := "HairRopeModel", name := "appends", desc := "(JI)J" } : Jvm.MethodName)) ∈ lw_all := lw_g (lw_at lw_m6 190 rfl) rfl
theorem q1524 : (Jvm.Cond.code ({ cls := "HairRopeModel", name := "appends", desc := "(JI)J" } : Jvm.MethodName) prog_18_method_9_code (3 : Nat) (Option.some Jvm.ClassFile.FieldType.long)) ∈ lw_all := lw_g (lw_at lw_m6 191 rfl) rfl
theorem q1525 : (Jvm.Cond.constantLong "HairRopeModel" (187 : Nat) (27 : Int64)) ∈ lw_all := lw_g (lw_at lw_m6 192 rfl) rfl
theorem q1526 : (Jvm.Cond.methodLink "HairRopeModel" (172 : Nat) ({ cls := "HairRopeModel", name := "begins", desc := "()V" } : Jvm.MethodName)) ∈ lw_all := lw_g (lw_at lw_m6 193 rfl) rfl
theorem q1527 : (Jvm.Cond.privateMethod ({ cls := "HairRopeModel", name := "begins", desc := "()V" } : Jvm.MethodName)) ∈ lw_tbl := lw_at lw_m6 194 rfl
theorem q1528 : (Jvm.Cond.instanceMethod ({ cls := "HairRopeModel", name := "begins", desc := "()V" } : Jvm.MethodName)) ∈ lw_all := lw_g (lw_at lw_m6 195 rfl) rfl
theorem q1529 : (Jvm.Cond.code ({ cls := "HairRopeModel", name := "begins", desc := "()V" } : Jvm.MethodName) prog_18_method_42_code (2 : Nat) (Option.none : Option Jvm.ClassFile.FieldType)) ∈ lw_all := lw_g (lw_at lw_m6 196 rfl) rfl
theorem q1530 : (Jvm.Cond.methodLink "HairRopeModel" (175 : Nat) ({ cls := "HairRopeModel", name := "keepsRow", desc := "()V" } : Jvm.MethodName)) ∈ lw_all := lw_g (lw_at lw_m6 197 rfl) rfl
theorem q1531 : (Jvm.Cond.privateMethod ({ cls := "HairRopeModel", name := "keepsRow", desc := "()V" } : Jvm.MethodName)) ∈ lw_tbl := lw_at lw_m6 198 rfl
theorem q1532 : (Jvm.Cond.instanceMethod ({ cls := "HairRopeModel", name := "keepsRow", desc := "()V" } : Jvm.MethodName)) ∈ lw_all := lw_g (lw_at lw_m6 199 rfl) rfl
theorem q1533 : (Jvm.Cond.code ({ cls := "HairRopeModel", name := "keepsRow", desc := "()V" } : Jvm.MethodName) prog_18_method_43_code (2 : Nat) (Option.none : Option Jvm.ClassFile.FieldType)) ∈ lw_all := lw_g (lw_at lw_m6 200 rfl) rfl
theorem q1534 : (Jvm.Cond.fieldLink "HairRopeModel" (13 : Nat) "HairRopeModel" "tape" "[B") ∈ lw_all := lw_g (lw_at lw_m6 201 rfl) rfl
theorem q1535 : (Jvm.Cond.fieldLink "HairRopeModel" (178 : Nat) "HairRopeModel" "taped" "I") ∈ lw_all := lw_g (lw_at lw_m6 202 rfl) rfl
theorem q1536 : (Jvm.Cond.fieldLink "HairRopeModel" (17 : Nat) "HairRopeModel" "text" "[B") ∈ lw_all := lw_g (lw_at lw_m6 203 rfl) rfl
theorem q1537 : (Jvm.Cond.fieldLink "HairRopeModel" (184 : Nat) "HairRopeModel" "size" "I") ∈ lw_all := lw_g (lw_at lw_m6 204 rfl) rfl
theorem q1538 : (Jvm.Cond.fieldLink "HairRopeModel" (20 : Nat) "HairRopeModel" "tKind" "[I") ∈ lw_all := lw_g (lw_at lw_m6 205 rfl) rfl
theorem q1539 : (Jvm.Cond.fieldLink "HairRopeModel" (24 : Nat) "HairRopeModel" "tPlace" "[I") ∈ lw_all := lw_g (lw_at lw_m6 206 rfl) rfl
theorem q1540 : (Jvm.Cond.fieldLink "HairRopeModel" (27 : Nat) "HairRopeModel" "tValue" "[I") ∈ lw_all := lw_g (lw_at lw_m6 207 rfl) rfl
theorem q1541 : (Jvm.Cond.fieldLink "HairRopeModel" (30 : Nat) "HairRopeModel" "tName" "[J") ∈ lw_all := lw_g (lw_at lw_m6 208 rfl) rfl
theorem q1542 : (Jvm.Cond.fieldLink "HairRopeModel" (34 : Nat) "HairRopeModel" "keys" "[J") ∈ lw_all := lw_g (lw_at lw_m6 209 rfl) rfl
theorem q1543 : (Jvm.Cond.fieldLink "HairRopeModel" (193 : Nat) "HairRopeModel" "tokens" "I") ∈ lw_all := lw_g (lw_at lw_m6 210 rfl) rfl
theorem q1544 : (Jvm.Cond.fieldLink "HairRopeModel" (218 : Nat) "HairRopeModel" "t" "I") ∈ lw_all := lw_g (lw_at lw_m6 211 rfl) rfl
theorem q1545 : (Jvm.Cond.fieldLink "HairRopeModel" (242 : Nat) "HairRopeModel" "open" "I") ∈ lw_all := lw_g (lw_at lw_m6 212 rfl) rfl
theorem q1546 : (Jvm.Cond.fieldLink "HairRopeModel" (215 : Nat) "HairRopeModel" "fault" "I") ∈ lw_all := lw_g (lw_at lw_m6 213 rfl) rfl
theorem q1547 : (Jvm.Cond.fieldLink "HairRopeModel" (221 : Nat) "HairRopeModel" "faultPlace" "I") ∈ lw_all := lw_g (lw_at lw_m6 214 rfl) rfl
theorem q1548 : (Jvm.Cond.fieldLink "HairRopeModel" (224 : Nat) "HairRopeModel" "worst" "I") ∈ lw_all := lw_g (lw_at lw_m6 215 rfl) rfl
theorem q1549 : (Jvm.Cond.fieldLink "HairRopeModel" (227 : Nat) "HairRopeModel" "worstPlace" "I") ∈ lw_all := lw_g (lw_at lw_m6 216 rfl) rfl
theorem q1550 : (Jvm.Cond.fieldLink "HairRopeModel" (37 : Nat) "HairRopeModel" "place" "I") ∈ lw_all := lw_g (lw_at lw_m6 217 rfl) rfl
theorem q1551 : (Jvm.Cond.fieldLink "HairRopeModel" (245 : Nat) "HairRopeModel" "live" "I") ∈ lw_all := lw_g (lw_at lw_m6 218 rfl) rfl
theorem q1552 : (Jvm.Cond.fieldLink "HairRopeModel" (248 : Nat) "HairRopeModel" "side" "I") ∈ lw_all := lw_g (lw_at lw_m6 219 rfl) rfl
theorem q1553 : (Jvm.Cond.fieldLink "HairRopeModel" (251 : Nat) "HairRopeModel" "names" "I") ∈ lw_all := lw_g (lw_at lw_m6 220 rfl) rfl
theorem q1554 : (Jvm.Cond.fieldLink "HairRopeModel" (40 : Nat) "HairRopeModel" "nameOf" "[J") ∈ lw_all := lw_g (lw_at lw_m6 221 rfl) rfl
theorem q1555 : (Jvm.Cond.fieldLink "HairRopeModel" (43 : Nat) "HairRopeModel" "houses" "[I") ∈ lw_all := lw_g (lw_at lw_m6 222 rfl) rfl
theorem q1556 : (Jvm.Cond.fieldLink "HairRopeModel" (46 : Nat) "HairRopeModel" "firstHair" "[I") ∈ lw_all := lw_g (lw_at lw_m6 223 rfl) rfl
theorem q1557 : (Jvm.Cond.fieldLink "HairRopeModel" (49 : Nat) "HairRopeModel" "firstStrong" "[I") ∈ lw_all := lw_g (lw_at lw_m6 224 rfl) rfl
theorem q1558 : (Jvm.Cond.fieldLink "HairRopeModel" (52 : Nat) "HairRopeModel" "likesMany" "[I") ∈ lw_all := lw_g (lw_at lw_m6 225 rfl) rfl
theorem q1559 : (Jvm.Cond.fieldLink "HairRopeModel" (55 : Nat) "HairRopeModel" "likeTold" "[I") ∈ lw_all := lw_g (lw_at lw_m6 226 rfl) rfl
theorem q1560 : (Jvm.Cond.fieldLink "HairRopeModel" (58 : Nat) "HairRopeModel" "well" "[I") ∈ lw_all := lw_g (lw_at lw_m6 227 rfl) rfl
theorem q1561 : (Jvm.Cond.fieldLink "HairRopeModel" (61 : Nat) "HairRopeModel" "water" "[I") ∈ lw_all := lw_g (lw_at lw_m6 228 rfl) rfl
theorem q1562 : (Jvm.Cond.fieldLink "HairRopeModel" (64 : Nat) "HairRopeModel" "blight" "[I") ∈ lw_all := lw_g (lw_at lw_m6 229 rfl) rfl
theorem q1563 : (Jvm.Cond.fieldLink "HairRopeModel" (67 : Nat) "HairRopeModel" "seed" "[I") ∈ lw_all := lw_g (lw_at lw_m6 230 rfl) rfl
theorem q1564 : (Jvm.Cond.fieldLink "HairRopeModel" (70 : Nat) "HairRopeModel" "lawFirst" "[I") ∈ lw_all := lw_g (lw_at lw_m6 231 rfl) rfl
theorem q1565 : (Jvm.Cond.fieldLink "HairRopeModel" (73 : Nat) "HairRopeModel" "lawLast" "[I") ∈ lw_all := lw_g (lw_at lw_m6 232 rfl) rfl
theorem q1566 : (Jvm.Cond.fieldLink "HairRopeModel" (254 : Nat) "HairRopeModel" "branches" "I") ∈ lw_all := lw_g (lw_at lw_m6 233 rfl) rfl
theorem q1567 : (Jvm.Cond.fieldLink "HairRopeModel" (76 : Nat) "HairRopeModel" "hasTest" "[Z") ∈ lw_all := lw_g (lw_at lw_m6 234 rfl) rfl
theorem q1568 : (Jvm.Cond.fieldLink "HairRopeModel" (80 : Nat) "HairRopeModel" "testFrom" "[I") ∈ lw_all := lw_g (lw_at lw_m6 235 rfl) rfl
theorem q1569 : (Jvm.Cond.fieldLink "HairRopeModel" (83 : Nat) "HairRopeModel" "testMid" "[I") ∈ lw_all := lw_g (lw_at lw_m6 236 rfl) rfl
theorem q1570 : (Jvm.Cond.fieldLink "HairRopeModel" (86 : Nat) "HairRopeModel" "testTo" "[I") ∈ lw_all := lw_g (lw_at lw_m6 237 rfl) rfl
theorem q1571 : (Jvm.Cond.fieldLink "HairRopeModel" (89 : Nat) "HairRopeModel" "termTo" "[I") ∈ lw_all := lw_g (lw_at lw_m6 238 rfl) rfl
theorem q1572 : (Jvm.Cond.fieldLink "HairRopeModel" (257 : Nat) "HairRopeModel" "codes" "I") ∈ lw_all := lw_g (lw_at lw_m6 239 rfl) rfl
theorem q1573 : (Jvm.Cond.fieldLink "HairRopeModel" (92 : Nat) "HairRopeModel" "code" "[I") ∈ lw_all := lw_g (lw_at lw_m7 0 rfl) rfl
theorem q1574 : (Jvm.Cond.fieldLink "HairRopeModel" (95 : Nat) "HairRopeModel" "codeInt" "[I") ∈ lw_all := lw_g (lw_at lw_m7 1 rfl) rfl
theorem q1575 : (Jvm.Cond.fieldLink "HairRopeModel" (98 : Nat) "HairRopeModel" "waits" "[I") ∈ lw_all := lw_g (lw_at lw_m7 2 rfl) rfl
theorem q1576 : (Jvm.Cond.fieldLink "HairRopeModel" (305 : Nat) "HairRopeModel" "waiting" "I") ∈ lw_all := lw_g (lw_at lw_m7 3 rfl) rfl
theorem q1577 : (Jvm.Cond.fieldLink "HairRopeModel" (101 : Nat) "HairRopeModel" "variables" "[I") ∈ lw_all := lw_g (lw_at lw_m7 4 rfl) rfl
theorem q1578 : (Jvm.Cond.fieldLink "HairRopeModel" (104 : Nat) "HairRopeModel" "pile" "[I") ∈ lw_all := lw_g (lw_at lw_m7 5 rfl) rfl
theorem q1579 : (Jvm.Cond.fieldLink "HairRopeModel" (318 : Nat) "HairRopeModel" "isBroken" "Z") ∈ lw_all := lw_g (lw_at lw_m7 6 rfl) rfl
theorem q1580 : (Jvm.Cond.fieldLink "HairRopeModel" (107 : Nat) "HairRopeModel" "now" "[I") ∈ lw_all := lw_g (lw_at lw_m7 7 rfl) rfl
theorem q1581 : (Jvm.Cond.fieldLink "HairRopeModel" (110 : Nat) "HairRopeModel" "row" "[I") ∈ lw_all := lw_g (lw_at lw_m7 8 rfl) rfl
theorem q1582 : (Jvm.Cond.fieldLink "HairRopeModel" (326 : Nat) "HairRopeModel" "lots" "I") ∈ lw_all := lw_g (lw_at lw_m7 9 rfl) rfl
theorem q1583 : (Jvm.Cond.fieldLink "HairRopeModel" (329 : Nat) "HairRopeModel" "isStill" "Z") ∈ lw_all := lw_g (lw_at lw_m7 10 rfl) rfl
theorem q1584 : (Jvm.Cond.fieldLink "HairRopeModel" (113 : Nat) "HairRopeModel" "growsNow" "[I") ∈ lw_all := lw_g (lw_at lw_m7 11 rfl) rfl
theorem q1585 : (Jvm.Cond.fieldLink "HairRopeModel" (116 : Nat) "HairRopeModel" "weakensNow" "[I") ∈ lw_all := lw_g (lw_at lw_m7 12 rfl) rfl
theorem q1586 : (Jvm.Cond.fieldLink "HairRopeModel" (263 : Nat) "HairRopeModel" "undos" "I") ∈ lw_all := lw_g (lw_at lw_m7 13 rfl) rfl
theorem q1587 : (Jvm.Cond.fieldLink "HairRopeModel" (119 : Nat) "HairRopeModel" "history" "[I") ∈ lw_all := lw_g (lw_at lw_m7 14 rfl) rfl
theorem q1588 : (Jvm.Cond.fieldLink "HairRopeModel" (122 : Nat) "HairRopeModel" "longBy" "[I") ∈ lw_all := lw_g (lw_at lw_m7 15 rfl) rfl
theorem q1589 : (Jvm.Cond.fieldLink "HairRopeModel" (125 : Nat) "HairRopeModel" "strongBy" "[I") ∈ lw_all := lw_g (lw_at lw_m7 16 rfl) rfl
theorem q1590 : (Jvm.Cond.fieldLink "HairRopeModel" (128 : Nat) "HairRopeModel" "joinBy" "[I") ∈ lw_all := lw_g (lw_at lw_m7 17 rfl) rfl
theorem q1591 : (Jvm.Cond.fieldLink "HairRopeModel" (131 : Nat) "HairRopeModel" "nineBy" "[I") ∈ lw_all := lw_g (lw_at lw_m7 18 rfl) rfl
theorem q1592 : (Jvm.Cond.fieldLink "HairRopeModel" (134 : Nat) "HairRopeModel" "heldBy" "[I") ∈ lw_all := lw_g (lw_at lw_m7 19 rfl) rfl
theorem q1593 : (Jvm.Cond.fieldLink "HairRopeModel" (137 : Nat) "HairRopeModel" "orderAt" "[I") ∈ lw_all := lw_g (lw_at lw_m7 20 rfl) rfl
theorem q1594 : (Jvm.Cond.fieldLink "HairRopeModel" (433 : Nat) "HairRopeModel" "orderMany" "I") ∈ lw_all := lw_g (lw_at lw_m7 21 rfl) rfl
theorem q1595 : (Jvm.Cond.fieldLink "HairRopeModel" (140 : Nat) "HairRopeModel" "bestOrder" "[I") ∈ lw_all := lw_g (lw_at lw_m7 22 rfl) rfl
theorem q1596 : (Jvm.Cond.fieldLink "HairRopeModel" (266 : Nat) "HairRopeModel" "tolds" "I") ∈ lw_all := lw_g (lw_at lw_m7 23 rfl) rfl
theorem q1597 : (Jvm.Cond.fieldLink "HairRopeModel" (143 : Nat) "HairRopeModel" "toldPlace" "[I") ∈ lw_all := lw_g (lw_at lw_m7 24 rfl) rfl
theorem q1598 : (Jvm.Cond.fieldLink "HairRopeModel" (146 : Nat) "HairRopeModel" "toldBy" "[I") ∈ lw_all := lw_g (lw_at lw_m7 25 rfl) rfl
theorem q1599 : (Jvm.Cond.fieldLink "HairRopeModel" (149 : Nat) "HairRopeModel" "toldSo" "[Z") ∈ lw_all := lw_g (lw_at lw_m7 26 rfl) rfl
theorem q1600 : (Jvm.Cond.fieldLink "HairRopeModel" (152 : Nat) "HairRopeModel" "digits" "[I") ∈ lw_all := lw_g (lw_at lw_m7 27 rfl) rfl
theorem q1601 : (Jvm.Cond.fieldLink "HairRopeModel" (155 : Nat) "HairRopeModel" "aboveBy" "[I") ∈ lw_all := lw_g (lw_at lw_m7 28 rfl) rfl
theorem q1602 : (Jvm.Cond.fieldLink "HairRopeModel" (158 : Nat) "HairRopeModel" "isHeld" "[Z") ∈ lw_all := lw_g (lw_at lw_m7 29 rfl) rfl
theorem q1603 : (Jvm.Cond.fieldLink "HairRopeModel" (161 : Nat) "HairRopeModel" "heldRows" "[I") ∈ lw_all := lw_g (lw_at lw_m7 30 rfl) rfl
theorem q1604 : (Jvm.Cond.lays "HairRopeModel" "HairRopeModel" "thrown" "I") ∈ lw_all := lw_g (lw_at lw_m7 31 rfl) rfl
theorem q1605 : (Jvm.Cond.soleField "HairRopeModel" "thrown") ∈ lw_all := lw_g (lw_at lw_m7 32 rfl) rfl
theorem q1606 : (Jvm.Cond.laysFinal "HairRopeModel" "HairRopeModel" "tape" "[B") ∈ lw_all := lw_g (lw_at lw_m7 33 rfl) rfl
theorem q1607 : (Jvm.Cond.soleField "HairRopeModel" "tape") ∈ lw_all := lw_g (lw_at lw_m7 34 rfl) rfl
theorem q1608 : (Jvm.Cond.lays "HairRopeModel" "HairRopeModel" "taped" "I") ∈ lw_all := lw_g (lw_at lw_m7 35 rfl) rfl
theorem q1609 : (Jvm.Cond.soleField "HairRopeModel" "taped") ∈ lw_all := lw_g (lw_at lw_m7 36 rfl) rfl
theorem q1610 : (Jvm.Cond.laysFinal "HairRopeModel" "HairRopeModel" "text" "[B") ∈ lw_all := lw_g (lw_at lw_m7 37 rfl) rfl
theorem q1611 : (Jvm.Cond.soleField "HairRopeModel" "text") ∈ lw_all := lw_g (lw_at lw_m7 38 rfl) rfl
theorem q1612 : (Jvm.Cond.lays "HairRopeModel" "HairRopeModel" "size" "I") ∈ lw_all := lw_g (lw_at lw_m7 39 rfl) rfl
theorem q1613 : (Jvm.Cond.soleField "HairRopeModel" "size") ∈ lw_all := lw_g (lw_at lw_m7 40 rfl) rfl
theorem q1614 : (Jvm.Cond.laysFinal "HairRopeModel" "HairRopeModel" "tKind" "[I") ∈ lw_all := lw_g (lw_at lw_m7 41 rfl) rfl
theorem q1615 : (Jvm.Cond.soleField "HairRopeModel" "tKind") ∈ lw_all := lw_g (lw_at lw_m7 42 rfl) rfl
theorem q1616 : (Jvm.Cond.laysFinal "HairRopeModel" "HairRopeModel" "tPlace" "[I") ∈ lw_all := lw_g (lw_at lw_m7 43 rfl) rfl
theorem q1617 : (Jvm.Cond.soleField "HairRopeModel" "tPlace") ∈ lw_all := lw_g (lw_at lw_m7 44 rfl) rfl
theorem q1618 : (Jvm.Cond.laysFinal "HairRopeModel" "HairRopeModel" "tValue" "[I") ∈ lw_all := lw_g (lw_at lw_m7 45 rfl) rfl
theorem q1619 : (Jvm.Cond.soleField "HairRopeModel" "tValue") ∈ lw_all := lw_g (lw_at lw_m7 46 rfl) rfl
theorem q1620 : (Jvm.Cond.laysFinal "HairRopeModel" "HairRopeModel" "tName" "[J") ∈ lw_all := lw_g (lw_at lw_m7 47 rfl) rfl
theorem q1621 : (Jvm.Cond.soleField "HairRopeModel" "tName") ∈ lw_all := lw_g (lw_at lw_m7 48 rfl) rfl
theorem q1622 : (Jvm.Cond.laysFinal "HairRopeModel" "HairRopeModel" "keys" "[J") ∈ lw_all := lw_g (lw_at lw_m7 49 rfl) rfl
theorem q1623 : (Jvm.Cond.soleField "HairRopeModel" "keys") ∈ lw_all := lw_g (lw_at lw_m7 50 rfl) rfl
theorem q1624 : (Jvm.Cond.lays "HairRopeModel" "HairRopeModel" "tokens" "I") ∈ lw_all := lw_g (lw_at lw_m7 51 rfl) rfl
theorem q1625 : (Jvm.Cond.soleField "HairRopeModel" "tokens") ∈ lw_all := lw_g (lw_at lw_m7 52 rfl) rfl
theorem q1626 : (Jvm.Cond.lays "HairRopeModel" "HairRopeModel" "t" "I") ∈ lw_all := lw_g (lw_at lw_m7 53 rfl) rfl
theorem q1627 : (Jvm.Cond.soleField "HairRopeModel" "t") ∈ lw_all := lw_g (lw_at lw_m7 54 rfl) rfl
theorem q1628 : (Jvm.Cond.lays "HairRopeModel" "HairRopeModel" "open" "I") ∈ lw_all := lw_g (lw_at lw_m7 55 rfl) rfl
theorem q1629 : (Jvm.Cond.soleField "HairRopeModel" "open") ∈ lw_all := lw_g (lw_at lw_m7 56 rfl) rfl
theorem q1630 : (Jvm.Cond.lays "HairRopeModel" "HairRopeModel" "fault" "I") ∈ lw_all := lw_g (lw_at lw_m7 57 rfl) rfl
theorem q1631 : (Jvm.Cond.soleField "HairRopeModel" "fault") ∈ lw_all := lw_g (lw_at lw_m7 58 rfl) rfl
theorem q1632 : (Jvm.Cond.lays "HairRopeModel" "HairRopeModel" "faultPlace" "I") ∈ lw_all := lw_g (lw_at lw_m7 59 rfl) rfl
theorem q1633 : (Jvm.Cond.soleField "HairRopeModel" "faultPlace") ∈ lw_all := lw_g (lw_at lw_m7 60 rfl) rfl
theorem q1634 : (Jvm.Cond.lays "HairRopeModel" "HairRopeModel" "worst" "I") ∈ lw_all := lw_g (lw_at lw_m7 61 rfl) rfl
theorem q1635 : (Jvm.Cond.soleField "HairRopeModel" "worst") ∈ lw_all := lw_g (lw_at lw_m7 62 rfl) rfl
theorem q1636 : (Jvm.Cond.lays "HairRopeModel" "HairRopeModel" "worstPlace" "I") ∈ lw_all := lw_g (lw_at lw_m7 63 rfl) rfl
theorem q1637 : (Jvm.Cond.soleField "HairRopeModel" "worstPlace") ∈ lw_all := lw_g (lw_at lw_m7 64 rfl) rfl
theorem q1638 : (Jvm.Cond.lays "HairRopeModel" "HairRopeModel" "place" "I") ∈ lw_all := lw_g (lw_at lw_m7 65 rfl) rfl
theorem q1639 : (Jvm.Cond.soleField "HairRopeModel" "place") ∈ lw_all := lw_g (lw_at lw_m7 66 rfl) rfl
theorem q1640 : (Jvm.Cond.lays "HairRopeModel" "HairRopeModel" "live" "I") ∈ lw_all := lw_g (lw_at lw_m7 67 rfl) rfl
theorem q1641 : (Jvm.Cond.soleField "HairRopeModel" "live") ∈ lw_all := lw_g (lw_at lw_m7 68 rfl) rfl
theorem q1642 : (Jvm.Cond.lays "HairRopeModel" "HairRopeModel" "side" "I") ∈ lw_all := lw_g (lw_at lw_m7 69 rfl) rfl
theorem q1643 : (Jvm.Cond.soleField "HairRopeModel" "side") ∈ lw_all := lw_g (lw_at lw_m7 70 rfl) rfl
theorem q1644 : (Jvm.Cond.lays "HairRopeModel" "HairRopeModel" "names" "I") ∈ lw_all := lw_g (lw_at lw_m7 71 rfl) rfl
theorem q1645 : (Jvm.Cond.soleField "HairRopeModel" "names") ∈ lw_all := lw_g (lw_at lw_m7 72 rfl) rfl
theorem q1646 : (Jvm.Cond.laysFinal "HairRopeModel" "HairRopeModel" "nameOf" "[J") ∈ lw_all := lw_g (lw_at lw_m7 73 rfl) rfl
theorem q1647 : (Jvm.Cond.soleField "HairRopeModel" "nameOf") ∈ lw_all := lw_g (lw_at lw_m7 74 rfl) rfl
theorem q1648 : (Jvm.Cond.laysFinal "HairRopeModel" "HairRopeModel" "houses" "[I") ∈ lw_all := lw_g (lw_at lw_m7 75 rfl) rfl
theorem q1649 : (Jvm.Cond.soleField "HairRopeModel" "houses") ∈ lw_all := lw_g (lw_at lw_m7 76 rfl) rfl
theorem q1650 : (Jvm.Cond.laysFinal "HairRopeModel" "HairRopeModel" "firstHair" "[I") ∈ lw_all := lw_g (lw_at lw_m7 77 rfl) rfl
theorem q1651 : (Jvm.Cond.soleField "HairRopeModel" "firstHair") ∈ lw_all := lw_g (lw_at lw_m7 78 rfl) rfl
theorem q1652 : (Jvm.Cond.laysFinal "HairRopeModel" "HairRopeModel" "firstStrong" "[I") ∈ lw_all := lw_g (lw_at lw_m7 79 rfl) rfl
theorem q1653 : (Jvm.Cond.soleField "HairRopeModel" "firstStrong") ∈ lw_all := lw_g (lw_at lw_m7 80 rfl) rfl
theorem q1654 : (Jvm.Cond.laysFinal "HairRopeModel" "HairRopeModel" "likesMany" "[I") ∈ lw_all := lw_g (lw_at lw_m7 81 rfl) rfl
theorem q1655 : (Jvm.Cond.soleField "HairRopeModel" "likesMany") ∈ lw_all := lw_g (lw_at lw_m7 82 rfl) rfl
theorem q1656 : (Jvm.Cond.laysFinal "HairRopeModel" "HairRopeModel" "likeTold" "[I") ∈ lw_all := lw_g (lw_at lw_m7 83 rfl) rfl
theorem q1657 : (Jvm.Cond.soleField "HairRopeModel" "likeTold") ∈ lw_all := lw_g (lw_at lw_m7 84 rfl) rfl
theorem q1658 : (Jvm.Cond.laysFinal "HairRopeModel" "HairRopeModel" "well" "[I") ∈ lw_all := lw_g (lw_at lw_m7 85 rfl) rfl
theorem q1659 : (Jvm.Cond.soleField "HairRopeModel" "well") ∈ lw_all := lw_g (lw_at lw_m7 86 rfl) rfl
theorem q1660 : (Jvm.Cond.laysFinal "HairRopeModel" "HairRopeModel" "water" "[I") ∈ lw_all := lw_g (lw_at lw_m7 87 rfl) rfl
theorem q1661 : (Jvm.Cond.soleField "HairRopeModel" "water") ∈ lw_all := lw_g (lw_at lw_m7 88 rfl) rfl
theorem q1662 : (Jvm.Cond.laysFinal "HairRopeModel" "HairRopeModel" "blight" "[I") ∈ lw_all := lw_g (lw_at lw_m7 89 rfl) rfl
theorem q1663 : (Jvm.Cond.soleField "HairRopeModel" "blight") ∈ lw_all := lw_g (lw_at lw_m7 90 rfl) rfl
theorem q1664 : (Jvm.Cond.laysFinal "HairRopeModel" "HairRopeModel" "seed" "[I") ∈ lw_all := lw_g (lw_at lw_m7 91 rfl) rfl
theorem q1665 : (Jvm.Cond.soleField "HairRopeModel" "seed") ∈ lw_all := lw_g (lw_at lw_m7 92 rfl) rfl
theorem q1666 : (Jvm.Cond.laysFinal "HairRopeModel" "HairRopeModel" "lawFirst" "[I") ∈ lw_all := lw_g (lw_at lw_m7 93 rfl) rfl
theorem q1667 : (Jvm.Cond.soleField "HairRopeModel" "lawFirst") ∈ lw_all := lw_g (lw_at lw_m7 94 rfl) rfl
theorem q1668 : (Jvm.Cond.laysFinal "HairRopeModel" "HairRopeModel" "lawLast" "[I") ∈ lw_all := lw_g (lw_at lw_m7 95 rfl) rfl
theorem q1669 : (Jvm.Cond.soleField "HairRopeModel" "lawLast") ∈ lw_all := lw_g (lw_at lw_m7 96 rfl) rfl
theorem q1670 : (Jvm.Cond.lays "HairRopeModel" "HairRopeModel" "branches" "I") ∈ lw_all := lw_g (lw_at lw_m7 97 rfl) rfl
theorem q1671 : (Jvm.Cond.soleField "HairRopeModel" "branches") ∈ lw_all := lw_g (lw_at lw_m7 98 rfl) rfl
theorem q1672 : (Jvm.Cond.laysFinal "HairRopeModel" "HairRopeModel" "hasTest" "[Z") ∈ lw_all := lw_g (lw_at lw_m7 99 rfl) rfl
theorem q1673 : (Jvm.Cond.soleField "HairRopeModel" "hasTest") ∈ lw_all := lw_g (lw_at lw_m7 100 rfl) rfl
theorem q1674 : (Jvm.Cond.laysFinal "HairRopeModel" "HairRopeModel" "testFrom" "[I") ∈ lw_all := lw_g (lw_at lw_m7 101 rfl) rfl
theorem q1675 : (Jvm.Cond.soleField "HairRopeModel" "testFrom") ∈ lw_all := lw_g (lw_at lw_m7 102 rfl) rfl
theorem q1676 : (Jvm.Cond.laysFinal "HairRopeModel" "HairRopeModel" "testMid" "[I") ∈ lw_all := lw_g (lw_at lw_m7 103 rfl) rfl
theorem q1677 : (Jvm.Cond.soleField "HairRopeModel" "testMid") ∈ lw_all := lw_g (lw_at lw_m7 104 rfl) rfl
theorem q1678 : (Jvm.Cond.laysFinal "HairRopeModel" "HairRopeModel" "testTo" "[I") ∈ lw_all := lw_g (lw_at lw_m7 105 rfl) rfl
theorem q1679 : (Jvm.Cond.soleField "HairRopeModel" "testTo") ∈ lw_all := lw_g (lw_at lw_m7 106 rfl) rfl
theorem q1680 : (Jvm.Cond.laysFinal "HairRopeModel" "HairRopeModel" "termTo" "[I") ∈ lw_all := lw_g (lw_at lw_m7 107 rfl) rfl
theorem q1681 : (Jvm.Cond.soleField "HairRopeModel" "termTo") ∈ lw_all := lw_g (lw_at lw_m7 108 rfl) rfl
theorem q1682 : (Jvm.Cond.lays "HairRopeModel" "HairRopeModel" "codes" "I") ∈ lw_all := lw_g (lw_at lw_m7 109 rfl) rfl
theorem q1683 : (Jvm.Cond.soleField "HairRopeModel" "codes") ∈ lw_all := lw_g (lw_at lw_m7 110 rfl) rfl
theorem q1684 : (Jvm.Cond.laysFinal "HairRopeModel" "HairRopeModel" "code" "[I") ∈ lw_all := lw_g (lw_at lw_m7 111 rfl) rfl
theorem q1685 : (Jvm.Cond.soleField "HairRopeModel" "code") ∈ lw_all := lw_g (lw_at lw_m7 112 rfl) rfl
theorem q1686 : (Jvm.Cond.laysFinal "HairRopeModel" "HairRopeModel" "codeInt" "[I") ∈ lw_all := lw_g (lw_at lw_m7 113 rfl) rfl
theorem q1687 : (Jvm.Cond.soleField "HairRopeModel" "codeInt") ∈ lw_all := lw_g (lw_at lw_m7 114 rfl) rfl
theorem q1688 : (Jvm.Cond.laysFinal "HairRopeModel" "HairRopeModel" "waits" "[I") ∈ lw_all := lw_g (lw_at lw_m7 115 rfl) rfl
theorem q1689 : (Jvm.Cond.soleField "HairRopeModel" "waits") ∈ lw_all := lw_g (lw_at lw_m7 116 rfl) rfl
theorem q1690 : (Jvm.Cond.lays "HairRopeModel" "HairRopeModel" "waiting" "I") ∈ lw_all := lw_g (lw_at lw_m7 117 rfl) rfl
theorem q1691 : (Jvm.Cond.soleField "HairRopeModel" "waiting") ∈ lw_all := lw_g (lw_at lw_m7 118 rfl) rfl
theorem q1692 : (Jvm.Cond.laysFinal "HairRopeModel" "HairRopeModel" "variables" "[I") ∈ lw_all := lw_g (lw_at lw_m7 119 rfl) rfl
theorem q1693 : (Jvm.Cond.soleField "HairRopeModel" "variables") ∈ lw_all := lw_g (lw_at lw_m7 120 rfl) rfl
theorem q1694 : (Jvm.Cond.laysFinal "HairRopeModel" "HairRopeModel" "pile" "[I") ∈ lw_all := lw_g (lw_at lw_m7 121 rfl) rfl
theorem q1695 : (Jvm.Cond.soleField "HairRopeModel" "pile") ∈ lw_all := lw_g (lw_at lw_m7 122 rfl) rfl
theorem q1696 : (Jvm.Cond.lays "HairRopeModel" "HairRopeModel" "isBroken" "Z") ∈ lw_all := lw_g (lw_at lw_m7 123 rfl) rfl
theorem q1697 : (Jvm.Cond.soleField "HairRopeModel" "isBroken") ∈ lw_all := lw_g (lw_at lw_m7 124 rfl) rfl
theorem q1698 : (Jvm.Cond.laysFinal "HairRopeModel" "HairRopeModel" "now" "[I") ∈ lw_all := lw_g (lw_at lw_m7 125 rfl) rfl
theorem q1699 : (Jvm.Cond.soleField "HairRopeModel" "now") ∈ lw_all := lw_g (lw_at lw_m7 126 rfl) rfl
theorem q1700 : (Jvm.Cond.laysFinal "HairRopeModel" "HairRopeModel" "row" "[I") ∈ lw_all := lw_g (lw_at lw_m7 127 rfl) rfl
theorem q1701 : (Jvm.Cond.soleField "HairRopeModel" "row") ∈ lw_all := lw_g (lw_at lw_m7 128 rfl) rfl
theorem q1702 : (Jvm.Cond.lays "HairRopeModel" "HairRopeModel" "lots" "I") ∈ lw_all := lw_g (lw_at lw_m7 129 rfl) rfl
theorem q1703 : (Jvm.Cond.soleField "HairRopeModel" "lots") ∈ lw_all := lw_g (lw_at lw_m7 130 rfl) rfl
theorem q1704 : (Jvm.Cond.lays "HairRopeModel" "HairRopeModel" "isStill" "Z") ∈ lw_all := lw_g (lw_at lw_m7 131 rfl) rfl
theorem q1705 : (Jvm.Cond.soleField "HairRopeModel" "isStill") ∈ lw_all := lw_g (lw_at lw_m7 132 rfl) rfl
theorem q1706 : (Jvm.Cond.laysFinal "HairRopeModel" "HairRopeModel" "growsNow" "[I") ∈ lw_all := lw_g (lw_at lw_m7 133 rfl) rfl
theorem q1707 : (Jvm.Cond.soleField "HairRopeModel" "growsNow") ∈ lw_all := lw_g (lw_at lw_m7 134 rfl) rfl
theorem q1708 : (Jvm.Cond.laysFinal "HairRopeModel" "HairRopeModel" "weakensNow" "[I") ∈ lw_all := lw_g (lw_at lw_m7 135 rfl) rfl
theorem q1709 : (Jvm.Cond.soleField "HairRopeModel" "weakensNow") ∈ lw_all := lw_g (lw_at lw_m7 136 rfl) rfl
theorem q1710 : (Jvm.Cond.lays "HairRopeModel" "HairRopeModel" "undos" "I") ∈ lw_all := lw_g (lw_at lw_m7 137 rfl) rfl
theorem q1711 : (Jvm.Cond.soleField "HairRopeModel" "undos") ∈ lw_all := lw_g (lw_at lw_m7 138 rfl) rfl
theorem q1712 : (Jvm.Cond.laysFinal "HairRopeModel" "HairRopeModel" "history" "[I") ∈ lw_all := lw_g (lw_at lw_m7 139 rfl) rfl
theorem q1713 : (Jvm.Cond.soleField "HairRopeModel" "history") ∈ lw_all := lw_g (lw_at lw_m7 140 rfl) rfl
theorem q1714 : (Jvm.Cond.laysFinal "HairRopeModel" "HairRopeModel" "longBy" "[I") ∈ lw_all := lw_g (lw_at lw_m7 141 rfl) rfl
theorem q1715 : (Jvm.Cond.soleField "HairRopeModel" "longBy") ∈ lw_all := lw_g (lw_at lw_m7 142 rfl) rfl
theorem q1716 : (Jvm.Cond.laysFinal "HairRopeModel" "HairRopeModel" "strongBy" "[I") ∈ lw_all := lw_g (lw_at lw_m7 143 rfl) rfl
theorem q1717 : (Jvm.Cond.soleField "HairRopeModel" "strongBy") ∈ lw_all := lw_g (lw_at lw_m7 144 rfl) rfl
theorem q1718 : (Jvm.Cond.laysFinal "HairRopeModel" "HairRopeModel" "joinBy" "[I") ∈ lw_all := lw_g (lw_at lw_m7 145 rfl) rfl
theorem q1719 : (Jvm.Cond.soleField "HairRopeModel" "joinBy") ∈ lw_all := lw_g (lw_at lw_m7 146 rfl) rfl
theorem q1720 : (Jvm.Cond.laysFinal "HairRopeModel" "HairRopeModel" "nineBy" "[I") ∈ lw_all := lw_g (lw_at lw_m7 147 rfl) rfl
theorem q1721 : (Jvm.Cond.soleField "HairRopeModel" "nineBy") ∈ lw_all := lw_g (lw_at lw_m7 148 rfl) rfl
theorem q1722 : (Jvm.Cond.laysFinal "HairRopeModel" "HairRopeModel" "heldBy" "[I") ∈ lw_all := lw_g (lw_at lw_m7 149 rfl) rfl
theorem q1723 : (Jvm.Cond.soleField "HairRopeModel" "heldBy") ∈ lw_all := lw_g (lw_at lw_m7 150 rfl) rfl
theorem q1724 : (Jvm.Cond.laysFinal "HairRopeModel" "HairRopeModel" "orderAt" "[I") ∈ lw_all := lw_g (lw_at lw_m7 151 rfl) rfl
theorem q1725 : (Jvm.Cond.soleField "HairRopeModel" "orderAt") ∈ lw_all := lw_g (lw_at lw_m7 152 rfl) rfl
theorem q1726 : (Jvm.Cond.lays "HairRopeModel" "HairRopeModel" "orderMany" "I") ∈ lw_all := lw_g (lw_at lw_m7 153 rfl) rfl
theorem q1727 : (Jvm.Cond.soleField "HairRopeModel" "orderMany") ∈ lw_all := lw_g (lw_at lw_m7 154 rfl) rfl
theorem q1728 : (Jvm.Cond.laysFinal "HairRopeModel" "HairRopeModel" "bestOrder" "[I") ∈ lw_all := lw_g (lw_at lw_m7 155 rfl) rfl
theorem q1729 : (Jvm.Cond.soleField "HairRopeModel" "bestOrder") ∈ lw_all := lw_g (lw_at lw_m7 156 rfl) rfl
theorem q1730 : (Jvm.Cond.lays "HairRopeModel" "HairRopeModel" "tolds" "I") ∈ lw_all := lw_g (lw_at lw_m7 157 rfl) rfl
theorem q1731 : (Jvm.Cond.soleField "HairRopeModel" "tolds") ∈ lw_all := lw_g (lw_at lw_m7 158 rfl) rfl
theorem q1732 : (Jvm.Cond.laysFinal "HairRopeModel" "HairRopeModel" "toldPlace" "[I") ∈ lw_all := lw_g (lw_at lw_m7 159 rfl) rfl
theorem q1733 : (Jvm.Cond.soleField "HairRopeModel" "toldPlace") ∈ lw_all := lw_g (lw_at lw_m7 160 rfl) rfl
theorem q1734 : (Jvm.Cond.laysFinal "HairRopeModel" "HairRopeModel" "toldBy" "[I") ∈ lw_all := lw_g (lw_at lw_m7 161 rfl) rfl
theorem q1735 : (Jvm.Cond.soleField "HairRopeModel" "toldBy") ∈ lw_all := lw_g (lw_at lw_m7 162 rfl) rfl
theorem q1736 : (Jvm.Cond.laysFinal "HairRopeModel" "HairRopeModel" "toldSo" "[Z") ∈ lw_all := lw_g (lw_at lw_m7 163 rfl) rfl
theorem q1737 : (Jvm.Cond.soleField "HairRopeModel" "toldSo") ∈ lw_all := lw_g (lw_at lw_m7 164 rfl) rfl
theorem q1738 : (Jvm.Cond.laysFinal "HairRopeModel" "HairRopeModel" "digits" "[I") ∈ lw_all := lw_g (lw_at lw_m7 165 rfl) rfl
theorem q1739 : (Jvm.Cond.soleField "HairRopeModel" "digits") ∈ lw_all := lw_g (lw_at lw_m7 166 rfl) rfl
theorem q1740 : (Jvm.Cond.laysFinal "HairRopeModel" "HairRopeModel" "aboveBy" "[I") ∈ lw_all := lw_g (lw_at lw_m7 167 rfl) rfl
theorem q1741 : (Jvm.Cond.soleField "HairRopeModel" "aboveBy") ∈ lw_all := lw_g (lw_at lw_m7 168 rfl) rfl
theorem q1742 : (Jvm.Cond.laysFinal "HairRopeModel" "HairRopeModel" "isHeld" "[Z") ∈ lw_all := lw_g (lw_at lw_m7 169 rfl) rfl
theorem q1743 : (Jvm.Cond.soleField "HairRopeModel" "isHeld") ∈ lw_all := lw_g (lw_at lw_m7 170 rfl) rfl
theorem q1744 : (Jvm.Cond.laysFinal "HairRopeModel" "HairRopeModel" "heldRows" "[I") ∈ lw_all := lw_g (lw_at lw_m7 171 rfl) rfl
theorem q1745 : (Jvm.Cond.soleField "HairRopeModel" "heldRows") ∈ lw_all := lw_g (lw_at lw_m7 172 rfl) rfl
theorem q1746 : (Jvm.Cond.superclass "HairRopeModel" "java/lang/Object") ∈ lw_all := lw_g (lw_at lw_m7 173 rfl) rfl
theorem q1749 : (Jvm.Cond.instanceMethod ({ cls := "HairRopeModel", name := "feed", desc := "(IIIII)I" } : Jvm.MethodName)) ∈ lw_all := lw_g (lw_at lw_m7 176 rfl) rfl
theorem q1750 : (Jvm.Cond.selects "HairRopeModel" ({ cls := "HairRopeModel", name := "feed", desc := "(IIIII)I" } : Jvm.MethodName) ({ cls := "HairRopeModel", name := "feed", desc := "(IIIII)I" } : Jvm.MethodName)) ∈ lw_all := lw_g (lw_at lw_m7 177 rfl) rfl
theorem q1751 : (Jvm.Cond.code ({ cls := "HairRopeModel", name := "feed", desc := "(IIIII)I" } : Jvm.MethodName) prog_18_method_3_code (6 : Nat) (Option.some Jvm.ClassFile.FieldType.int)) ∈ lw_all := lw_g (lw_at lw_m7 178 rfl) rfl
theorem q1752 : (Jvm.Cond.methodLink "HairRopeModel" (181 : Nat) ({ cls := "HairRopeModel", name := "lays", desc := "(I)V" } : Jvm.MethodName)) ∈ lw_all := lw_g (lw_at lw_m7 179 rfl) rfl
theorem q1753 : (Jvm.Cond.privateMethod ({ cls := "HairRopeModel", name := "lays", desc := "(I)V" } : Jvm.MethodName)) ∈ lw_tbl := lw_at lw_m7 180 rfl
theorem q1754 : (Jvm.Cond.instanceMethod ({ cls := "HairRopeModel", name := "lays", desc := "(I)V" } : Jvm.MethodName)) ∈ lw_all := lw_g (lw_at lw_m7 181 rfl) rfl
theorem q1755 : (Jvm.Cond.code ({ cls := "HairRopeModel", name := "lays", desc := "(I)V" } : Jvm.MethodName) prog_18_method_4_code (3 : Nat) (Option.none : Option Jvm.ClassFile.FieldType)) ∈ lw_all := lw_g (lw_at lw_m7 182 rfl) rfl
theorem q1757 : (Jvm.Cond.instanceMethod ({ cls := "HairRopeModel", name := "back", desc := "(I)I" } : Jvm.MethodName)) ∈ lw_all := lw_g (lw_at lw_m7 184 rfl) rfl
theorem q1758 : (Jvm.Cond.selects "HairRopeModel" ({ cls := "HairRopeModel", name := "back", desc := "(I)I" } : Jvm.MethodName) ({ cls := "HairRopeModel", name := "back", desc := "(I)I" } : Jvm.MethodName)) ∈ lw_all := lw_g (lw_at lw_m7 185 rfl) rfl
theorem q1759 : (Jvm.Cond.code ({ cls := "HairRopeModel", name := "back", desc := "(I)I" } : Jvm.MethodName) prog_18_method_5_code (2 : Nat) (Option.some Jvm.ClassFile.FieldType.int)) ∈ lw_all := lw_g (lw_at lw_m7 186 rfl) rfl
theorem q1761 : (Jvm.Cond.instanceMethod ({ cls := "HairRopeModel", name := "read", desc := "()I" } : Jvm.MethodName)) ∈ lw_all := lw_g (lw_at lw_m7 188 rfl) rfl
theorem q1762 : (Jvm.Cond.selects "HairRopeModel" ({ cls := "HairRopeModel", name := "read", desc := "()I" } : Jvm.MethodName) ({ cls := "HairRopeModel", name := "read", desc := "()I" } : Jvm.MethodName)) ∈ lw_all := lw_g (lw_at lw_m7 189 rfl) rfl
theorem q1763 : (Jvm.Cond.code ({ cls := "HairRopeModel", name := "read", desc := "()I" } : Jvm.MethodName) prog_18_method_20_code (2 : Nat) (Option.some Jvm.ClassFile.FieldType.int)) ∈ lw_all := lw_g (lw_at lw_m7 190 rfl) rfl
theorem q1764 : (Jvm.Cond.methodLink "HairRopeModel" (239 : Nat) ({ cls := "HairRopeModel", name := "cut", desc := "()V" } : Jvm.MethodName)) ∈ lw_all := lw_g (lw_at lw_m7 191 rfl) rfl
theorem q1765 : (Jvm.Cond.privateMethod ({ cls := "HairRopeModel", name := "cut", desc := "()V" } : Jvm.MethodName)) ∈ lw_tbl := lw_at lw_m7 192 rfl
theorem q1766 : (Jvm.Cond.instanceMethod ({ cls := "HairRopeModel", name := "cut", desc := "()V" } : Jvm.MethodName)) ∈ lw_all := lw_g (lw_at lw_m7 193 rfl) rfl
theorem q1767 : (Jvm.Cond.code ({ cls := "HairRopeModel", name := "cut", desc := "()V" } : Jvm.MethodName) prog_18_method_12_code (8 : Nat) (Option.none : Option Jvm.ClassFile.FieldType)) ∈ lw_all := lw_g (lw_at lw_m7 194 rfl) rfl
theorem q1768 : (Jvm.Cond.methodLink "HairRopeModel" (196 : Nat) ({ cls := "HairRopeModel", name := "byteAt", desc := "(I)I" } : Jvm.MethodName)) ∈ lw_all := lw_g (lw_at lw_m7 195 rfl) rfl
theorem q1769 : (Jvm.Cond.privateMethod ({ cls := "HairRopeModel", name := "byteAt", desc := "(I)I" } : Jvm.MethodName)) ∈ lw_tbl := lw_at lw_m7 196 rfl
theorem q1770 : (Jvm.Cond.instanceMethod ({ cls := "HairRopeModel", name := "byteAt", desc := "(I)I" } : Jvm.MethodName)) ∈ lw_all := lw_g (lw_at lw_m7 197 rfl) rfl
theorem q1771 : (Jvm.Cond.code ({ cls := "HairRopeModel", name := "byteAt", desc := "(I)I" } : Jvm.MethodName) prog_18_method_6_code (2 : Nat) (Option.some Jvm.ClassFile.FieldType.int)) ∈ lw_all := lw_g (lw_at lw_m7 198 rfl) rfl
theorem q1772 : (Jvm.Cond.methodLink "HairRopeModel" (200 : Nat) ({ cls := "HairRopeModel", name := "token", desc := "(IIIJ)V" } : Jvm.MethodName)) ∈ lw_all := lw_g (lw_at lw_m7 199 rfl) rfl
theorem q1773 : (Jvm.Cond.privateMethod ({ cls := "HairRopeModel", name := "token", desc := "(IIIJ)V" } : Jvm.MethodName)) ∈ lw_tbl := lw_at lw_m7 200 rfl
theorem q1774 : (Jvm.Cond.instanceMethod ({ cls := "HairRopeModel", name := "token", desc := "(IIIJ)V" } : Jvm.MethodName)) ∈ lw_all := lw_g (lw_at lw_m7 201 rfl) rfl
theorem q1775 : (Jvm.Cond.code ({ cls := "HairRopeModel", name := "token", desc := "(IIIJ)V" } : Jvm.MethodName) prog_18_method_11_code (6 : Nat) (Option.none : Option Jvm.ClassFile.FieldType)) ∈ lw_all := lw_g (lw_at lw_m7 202 rfl) rfl
theorem q1776 : (Jvm.Cond.methodLink "HairRopeModel" (204 : Nat) ({ cls := "HairRopeModel", name := "isLetter", desc := "(I)Z" } : Jvm.MethodName)) ∈ lw_all := lw_g (lw_at lw_m7 203 rfl) rfl
theorem q1777 : (Jvm.Cond.static ({ cls := "HairRopeModel", name := "isLetter", desc := "(I)Z" } : Jvm.MethodName)) ∈ lw_all := lw_g (lw_at lw_m7 204 rfl) rfl
theorem q1778 : (Jvm.Cond.code ({ cls := "HairRopeModel", name := "isLetter", desc := "(I)Z" } : Jvm.MethodName) prog_18_method_8_code (1 : Nat) (Option.some Jvm.ClassFile.FieldType.boolean)) ∈ lw_all := lw_g (lw_at lw_m7 205 rfl) rfl
theorem q1779 : (Jvm.Cond.methodLink "HairRopeModel" (208 : Nat) ({ cls := "HairRopeModel", name := "isDigit", desc := "(I)Z" } : Jvm.MethodName)) ∈ lw_all := lw_g (lw_at lw_m7 206 rfl) rfl
theorem q1780 : (Jvm.Cond.static ({ cls := "HairRopeModel", name := "isDigit", desc := "(I)Z" } : Jvm.MethodName)) ∈ lw_all := lw_g (lw_at lw_m7 207 rfl) rfl
theorem q1781 : (Jvm.Cond.code ({ cls := "HairRopeModel", name := "isDigit", desc := "(I)Z" } : Jvm.MethodName) prog_18_method_7_code (1 : Nat) (Option.some Jvm.ClassFile.FieldType.boolean)) ∈ lw_all := lw_g (lw_at lw_m7 208 rfl) rfl
theorem q1782 : (Jvm.Cond.methodLink "HairRopeModel" (211 : Nat) ({ cls := "HairRopeModel", name := "sign", desc := "(III)I" } : Jvm.MethodName)) ∈ lw_all := lw_g (lw_at lw_m7 209 rfl) rfl
theorem q1783 : (Jvm.Cond.privateMethod ({ cls := "HairRopeModel", name := "sign", desc := "(III)I" } : Jvm.MethodName)) ∈ lw_tbl := lw_at lw_m7 210 rfl
theorem q1784 : (Jvm.Cond.instanceMethod ({ cls := "HairRopeModel", name := "sign", desc := "(III)I" } : Jvm.MethodName)) ∈ lw_all := lw_g (lw_at lw_m7 211 rfl) rfl
theorem q1785 : (Jvm.Cond.code ({ cls := "HairRopeModel", name := "sign", desc := "(III)I" } : Jvm.MethodName) prog_18_method_13_code (5 : Nat) (Option.some Jvm.ClassFile.FieldType.int)) ∈ lw_all := lw_g (lw_at lw_m7 212 rfl) rfl
theorem q1786 : (Jvm.Cond.methodLink "HairRopeModel" (233 : Nat) ({ cls := "HairRopeModel", name := "is", desc := "(I)Z" } : Jvm.MethodName)) ∈ lw_all := lw_g (lw_at lw_m7 213 rfl) rfl
theorem q1787 : (Jvm.Cond.privateMethod ({ cls := "HairRopeModel", name := "is", desc := "(I)Z" } : Jvm.MethodName)) ∈ lw_tbl := lw_at lw_m7 214 rfl
theorem q1788 : (Jvm.Cond.instanceMethod ({ cls := "HairRopeModel", name := "is", desc := "(I)Z" } : Jvm.MethodName)) ∈ lw_all := lw_g (lw_at lw_m7 215 rfl) rfl
theorem q1789 : (Jvm.Cond.code ({ cls := "HairRopeModel", name := "is", desc := "(I)Z" } : Jvm.MethodName) prog_18_method_14_code (2 : Nat) (Option.some Jvm.ClassFile.FieldType.boolean)) ∈ lw_all := lw_g (lw_at lw_m7 216 rfl) rfl
theorem q1790 : (Jvm.Cond.methodLink "HairRopeModel" (260 : Nat) ({ cls := "HairRopeModel", name := "tellOne", desc := "()V" } : Jvm.MethodName)) ∈ lw_all := lw_g (lw_at lw_m7 217 rfl) rfl
theorem q1791 : (Jvm.Cond.privateMethod ({ cls := "HairRopeModel", name := "tellOne", desc := "()V" } : Jvm.MethodName)) ∈ lw_tbl := lw_at lw_m7 218 rfl
theorem q1792 : (Jvm.Cond.instanceMethod ({ cls := "HairRopeModel", name := "tellOne", desc := "()V" } : Jvm.MethodName)) ∈ lw_all := lw_g (lw_at lw_m7 219 rfl) rfl
theorem q1793 : (Jvm.Cond.code ({ cls := "HairRopeModel", name := "tellOne", desc := "()V" } : Jvm.MethodName) prog_18_method_24_code (2 : Nat) (Option.none : Option Jvm.ClassFile.FieldType)) ∈ lw_all := lw_g (lw_at lw_m7 220 rfl) rfl
theorem q1794 : (Jvm.Cond.methodLink "HairRopeModel" (276 : Nat) ({ cls := "HairRopeModel", name := "roomFor", desc := "(II)V" } : Jvm.MethodName)) ∈ lw_all := lw_g (lw_at lw_m7 221 rfl) rfl
theorem q1795 : (Jvm.Cond.privateMethod ({ cls := "HairRopeModel", name := "roomFor", desc := "(II)V" } : Jvm.MethodName)) ∈ lw_tbl := lw_at lw_m7 222 rfl
theorem q1796 : (Jvm.Cond.instanceMethod ({ cls := "HairRopeModel", name := "roomFor", desc := "(II)V" } : Jvm.MethodName)) ∈ lw_all := lw_g (lw_at lw_m7 223 rfl) rfl
theorem q1797 : (Jvm.Cond.code ({ cls := "HairRopeModel", name := "roomFor", desc := "(II)V" } : Jvm.MethodName) prog_18_method_22_code (3 : Nat) (Option.none : Option Jvm.ClassFile.FieldType)) ∈ lw_all := lw_g (lw_at lw_m7 224 rfl) rfl
theorem q1798 : (Jvm.Cond.methodLink "HairRopeModel" (230 : Nat) ({ cls := "HairRopeModel", name := "fail", desc := "(I)V" } : Jvm.MethodName)) ∈ lw_all := lw_g (lw_at lw_m7 225 rfl) rfl
theorem q1799 : (Jvm.Cond.privateMethod ({ cls := "HairRopeModel", name := "fail", desc := "(I)V" } : Jvm.MethodName)) ∈ lw_tbl := lw_at lw_m7 226 rfl
theorem q1800 : (Jvm.Cond.instanceMethod ({ cls := "HairRopeModel", name := "fail", desc := "(I)V" } : Jvm.MethodName)) ∈ lw_all := lw_g (lw_at lw_m7 227 rfl) rfl
theorem q1801 : (Jvm.Cond.code ({ cls := "HairRopeModel", name := "fail", desc := "(I)V" } : Jvm.MethodName) prog_18_method_15_code (2 : Nat) (Option.none : Option Jvm.ClassFile.FieldType)) ∈ lw_all := lw_g (lw_at lw_m7 228 rfl) rfl
theorem q1802 : (Jvm.Cond.methodLink "HairRopeModel" (236 : Nat) ({ cls := "HairRopeModel", name := "goesOn", desc := "()V" } : Jvm.MethodName)) ∈ lw_all := lw_g (lw_at lw_m7 229 rfl) rfl
theorem q1803 : (Jvm.Cond.privateMethod ({ cls := "HairRopeModel", name := "goesOn", desc := "()V" } : Jvm.MethodName)) ∈ lw_tbl := lw_at lw_m7 230 rfl
theorem q1804 : (Jvm.Cond.instanceMethod ({ cls := "HairRopeModel", name := "goesOn", desc := "()V" } : Jvm.MethodName)) ∈ lw_all := lw_g (lw_at lw_m7 231 rfl) rfl
theorem q1805 : (Jvm.Cond.code ({ cls := "HairRopeModel", name := "goesOn", desc := "()V" } : Jvm.MethodName) prog_18_method_17_code (1 : Nat) (Option.none : Option Jvm.ClassFile.FieldType)) ∈ lw_all := lw_g (lw_at lw_m7 232 rfl) rfl
theorem q1806 : (Jvm.Cond.methodLink "HairRopeModel" (280 : Nat) ({ cls := "HairRopeModel", name := "tellHouse", desc := "()V" } : Jvm.MethodName)) ∈ lw_all := lw_g (lw_at lw_m7 233 rfl) rfl
theorem q1807 : (Jvm.Cond.privateMethod ({ cls := "HairRopeModel", name := "tellHouse", desc := "()V" } : Jvm.MethodName)) ∈ lw_tbl := lw_at lw_m7 234 rfl
theorem q1808 : (Jvm.Cond.instanceMethod ({ cls := "HairRopeModel", name := "tellHouse", desc := "()V" } : Jvm.MethodName)) ∈ lw_all := lw_g (lw_at lw_m7 235 rfl) rfl
theorem q1809 : (Jvm.Cond.code ({ cls := "HairRopeModel", name := "tellHouse", desc := "()V" } : Jvm.MethodName) prog_18_method_27_code (4 : Nat) (Option.none : Option Jvm.ClassFile.FieldType)) ∈ lw_all := lw_g (lw_at lw_m7 236 rfl) rfl
theorem q1810 : (Jvm.Cond.methodLink "HairRopeModel" (273 : Nat) ({ cls := "HairRopeModel", name := "must", desc := "(I)V" } : Jvm.MethodName)) ∈ lw_all := lw_g (lw_at lw_m7 237 rfl) rfl
theorem q1811 : (Jvm.Cond.privateMethod ({ cls := "HairRopeModel", name := "must", desc := "(I)V" } : Jvm.MethodName)) ∈ lw_tbl := lw_at lw_m7 238 rfl
theorem q1812 : (Jvm.Cond.instanceMethod ({ cls := "HairRopeModel", name := "must", desc := "(I)V" } : Jvm.MethodName)) ∈ lw_all := lw_g (lw_at lw_m7 239 rfl) rfl
theorem q1813 : (Jvm.Cond.code ({ cls := "HairRopeModel", name := "must", desc := "(I)V" } : Jvm.MethodName) prog_18_method_18_code (2 : Nat) (Option.none : Option Jvm.ClassFile.FieldType)) ∈ lw_all := lw_g (lw_at lw_m8 0 rfl) rfl
theorem q1814 : (Jvm.Cond.methodLink "HairRopeModel" (292 : Nat) ({ cls := "HairRopeModel", name := "wrong", desc := "(II)V" } : Jvm.MethodName)) ∈ lw_all := lw_g (lw_at lw_m8 1 rfl) rfl
theorem q1815 : (Jvm.Cond.privateMethod ({ cls := "HairRopeModel", name := "wrong", desc := "(II)V" } : Jvm.MethodName)) ∈ lw_tbl := lw_at lw_m8 2 rfl
theorem q1816 : (Jvm.Cond.instanceMethod ({ cls := "HairRopeModel", name := "wrong", desc := "(II)V" } : Jvm.MethodName)) ∈ lw_all := lw_g (lw_at lw_m8 3 rfl) rfl
theorem q1817 : (Jvm.Cond.code ({ cls := "HairRopeModel", name := "wrong", desc := "(II)V" } : Jvm.MethodName) prog_18_method_16_code (4 : Nat) (Option.none : Option Jvm.ClassFile.FieldType)) ∈ lw_all := lw_g (lw_at lw_m8 4 rfl) rfl
theorem q1818 : (Jvm.Cond.methodLink "HairRopeModel" (269 : Nat) ({ cls := "HairRopeModel", name := "bounded", desc := "(II)I" } : Jvm.MethodName)) ∈ lw_all := lw_g (lw_at lw_m8 5 rfl) rfl
theorem q1819 : (Jvm.Cond.privateMethod ({ cls := "HairRopeModel", name := "bounded", desc := "(II)I" } : Jvm.MethodName)) ∈ lw_tbl := lw_at lw_m8 6 rfl
theorem q1820 : (Jvm.Cond.instanceMethod ({ cls := "HairRopeModel", name := "bounded", desc := "(II)I" } : Jvm.MethodName)) ∈ lw_all := lw_g (lw_at lw_m8 7 rfl) rfl
theorem q1821 : (Jvm.Cond.code ({ cls := "HairRopeModel", name := "bounded", desc := "(II)I" } : Jvm.MethodName) prog_18_method_26_code (4 : Nat) (Option.some Jvm.ClassFile.FieldType.int)) ∈ lw_all := lw_g (lw_at lw_m8 8 rfl) rfl
theorem q1822 : (Jvm.Cond.methodLink "HairRopeModel" (283 : Nat) ({ cls := "HairRopeModel", name := "tellLikes", desc := "()V" } : Jvm.MethodName)) ∈ lw_all := lw_g (lw_at lw_m8 9 rfl) rfl
theorem q1823 : (Jvm.Cond.privateMethod ({ cls := "HairRopeModel", name := "tellLikes", desc := "()V" } : Jvm.MethodName)) ∈ lw_tbl := lw_at lw_m8 10 rfl
theorem q1824 : (Jvm.Cond.instanceMethod ({ cls := "HairRopeModel", name := "tellLikes", desc := "()V" } : Jvm.MethodName)) ∈ lw_all := lw_g (lw_at lw_m8 11 rfl) rfl
theorem q1825 : (Jvm.Cond.code ({ cls := "HairRopeModel", name := "tellLikes", desc := "()V" } : Jvm.MethodName) prog_18_method_28_code (5 : Nat) (Option.none : Option Jvm.ClassFile.FieldType)) ∈ lw_all := lw_g (lw_at lw_m8 12 rfl) rfl
theorem q1826 : (Jvm.Cond.methodLink "HairRopeModel" (295 : Nat) ({ cls := "HairRopeModel", name := "known", desc := "()I" } : Jvm.MethodName)) ∈ lw_all := lw_g (lw_at lw_m8 13 rfl) rfl
theorem q1827 : (Jvm.Cond.privateMethod ({ cls := "HairRopeModel", name := "known", desc := "()I" } : Jvm.MethodName)) ∈ lw_tbl := lw_at lw_m8 14 rfl
theorem q1828 : (Jvm.Cond.instanceMethod ({ cls := "HairRopeModel", name := "known", desc := "()I" } : Jvm.MethodName)) ∈ lw_all := lw_g (lw_at lw_m8 15 rfl) rfl
theorem q1829 : (Jvm.Cond.code ({ cls := "HairRopeModel", name := "known", desc := "()I" } : Jvm.MethodName) prog_18_method_25_code (3 : Nat) (Option.some Jvm.ClassFile.FieldType.int)) ∈ lw_all := lw_g (lw_at lw_m8 16 rfl) rfl
theorem q1830 : (Jvm.Cond.methodLink "HairRopeModel" (286 : Nat) ({ cls := "HairRopeModel", name := "toldInt", desc := "(II)I" } : Jvm.MethodName)) ∈ lw_all := lw_g (lw_at lw_m8 17 rfl) rfl
theorem q1831 : (Jvm.Cond.privateMethod ({ cls := "HairRopeModel", name := "toldInt", desc := "(II)I" } : Jvm.MethodName)) ∈ lw_tbl := lw_at lw_m8 18 rfl
theorem q1832 : (Jvm.Cond.instanceMethod ({ cls := "HairRopeModel", name := "toldInt", desc := "(II)I" } : Jvm.MethodName)) ∈ lw_all := lw_g (lw_at lw_m8 19 rfl) rfl
theorem q1833 : (Jvm.Cond.code ({ cls := "HairRopeModel", name := "toldInt", desc := "(II)I" } : Jvm.MethodName) prog_18_method_23_code (4 : Nat) (Option.some Jvm.ClassFile.FieldType.int)) ∈ lw_all := lw_g (lw_at lw_m8 20 rfl) rfl
theorem q1834 : (Jvm.Cond.methodLink "HairRopeModel" (289 : Nat) ({ cls := "HairRopeModel", name := "tellLaw", desc := "(I)V" } : Jvm.MethodName)) ∈ lw_all := lw_g (lw_at lw_m8 21 rfl) rfl
theorem q1835 : (Jvm.Cond.privateMethod ({ cls := "HairRopeModel", name := "tellLaw", desc := "(I)V" } : Jvm.MethodName)) ∈ lw_tbl := lw_at lw_m8 22 rfl
theorem q1836 : (Jvm.Cond.instanceMethod ({ cls := "HairRopeModel", name := "tellLaw", desc := "(I)V" } : Jvm.MethodName)) ∈ lw_all := lw_g (lw_at lw_m8 23 rfl) rfl
theorem q1837 : (Jvm.Cond.code ({ cls := "HairRopeModel", name := "tellLaw", desc := "(I)V" } : Jvm.MethodName) prog_18_method_29_code (4 : Nat) (Option.none : Option Jvm.ClassFile.FieldType)) ∈ lw_all := lw_g (lw_at lw_m8 24 rfl) rfl
theorem q1838 : (Jvm.Cond.methodLink "HairRopeModel" (299 : Nat) ({ cls := "HairRopeModel", name := "expression", desc := "()V" } : Jvm.MethodName)) ∈ lw_all := lw_g (lw_at lw_m8 25 rfl) rfl
theorem q1839 : (Jvm.Cond.privateMethod ({ cls := "HairRopeModel", name := "expression", desc := "()V" } : Jvm.MethodName)) ∈ lw_tbl := lw_at lw_m8 26 rfl
theorem q1840 : (Jvm.Cond.instanceMethod ({ cls := "HairRopeModel", name := "expression", desc := "()V" } : Jvm.MethodName)) ∈ lw_all := lw_g (lw_at lw_m8 27 rfl) rfl
theorem q1841 : (Jvm.Cond.code ({ cls := "HairRopeModel", name := "expression", desc := "()V" } : Jvm.MethodName) prog_18_method_33_code (3 : Nat) (Option.none : Option Jvm.ClassFile.FieldType)) ∈ lw_all := lw_g (lw_at lw_m8 28 rfl) rfl
theorem q1842 : (Jvm.Cond.methodLink "HairRopeModel" (311 : Nat) ({ cls := "HairRopeModel", name := "unit", desc := "()V" } : Jvm.MethodName)) ∈ lw_all := lw_g (lw_at lw_m8 29 rfl) rfl
theorem q1843 : (Jvm.Cond.privateMethod ({ cls := "HairRopeModel", name := "unit", desc := "()V" } : Jvm.MethodName)) ∈ lw_tbl := lw_at lw_m8 30 rfl
theorem q1844 : (Jvm.Cond.instanceMethod ({ cls := "HairRopeModel", name := "unit", desc := "()V" } : Jvm.MethodName)) ∈ lw_all := lw_g (lw_at lw_m8 31 rfl) rfl
theorem q1845 : (Jvm.Cond.code ({ cls := "HairRopeModel", name := "unit", desc := "()V" } : Jvm.MethodName) prog_18_method_34_code (1 : Nat) (Option.none : Option Jvm.ClassFile.FieldType)) ∈ lw_all := lw_g (lw_at lw_m8 32 rfl) rfl
theorem q1846 : (Jvm.Cond.methodLink "HairRopeModel" (308 : Nat) ({ cls := "HairRopeModel", name := "emit", desc := "(II)V" } : Jvm.MethodName)) ∈ lw_all := lw_g (lw_at lw_m8 33 rfl) rfl
theorem q1847 : (Jvm.Cond.privateMethod ({ cls := "HairRopeModel", name := "emit", desc := "(II)V" } : Jvm.MethodName)) ∈ lw_tbl := lw_at lw_m8 34 rfl
theorem q1848 : (Jvm.Cond.instanceMethod ({ cls := "HairRopeModel", name := "emit", desc := "(II)V" } : Jvm.MethodName)) ∈ lw_all := lw_g (lw_at lw_m8 35 rfl) rfl
theorem q1849 : (Jvm.Cond.code ({ cls := "HairRopeModel", name := "emit", desc := "(II)V" } : Jvm.MethodName) prog_18_method_31_code (3 : Nat) (Option.none : Option Jvm.ClassFile.FieldType)) ∈ lw_all := lw_g (lw_at lw_m8 36 rfl) rfl
theorem q1850 : (Jvm.Cond.methodLink "HairRopeModel" (314 : Nat) ({ cls := "HairRopeModel", name := "comesOut", desc := "(Z)V" } : Jvm.MethodName)) ∈ lw_all := lw_g (lw_at lw_m8 37 rfl) rfl
theorem q1851 : (Jvm.Cond.privateMethod ({ cls := "HairRopeModel", name := "comesOut", desc := "(Z)V" } : Jvm.MethodName)) ∈ lw_tbl := lw_at lw_m8 38 rfl
theorem q1852 : (Jvm.Cond.instanceMethod ({ cls := "HairRopeModel", name := "comesOut", desc := "(Z)V" } : Jvm.MethodName)) ∈ lw_all := lw_g (lw_at lw_m8 39 rfl) rfl
theorem q1853 : (Jvm.Cond.code ({ cls := "HairRopeModel", name := "comesOut", desc := "(Z)V" } : Jvm.MethodName) prog_18_method_32_code (3 : Nat) (Option.none : Option Jvm.ClassFile.FieldType)) ∈ lw_all := lw_g (lw_at lw_m8 40 rfl) rfl
theorem q1854 : (Jvm.Cond.methodLink "HairRopeModel" (302 : Nat) ({ cls := "HairRopeModel", name := "term", desc := "()V" } : Jvm.MethodName)) ∈ lw_all := lw_g (lw_at lw_m8 41 rfl) rfl
theorem q1855 : (Jvm.Cond.privateMethod ({ cls := "HairRopeModel", name := "term", desc := "()V" } : Jvm.MethodName)) ∈ lw_tbl := lw_at lw_m8 42 rfl
theorem q1856 : (Jvm.Cond.instanceMethod ({ cls := "HairRopeModel", name := "term", desc := "()V" } : Jvm.MethodName)) ∈ lw_all := lw_g (lw_at lw_m8 43 rfl) rfl
theorem q1857 : (Jvm.Cond.code ({ cls := "HairRopeModel", name := "term", desc := "()V" } : Jvm.MethodName) prog_18_method_30_code (1 : Nat) (Option.none : Option Jvm.ClassFile.FieldType)) ∈ lw_all := lw_g (lw_at lw_m8 44 rfl) rfl
theorem q1859 : (Jvm.Cond.instanceMethod ({ cls := "HairRopeModel", name := "place", desc := "()I" } : Jvm.MethodName)) ∈ lw_all := lw_g (lw_at lw_m8 46 rfl) rfl
theorem q1860 : (Jvm.Cond.selects "HairRopeModel" ({ cls := "HairRopeModel", name := "place", desc := "()I" } : Jvm.MethodName) ({ cls := "HairRopeModel", name := "place", desc := "()I" } : Jvm.MethodName)) ∈ lw_all := lw_g (lw_at lw_m8 47 rfl) rfl
theorem q1861 : (Jvm.Cond.code ({ cls := "HairRopeModel", name := "place", desc := "()I" } : Jvm.MethodName) prog_18_method_21_code (1 : Nat) (Option.some Jvm.ClassFile.FieldType.int)) ∈ lw_all := lw_g (lw_at lw_m8 48 rfl) rfl
theorem q1863 : (Jvm.Cond.instanceMethod ({ cls := "HairRopeModel", name := "house", desc := "(II)I" } : Jvm.MethodName)) ∈ lw_all := lw_g (lw_at lw_m8 50 rfl) rfl
theorem q1864 : (Jvm.Cond.selects "HairRopeModel" ({ cls := "HairRopeModel", name := "house", desc := "(II)I" } : Jvm.MethodName) ({ cls := "HairRopeModel", name := "house", desc := "(II)I" } : Jvm.MethodName)) ∈ lw_all := lw_g (lw_at lw_m8 51 rfl) rfl
theorem q1865 : (Jvm.Cond.code ({ cls := "HairRopeModel", name := "house", desc := "(II)I" } : Jvm.MethodName) prog_18_method_67_code (3 : Nat) (Option.some Jvm.ClassFile.FieldType.int)) ∈ lw_all := lw_g (lw_at lw_m8 52 rfl) rfl
theorem q1866 : (Jvm.Cond.methodLink "HairRopeModel" (393 : Nat) ({ cls := "HairRopeModel", name := "isHouse", desc := "(I)Z" } : Jvm.MethodName)) ∈ lw_all := lw_g (lw_at lw_m8 53 rfl) rfl
theorem q1867 : (Jvm.Cond.privateMethod ({ cls := "HairRopeModel", name := "isHouse", desc := "(I)Z" } : Jvm.MethodName)) ∈ lw_tbl := lw_at lw_m8 54 rfl
theorem q1868 : (Jvm.Cond.instanceMethod ({ cls := "HairRopeModel", name := "isHouse", desc := "(I)Z" } : Jvm.MethodName)) ∈ lw_all := lw_g (lw_at lw_m8 55 rfl) rfl
theorem q1869 : (Jvm.Cond.code ({ cls := "HairRopeModel", name := "isHouse", desc := "(I)Z" } : Jvm.MethodName) prog_18_method_39_code (2 : Nat) (Option.some Jvm.ClassFile.FieldType.boolean)) ∈ lw_all := lw_g (lw_at lw_m8 56 rfl) rfl
theorem q1870 : (Jvm.Cond.methodLink "HairRopeModel" (322 : Nat) ({ cls := "HairRopeModel", name := "in", desc := "(III)Z" } : Jvm.MethodName)) ∈ lw_all := lw_g (lw_at lw_m8 57 rfl) rfl
theorem q1871 : (Jvm.Cond.static ({ cls := "HairRopeModel", name := "in", desc := "(III)Z" } : Jvm.MethodName)) ∈ lw_all := lw_g (lw_at lw_m8 58 rfl) rfl
theorem q1872 : (Jvm.Cond.code ({ cls := "HairRopeModel", name := "in", desc := "(III)Z" } : Jvm.MethodName) prog_18_method_36_code (3 : Nat) (Option.some Jvm.ClassFile.FieldType.boolean)) ∈ lw_all := lw_g (lw_at lw_m8 59 rfl) rfl
theorem q1873 : (Jvm.Cond.methodLink "HairRopeModel" (332 : Nat) ({ cls := "HairRopeModel", name := "copies", desc := "()V" } : Jvm.MethodName)) ∈ lw_all := lw_g (lw_at lw_m8 60 rfl) rfl
theorem q1874 : (Jvm.Cond.privateMethod ({ cls := "HairRopeModel", name := "copies", desc := "()V" } : Jvm.MethodName)) ∈ lw_tbl := lw_at lw_m8 61 rfl
theorem q1875 : (Jvm.Cond.instanceMethod ({ cls := "HairRopeModel", name := "copies", desc := "()V" } : Jvm.MethodName)) ∈ lw_all := lw_g (lw_at lw_m8 62 rfl) rfl
theorem q1876 : (Jvm.Cond.code ({ cls := "HairRopeModel", name := "copies", desc := "()V" } : Jvm.MethodName) prog_18_method_44_code (2 : Nat) (Option.none : Option Jvm.ClassFile.FieldType)) ∈ lw_all := lw_g (lw_at lw_m8 63 rfl) rfl
theorem q1877 : (Jvm.Cond.methodLink "HairRopeModel" (342 : Nat) ({ cls := "HairRopeModel", name := "strongFirst", desc := "(I)I" } : Jvm.MethodName)) ∈ lw_all := lw_g (lw_at lw_m8 64 rfl) rfl
theorem q1878 : (Jvm.Cond.privateMethod ({ cls := "HairRopeModel", name := "strongFirst", desc := "(I)I" } : Jvm.MethodName)) ∈ lw_tbl := lw_at lw_m8 65 rfl
theorem q1879 : (Jvm.Cond.instanceMethod ({ cls := "HairRopeModel", name := "strongFirst", desc := "(I)I" } : Jvm.MethodName)) ∈ lw_all := lw_g (lw_at lw_m8 66 rfl) rfl
theorem q1880 : (Jvm.Cond.code ({ cls := "HairRopeModel", name := "strongFirst", desc := "(I)I" } : Jvm.MethodName) prog_18_method_41_code (2 : Nat) (Option.some Jvm.ClassFile.FieldType.int)) ∈ lw_all := lw_g (lw_at lw_m8 67 rfl) rfl
theorem q1881 : (Jvm.Cond.methodLink "HairRopeModel" (339 : Nat) ({ cls := "HairRopeModel", name := "hasPlait", desc := "(I)Z" } : Jvm.MethodName)) ∈ lw_all := lw_g (lw_at lw_m8 68 rfl) rfl
theorem q1882 : (Jvm.Cond.privateMethod ({ cls := "HairRopeModel", name := "hasPlait", desc := "(I)Z" } : Jvm.MethodName)) ∈ lw_tbl := lw_at lw_m8 69 rfl
theorem q1883 : (Jvm.Cond.instanceMethod ({ cls := "HairRopeModel", name := "hasPlait", desc := "(I)Z" } : Jvm.MethodName)) ∈ lw_all := lw_g (lw_at lw_m8 70 rfl) rfl
theorem q1884 : (Jvm.Cond.code ({ cls := "HairRopeModel", name := "hasPlait", desc := "(I)Z" } : Jvm.MethodName) prog_18_method_48_code (2 : Nat) (Option.some Jvm.ClassFile.FieldType.boolean)) ∈ lw_all := lw_g (lw_at lw_m8 71 rfl) rfl
theorem q1885 : (Jvm.Cond.methodLink "HairRopeModel" (351 : Nat) ({ cls := "HairRopeModel", name := "placeOf", desc := "(I)I" } : Jvm.MethodName)) ∈ lw_all := lw_g (lw_at lw_m8 72 rfl) rfl
theorem q1886 : (Jvm.Cond.privateMethod ({ cls := "HairRopeModel", name := "placeOf", desc := "(I)I" } : Jvm.MethodName)) ∈ lw_tbl := lw_at lw_m8 73 rfl
theorem q1887 : (Jvm.Cond.instanceMethod ({ cls := "HairRopeModel", name := "placeOf", desc := "(I)I" } : Jvm.MethodName)) ∈ lw_all := lw_g (lw_at lw_m8 74 rfl) rfl
theorem q1888 : (Jvm.Cond.code ({ cls := "HairRopeModel", name := "placeOf", desc := "(I)I" } : Jvm.MethodName) prog_18_method_50_code (3 : Nat) (Option.some Jvm.ClassFile.FieldType.int)) ∈ lw_all := lw_g (lw_at lw_m8 75 rfl) rfl
theorem q1889 : (Jvm.Cond.methodLink "HairRopeModel" (381 : Nat) ({ cls := "HairRopeModel", name := "growsOf", desc := "(I)I" } : Jvm.MethodName)) ∈ lw_all := lw_g (lw_at lw_m8 76 rfl) rfl
theorem q1890 : (Jvm.Cond.privateMethod ({ cls := "HairRopeModel", name := "growsOf", desc := "(I)I" } : Jvm.MethodName)) ∈ lw_tbl := lw_at lw_m8 77 rfl
theorem q1891 : (Jvm.Cond.instanceMethod ({ cls := "HairRopeModel", name := "growsOf", desc := "(I)I" } : Jvm.MethodName)) ∈ lw_all := lw_g (lw_at lw_m8 78 rfl) rfl
theorem q1892 : (Jvm.Cond.code ({ cls := "HairRopeModel", name := "growsOf", desc := "(I)I" } : Jvm.MethodName) prog_18_method_54_code (2 : Nat) (Option.some Jvm.ClassFile.FieldType.int)) ∈ lw_all := lw_g (lw_at lw_m8 79 rfl) rfl
theorem q1893 : (Jvm.Cond.methodLink "HairRopeModel" (354 : Nat) ({ cls := "HairRopeModel", name := "views", desc := "(I)V" } : Jvm.MethodName)) ∈ lw_all := lw_g (lw_at lw_m8 80 rfl) rfl
theorem q1894 : (Jvm.Cond.privateMethod ({ cls := "HairRopeModel", name := "views", desc := "(I)V" } : Jvm.MethodName)) ∈ lw_tbl := lw_at lw_m8 81 rfl
theorem q1895 : (Jvm.Cond.instanceMethod ({ cls := "HairRopeModel", name := "views", desc := "(I)V" } : Jvm.MethodName)) ∈ lw_all := lw_g (lw_at lw_m8 82 rfl) rfl
theorem q1896 : (Jvm.Cond.code ({ cls := "HairRopeModel", name := "views", desc := "(I)V" } : Jvm.MethodName) prog_18_method_53_code (2 : Nat) (Option.none : Option Jvm.ClassFile.FieldType)) ∈ lw_all := lw_g (lw_at lw_m8 83 rfl) rfl
theorem q1897 : (Jvm.Cond.methodLink "HairRopeModel" (348 : Nat) ({ cls := "HairRopeModel", name := "strongOf", desc := "(I)I" } : Jvm.MethodName)) ∈ lw_all := lw_g (lw_at lw_m8 84 rfl) rfl
theorem q1898 : (Jvm.Cond.privateMethod ({ cls := "HairRopeModel", name := "strongOf", desc := "(I)I" } : Jvm.MethodName)) ∈ lw_tbl := lw_at lw_m8 85 rfl
theorem q1899 : (Jvm.Cond.instanceMethod ({ cls := "HairRopeModel", name := "strongOf", desc := "(I)I" } : Jvm.MethodName)) ∈ lw_all := lw_g (lw_at lw_m8 86 rfl) rfl
theorem q1900 : (Jvm.Cond.code ({ cls := "HairRopeModel", name := "strongOf", desc := "(I)I" } : Jvm.MethodName) prog_18_method_49_code (2 : Nat) (Option.some Jvm.ClassFile.FieldType.int)) ∈ lw_all := lw_g (lw_at lw_m8 87 rfl) rfl
theorem q1901 : (Jvm.Cond.methodLink "HairRopeModel" (357 : Nat) ({ cls := "HairRopeModel", name := "lawTells", desc := "(II)I" } : Jvm.MethodName)) ∈ lw_all := lw_g (lw_at lw_m8 88 rfl) rfl
theorem q1902 : (Jvm.Cond.privateMethod ({ cls := "HairRopeModel", name := "lawTells", desc := "(II)I" } : Jvm.MethodName)) ∈ lw_tbl := lw_at lw_m8 89 rfl
theorem q1903 : (Jvm.Cond.instanceMethod ({ cls := "HairRopeModel", name := "lawTells", desc := "(II)I" } : Jvm.MethodName)) ∈ lw_all := lw_g (lw_at lw_m8 90 rfl) rfl
theorem q1904 : (Jvm.Cond.code ({ cls := "HairRopeModel", name := "lawTells", desc := "(II)I" } : Jvm.MethodName) prog_18_method_52_code (7 : Nat) (Option.some Jvm.ClassFile.FieldType.int)) ∈ lw_all := lw_g (lw_at lw_m8 91 rfl) rfl
theorem q1905 : (Jvm.Cond.methodLink "HairRopeModel" (345 : Nat) ({ cls := "HairRopeModel", name := "termOf", desc := "(II)I" } : Jvm.MethodName)) ∈ lw_all := lw_g (lw_at lw_m8 92 rfl) rfl
theorem q1906 : (Jvm.Cond.privateMethod ({ cls := "HairRopeModel", name := "termOf", desc := "(II)I" } : Jvm.MethodName)) ∈ lw_tbl := lw_at lw_m8 93 rfl
theorem q1907 : (Jvm.Cond.instanceMethod ({ cls := "HairRopeModel", name := "termOf", desc := "(II)I" } : Jvm.MethodName)) ∈ lw_all := lw_g (lw_at lw_m8 94 rfl) rfl
theorem q1908 : (Jvm.Cond.code ({ cls := "HairRopeModel", name := "termOf", desc := "(II)I" } : Jvm.MethodName) prog_18_method_35_code (8 : Nat) (Option.some Jvm.ClassFile.FieldType.int)) ∈ lw_all := lw_g (lw_at lw_m8 95 rfl) rfl
theorem q1909 : (Jvm.Cond.methodLink "HairRopeModel" (360 : Nat) ({ cls := "HairRopeModel", name := "within", desc := "(III)I" } : Jvm.MethodName)) ∈ lw_all := lw_g (lw_at lw_m8 96 rfl) rfl
theorem q1910 : (Jvm.Cond.static ({ cls := "HairRopeModel", name := "within", desc := "(III)I" } : Jvm.MethodName)) ∈ lw_all := lw_g (lw_at lw_m8 97 rfl) rfl
theorem q1911 : (Jvm.Cond.code ({ cls := "HairRopeModel", name := "within", desc := "(III)I" } : Jvm.MethodName) prog_18_method_37_code (3 : Nat) (Option.some Jvm.ClassFile.FieldType.int)) ∈ lw_all := lw_g (lw_at lw_m8 98 rfl) rfl
theorem q1912 : (Jvm.Cond.methodLink "HairRopeModel" (384 : Nat) ({ cls := "HairRopeModel", name := "weakensOf", desc := "(I)I" } : Jvm.MethodName)) ∈ lw_all := lw_g (lw_at lw_m8 99 rfl) rfl
theorem q1913 : (Jvm.Cond.privateMethod ({ cls := "HairRopeModel", name := "weakensOf", desc := "(I)I" } : Jvm.MethodName)) ∈ lw_tbl := lw_at lw_m8 100 rfl
theorem q1914 : (Jvm.Cond.instanceMethod ({ cls := "HairRopeModel", name := "weakensOf", desc := "(I)I" } : Jvm.MethodName)) ∈ lw_all := lw_g (lw_at lw_m8 101 rfl) rfl
theorem q1915 : (Jvm.Cond.code ({ cls := "HairRopeModel", name := "weakensOf", desc := "(I)I" } : Jvm.MethodName) prog_18_method_55_code (2 : Nat) (Option.some Jvm.ClassFile.FieldType.int)) ∈ lw_all := lw_g (lw_at lw_m8 102 rfl) rfl
theorem q1916 : (Jvm.Cond.methodLink "HairRopeModel" (396 : Nat) ({ cls := "HairRopeModel", name := "costsOf", desc := "(I)I" } : Jvm.MethodName)) ∈ lw_all := lw_g (lw_at lw_m8 103 rfl) rfl
theorem q1917 : (Jvm.Cond.privateMethod ({ cls := "HairRopeModel", name := "costsOf", desc := "(I)I" } : Jvm.MethodName)) ∈ lw_tbl := lw_at lw_m8 104 rfl
theorem q1918 : (Jvm.Cond.instanceMethod ({ cls := "HairRopeModel", name := "costsOf", desc := "(I)I" } : Jvm.MethodName)) ∈ lw_all := lw_g (lw_at lw_m8 105 rfl) rfl
theorem q1919 : (Jvm.Cond.code ({ cls := "HairRopeModel", name := "costsOf", desc := "(I)I" } : Jvm.MethodName) prog_18_method_56_code (2 : Nat) (Option.some Jvm.ClassFile.FieldType.int)) ∈ lw_all := lw_g (lw_at lw_m8 106 rfl) rfl
theorem q1921 : (Jvm.Cond.instanceMethod ({ cls := "HairRopeModel", name := "likes", desc := "(II)I" } : Jvm.MethodName)) ∈ lw_all := lw_g (lw_at lw_m8 108 rfl) rfl
theorem q1922 : (Jvm.Cond.selects "HairRopeModel" ({ cls := "HairRopeModel", name := "likes", desc := "(II)I" } : Jvm.MethodName) ({ cls := "HairRopeModel", name := "likes", desc := "(II)I" } : Jvm.MethodName)) ∈ lw_all := lw_g (lw_at lw_m8 109 rfl) rfl
theorem q1923 : (Jvm.Cond.code ({ cls := "HairRopeModel", name := "likes", desc := "(II)I" } : Jvm.MethodName) prog_18_method_69_code (3 : Nat) (Option.some Jvm.ClassFile.FieldType.int)) ∈ lw_all := lw_g (lw_at lw_m8 110 rfl) rfl
theorem q1924 : (Jvm.Cond.methodLink "HairRopeModel" (399 : Nat) ({ cls := "HairRopeModel", name := "areTwo", desc := "(II)Z" } : Jvm.MethodName)) ∈ lw_all := lw_g (lw_at lw_m8 111 rfl) rfl
theorem q1925 : (Jvm.Cond.privateMethod ({ cls := "HairRopeModel", name := "areTwo", desc := "(II)Z" } : Jvm.MethodName)) ∈ lw_tbl := lw_at lw_m8 112 rfl
theorem q1926 : (Jvm.Cond.instanceMethod ({ cls := "HairRopeModel", name := "areTwo", desc := "(II)Z" } : Jvm.MethodName)) ∈ lw_all := lw_g (lw_at lw_m8 113 rfl) rfl
theorem q1927 : (Jvm.Cond.code ({ cls := "HairRopeModel", name := "areTwo", desc := "(II)Z" } : Jvm.MethodName) prog_18_method_68_code (3 : Nat) (Option.some Jvm.ClassFile.FieldType.boolean)) ∈ lw_all := lw_g (lw_at lw_m8 114 rfl) rfl
theorem q1928 : (Jvm.Cond.methodLink "HairRopeModel" (363 : Nat) ({ cls := "HairRopeModel", name := "likeOf", desc := "(II)I" } : Jvm.MethodName)) ∈ lw_all := lw_g (lw_at lw_m8 115 rfl) rfl
theorem q1929 : (Jvm.Cond.privateMethod ({ cls := "HairRopeModel", name := "likeOf", desc := "(II)I" } : Jvm.MethodName)) ∈ lw_tbl := lw_at lw_m8 116 rfl
theorem q1930 : (Jvm.Cond.instanceMethod ({ cls := "HairRopeModel", name := "likeOf", desc := "(II)I" } : Jvm.MethodName)) ∈ lw_all := lw_g (lw_at lw_m8 117 rfl) rfl
theorem q1931 : (Jvm.Cond.code ({ cls := "HairRopeModel", name := "likeOf", desc := "(II)I" } : Jvm.MethodName) prog_18_method_40_code (3 : Nat) (Option.some Jvm.ClassFile.FieldType.int)) ∈ lw_all := lw_g (lw_at lw_m8 118 rfl) rfl
theorem q1933 : (Jvm.Cond.instanceMethod ({ cls := "HairRopeModel", name := "joins", desc := "(II)I" } : Jvm.MethodName)) ∈ lw_all := lw_g (lw_at lw_m8 120 rfl) rfl
theorem q1934 : (Jvm.Cond.selects "HairRopeModel" ({ cls := "HairRopeModel", name := "joins", desc := "(II)I" } : Jvm.MethodName) ({ cls := "HairRopeModel", name := "joins", desc := "(II)I" } : Jvm.MethodName)) ∈ lw_all := lw_g (lw_at lw_m8 121 rfl) rfl
theorem q1935 : (Jvm.Cond.code ({ cls := "HairRopeModel", name := "joins", desc := "(II)I" } : Jvm.MethodName) prog_18_method_70_code (3 : Nat) (Option.some Jvm.ClassFile.FieldType.int)) ∈ lw_all := lw_g (lw_at lw_m8 122 rfl) rfl
theorem q1936 : (Jvm.Cond.methodLink "HairRopeModel" (372 : Nat) ({ cls := "HairRopeModel", name := "joinsOf", desc := "(II)I" } : Jvm.MethodName)) ∈ lw_all := lw_g (lw_at lw_m8 123 rfl) rfl
theorem q1937 : (Jvm.Cond.privateMethod ({ cls := "HairRopeModel", name := "joinsOf", desc := "(II)I" } : Jvm.MethodName)) ∈ lw_tbl := lw_at lw_m8 124 rfl
theorem q1938 : (Jvm.Cond.instanceMethod ({ cls := "HairRopeModel", name := "joinsOf", desc := "(II)I" } : Jvm.MethodName)) ∈ lw_all := lw_g (lw_at lw_m8 125 rfl) rfl
theorem q1939 : (Jvm.Cond.code ({ cls := "HairRopeModel", name := "joinsOf", desc := "(II)I" } : Jvm.MethodName) prog_18_method_58_code (3 : Nat) (Option.some Jvm.ClassFile.FieldType.int)) ∈ lw_all := lw_g (lw_at lw_m8 126 rfl) rfl
theorem q1940 : (Jvm.Cond.methodLink "HairRopeModel" (366 : Nat) ({ cls := "HairRopeModel", name := "joinsBy", desc := "(III)I" } : Jvm.MethodName)) ∈ lw_all := lw_g (lw_at lw_m8 127 rfl) rfl
theorem q1941 : (Jvm.Cond.privateMethod ({ cls := "HairRopeModel", name := "joinsBy", desc := "(III)I" } : Jvm.MethodName)) ∈ lw_tbl := lw_at lw_m8 128 rfl
theorem q1942 : (Jvm.Cond.instanceMethod ({ cls := "HairRopeModel", name := "joinsBy", desc := "(III)I" } : Jvm.MethodName)) ∈ lw_all := lw_g (lw_at lw_m8 129 rfl) rfl
theorem q1943 : (Jvm.Cond.code ({ cls := "HairRopeModel", name := "joinsBy", desc := "(III)I" } : Jvm.MethodName) prog_18_method_57_code (4 : Nat) (Option.some Jvm.ClassFile.FieldType.int)) ∈ lw_all := lw_g (lw_at lw_m8 130 rfl) rfl
theorem q1945 : (Jvm.Cond.instanceMethod ({ cls := "HairRopeModel", name := "at", desc := "(I)I" } : Jvm.MethodName)) ∈ lw_all := lw_g (lw_at lw_m8 132 rfl) rfl
theorem q1946 : (Jvm.Cond.selects "HairRopeModel" ({ cls := "HairRopeModel", name := "at", desc := "(I)I" } : Jvm.MethodName) ({ cls := "HairRopeModel", name := "at", desc := "(I)I" } : Jvm.MethodName)) ∈ lw_all := lw_g (lw_at lw_m8 133 rfl) rfl
theorem q1947 : (Jvm.Cond.code ({ cls := "HairRopeModel", name := "at", desc := "(I)I" } : Jvm.MethodName) prog_18_method_71_code (2 : Nat) (Option.some Jvm.ClassFile.FieldType.int)) ∈ lw_all := lw_g (lw_at lw_m8 134 rfl) rfl
theorem q1949 : (Jvm.Cond.instanceMethod ({ cls := "HairRopeModel", name := "splice", desc := "(I)I" } : Jvm.MethodName)) ∈ lw_all := lw_g (lw_at lw_m8 136 rfl) rfl
theorem q1950 : (Jvm.Cond.selects "HairRopeModel" ({ cls := "HairRopeModel", name := "splice", desc := "(I)I" } : Jvm.MethodName) ({ cls := "HairRopeModel", name := "splice", desc := "(I)I" } : Jvm.MethodName)) ∈ lw_all := lw_g (lw_at lw_m8 137 rfl) rfl
theorem q1951 : (Jvm.Cond.code ({ cls := "HairRopeModel", name := "splice", desc := "(I)I" } : Jvm.MethodName) prog_18_method_73_code (2 : Nat) (Option.some Jvm.ClassFile.FieldType.int)) ∈ lw_all := lw_g (lw_at lw_m8 138 rfl) rfl
theorem q1952 : (Jvm.Cond.methodLink "HairRopeModel" (403 : Nat) ({ cls := "HairRopeModel", name := "records", desc := "()V" } : Jvm.MethodName)) ∈ lw_all := lw_g (lw_at lw_m8 139 rfl) rfl
theorem q1953 : (Jvm.Cond.privateMethod ({ cls := "HairRopeModel", name := "records", desc := "()V" } : Jvm.MethodName)) ∈ lw_tbl := lw_at lw_m8 140 rfl
theorem q1954 : (Jvm.Cond.instanceMethod ({ cls := "HairRopeModel", name := "records", desc := "()V" } : Jvm.MethodName)) ∈ lw_all := lw_g (lw_at lw_m8 141 rfl) rfl
theorem q1955 : (Jvm.Cond.code ({ cls := "HairRopeModel", name := "records", desc := "()V" } : Jvm.MethodName) prog_18_method_72_code (2 : Nat) (Option.none : Option Jvm.ClassFile.FieldType)) ∈ lw_all := lw_g (lw_at lw_m8 142 rfl) rfl
theorem q1956 : (Jvm.Cond.methodLink "HairRopeModel" (406 : Nat) ({ cls := "HairRopeModel", name := "ropeLong", desc := "()I" } : Jvm.MethodName)) ∈ lw_all := lw_g (lw_at lw_m8 143 rfl) rfl
theorem q1957 : (Jvm.Cond.privateMethod ({ cls := "HairRopeModel", name := "ropeLong", desc := "()I" } : Jvm.MethodName)) ∈ lw_tbl := lw_at lw_m8 144 rfl
theorem q1958 : (Jvm.Cond.instanceMethod ({ cls := "HairRopeModel", name := "ropeLong", desc := "()I" } : Jvm.MethodName)) ∈ lw_all := lw_g (lw_at lw_m8 145 rfl) rfl
theorem q1959 : (Jvm.Cond.code ({ cls := "HairRopeModel", name := "ropeLong", desc := "()I" } : Jvm.MethodName) prog_18_method_51_code (1 : Nat) (Option.some Jvm.ClassFile.FieldType.int)) ∈ lw_all := lw_g (lw_at lw_m8 146 rfl) rfl
theorem q1961 : (Jvm.Cond.instanceMethod ({ cls := "HairRopeModel", name := "unsplice", desc := "()I" } : Jvm.MethodName)) ∈ lw_all := lw_g (lw_at lw_m8 148 rfl) rfl
theorem q1962 : (Jvm.Cond.selects "HairRopeModel" ({ cls := "HairRopeModel", name := "unsplice", desc := "()I" } : Jvm.MethodName) ({ cls := "HairRopeModel", name := "unsplice", desc := "()I" } : Jvm.MethodName)) ∈ lw_all := lw_g (lw_at lw_m8 149 rfl) rfl
theorem q1963 : (Jvm.Cond.code ({ cls := "HairRopeModel", name := "unsplice", desc := "()I" } : Jvm.MethodName) prog_18_method_74_code (2 : Nat) (Option.some Jvm.ClassFile.FieldType.int)) ∈ lw_all := lw_g (lw_at lw_m8 150 rfl) rfl
theorem q1964 : (Jvm.Cond.methodLink "HairRopeModel" (409 : Nat) ({ cls := "HairRopeModel", name := "loses", desc := "(I)V" } : Jvm.MethodName)) ∈ lw_all := lw_g (lw_at lw_m8 151 rfl) rfl
theorem q1965 : (Jvm.Cond.privateMethod ({ cls := "HairRopeModel", name := "loses", desc := "(I)V" } : Jvm.MethodName)) ∈ lw_tbl := lw_at lw_m8 152 rfl
theorem q1966 : (Jvm.Cond.instanceMethod ({ cls := "HairRopeModel", name := "loses", desc := "(I)V" } : Jvm.MethodName)) ∈ lw_all := lw_g (lw_at lw_m8 153 rfl) rfl
theorem q1967 : (Jvm.Cond.code ({ cls := "HairRopeModel", name := "loses", desc := "(I)V" } : Jvm.MethodName) prog_18_method_63_code (3 : Nat) (Option.none : Option Jvm.ClassFile.FieldType)) ∈ lw_all := lw_g (lw_at lw_m8 154 rfl) rfl
theorem q1969 : (Jvm.Cond.instanceMethod ({ cls := "HairRopeModel", name := "haul", desc := "(I)I" } : Jvm.MethodName)) ∈ lw_all := lw_g (lw_at lw_m8 156 rfl) rfl
theorem q1970 : (Jvm.Cond.selects "HairRopeModel" ({ cls := "HairRopeModel", name := "haul", desc := "(I)I" } : Jvm.MethodName) ({ cls := "HairRopeModel", name := "haul", desc := "(I)I" } : Jvm.MethodName)) ∈ lw_all := lw_g (lw_at lw_m8 157 rfl) rfl
theorem q1971 : (Jvm.Cond.code ({ cls := "HairRopeModel", name := "haul", desc := "(I)I" } : Jvm.MethodName) prog_18_method_76_code (3 : Nat) (Option.some Jvm.ClassFile.FieldType.int)) ∈ lw_all := lw_g (lw_at lw_m8 158 rfl) rfl
theorem q1972 : (Jvm.Cond.methodLink "HairRopeModel" (412 : Nat) ({ cls := "HairRopeModel", name := "isWeight", desc := "(I)Z" } : Jvm.MethodName)) ∈ lw_all := lw_g (lw_at lw_m8 159 rfl) rfl
theorem q1973 : (Jvm.Cond.static ({ cls := "HairRopeModel", name := "isWeight", desc := "(I)Z" } : Jvm.MethodName)) ∈ lw_all := lw_g (lw_at lw_m8 160 rfl) rfl
theorem q1974 : (Jvm.Cond.code ({ cls := "HairRopeModel", name := "isWeight", desc := "(I)Z" } : Jvm.MethodName) prog_18_method_75_code (1 : Nat) (Option.some Jvm.ClassFile.FieldType.boolean)) ∈ lw_all := lw_g (lw_at lw_m8 161 rfl) rfl
theorem q1975 : (Jvm.Cond.methodLink "HairRopeModel" (415 : Nat) ({ cls := "HairRopeModel", name := "breaksAt", desc := "(I)I" } : Jvm.MethodName)) ∈ lw_all := lw_g (lw_at lw_m8 162 rfl) rfl
theorem q1976 : (Jvm.Cond.privateMethod ({ cls := "HairRopeModel", name := "breaksAt", desc := "(I)I" } : Jvm.MethodName)) ∈ lw_tbl := lw_at lw_m8 163 rfl
theorem q1977 : (Jvm.Cond.instanceMethod ({ cls := "HairRopeModel", name := "breaksAt", desc := "(I)I" } : Jvm.MethodName)) ∈ lw_all := lw_g (lw_at lw_m8 164 rfl) rfl
theorem q1978 : (Jvm.Cond.code ({ cls := "HairRopeModel", name := "breaksAt", desc := "(I)I" } : Jvm.MethodName) prog_18_method_62_code (3 : Nat) (Option.some Jvm.ClassFile.FieldType.int)) ∈ lw_all := lw_g (lw_at lw_m8 165 rfl) rfl
theorem q1979 : (Jvm.Cond.methodLink "HairRopeModel" (375 : Nat) ({ cls := "HairRopeModel", name := "spareAt", desc := "(I)I" } : Jvm.MethodName)) ∈ lw_all := lw_g (lw_at lw_m8 166 rfl) rfl
theorem q1980 : (Jvm.Cond.privateMethod ({ cls := "HairRopeModel", name := "spareAt", desc := "(I)I" } : Jvm.MethodName)) ∈ lw_tbl := lw_at lw_m8 167 rfl
theorem q1981 : (Jvm.Cond.instanceMethod ({ cls := "HairRopeModel", name := "spareAt", desc := "(I)I" } : Jvm.MethodName)) ∈ lw_all := lw_g (lw_at lw_m8 168 rfl) rfl
theorem q1982 : (Jvm.Cond.code ({ cls := "HairRopeModel", name := "spareAt", desc := "(I)I" } : Jvm.MethodName) prog_18_method_60_code (4 : Nat) (Option.some Jvm.ClassFile.FieldType.int)) ∈ lw_all := lw_g (lw_at lw_m8 169 rfl) rfl
theorem q1983 : (Jvm.Cond.methodLink "HairRopeModel" (369 : Nat) ({ cls := "HairRopeModel", name := "belowOf", desc := "(I)I" } : Jvm.MethodName)) ∈ lw_all := lw_g (lw_at lw_m8 170 rfl) rfl
theorem q1984 : (Jvm.Cond.privateMethod ({ cls := "HairRopeModel", name := "belowOf", desc := "(I)I" } : Jvm.MethodName)) ∈ lw_tbl := lw_at lw_m8 171 rfl
theorem q1985 : (Jvm.Cond.instanceMethod ({ cls := "HairRopeModel", name := "belowOf", desc := "(I)I" } : Jvm.MethodName)) ∈ lw_all := lw_g (lw_at lw_m8 172 rfl) rfl
theorem q1986 : (Jvm.Cond.code ({ cls := "HairRopeModel", name := "belowOf", desc := "(I)I" } : Jvm.MethodName) prog_18_method_59_code (4 : Nat) (Option.some Jvm.ClassFile.FieldType.int)) ∈ lw_all := lw_g (lw_at lw_m8 173 rfl) rfl
theorem q1988 : (Jvm.Cond.instanceMethod ({ cls := "HairRopeModel", name := "years", desc := "(I)I" } : Jvm.MethodName)) ∈ lw_all := lw_g (lw_at lw_m8 175 rfl) rfl
theorem q1989 : (Jvm.Cond.selects "HairRopeModel" ({ cls := "HairRopeModel", name := "years", desc := "(I)I" } : Jvm.MethodName) ({ cls := "HairRopeModel", name := "years", desc := "(I)I" } : Jvm.MethodName)) ∈ lw_all := lw_g (lw_at lw_m8 176 rfl) rfl
theorem q1990 : (Jvm.Cond.code ({ cls := "HairRopeModel", name := "years", desc := "(I)I" } : Jvm.MethodName) prog_18_method_78_code (2 : Nat) (Option.some Jvm.ClassFile.FieldType.int)) ∈ lw_all := lw_g (lw_at lw_m8 177 rfl) rfl
theorem q1991 : (Jvm.Cond.methodLink "HairRopeModel" (418 : Nat) ({ cls := "HairRopeModel", name := "isLong", desc := "(I)Z" } : Jvm.MethodName)) ∈ lw_all := lw_g (lw_at lw_m8 178 rfl) rfl
theorem q1992 : (Jvm.Cond.static ({ cls := "HairRopeModel", name := "isLong", desc := "(I)Z" } : Jvm.MethodName)) ∈ lw_all := lw_g (lw_at lw_m8 179 rfl) rfl
theorem q1993 : (Jvm.Cond.code ({ cls := "HairRopeModel", name := "isLong", desc := "(I)Z" } : Jvm.MethodName) prog_18_method_77_code (1 : Nat) (Option.some Jvm.ClassFile.FieldType.boolean)) ∈ lw_all := lw_g (lw_at lw_m8 180 rfl) rfl
theorem q1994 : (Jvm.Cond.methodLink "HairRopeModel" (421 : Nat) ({ cls := "HairRopeModel", name := "goes", desc := "(I)V" } : Jvm.MethodName)) ∈ lw_all := lw_g (lw_at lw_m8 181 rfl) rfl
theorem q1995 : (Jvm.Cond.privateMethod ({ cls := "HairRopeModel", name := "goes", desc := "(I)V" } : Jvm.MethodName)) ∈ lw_tbl := lw_at lw_m8 182 rfl
theorem q1996 : (Jvm.Cond.instanceMethod ({ cls := "HairRopeModel", name := "goes", desc := "(I)V" } : Jvm.MethodName)) ∈ lw_all := lw_g (lw_at lw_m8 183 rfl) rfl
theorem q1997 : (Jvm.Cond.code ({ cls := "HairRopeModel", name := "goes", desc := "(I)V" } : Jvm.MethodName) prog_18_method_66_code (3 : Nat) (Option.none : Option Jvm.ClassFile.FieldType)) ∈ lw_all := lw_g (lw_at lw_m8 184 rfl) rfl
theorem q1998 : (Jvm.Cond.methodLink "HairRopeModel" (390 : Nat) ({ cls := "HairRopeModel", name := "yearGoes", desc := "()V" } : Jvm.MethodName)) ∈ lw_all := lw_g (lw_at lw_m8 185 rfl) rfl
theorem q1999 : (Jvm.Cond.privateMethod ({ cls := "HairRopeModel", name := "yearGoes", desc := "()V" } : Jvm.MethodName)) ∈ lw_tbl := lw_at lw_m8 186 rfl
theorem q2000 : (Jvm.Cond.instanceMethod ({ cls := "HairRopeModel", name := "yearGoes", desc := "()V" } : Jvm.MethodName)) ∈ lw_all := lw_g (lw_at lw_m8 187 rfl) rfl
theorem q2001 : (Jvm.Cond.code ({ cls := "HairRopeModel", name := "yearGoes", desc := "()V" } : Jvm.MethodName) prog_18_method_65_code (2 : Nat) (Option.none : Option Jvm.ClassFile.FieldType)) ∈ lw_all := lw_g (lw_at lw_m8 188 rfl) rfl
theorem q2002 : (Jvm.Cond.methodLink "HairRopeModel" (387 : Nat) ({ cls := "HairRopeModel", name := "isBlighted", desc := "(I)Z" } : Jvm.MethodName)) ∈ lw_all := lw_g (lw_at lw_m8 189 rfl) rfl
theorem q2003 : (Jvm.Cond.privateMethod ({ cls := "HairRopeModel", name := "isBlighted", desc := "(I)Z" } : Jvm.MethodName)) ∈ lw_tbl := lw_at lw_m8 190 rfl
theorem q2004 : (Jvm.Cond.instanceMethod ({ cls := "HairRopeModel", name := "isBlighted", desc := "(I)Z" } : Jvm.MethodName)) ∈ lw_all := lw_g (lw_at lw_m8 191 rfl) rfl
theorem q2005 : (Jvm.Cond.code ({ cls := "HairRopeModel", name := "isBlighted", desc := "(I)Z" } : Jvm.MethodName) prog_18_method_64_code (2 : Nat) (Option.some Jvm.ClassFile.FieldType.boolean)) ∈ lw_all := lw_g (lw_at lw_m8 192 rfl) rfl
theorem q2006 : (Jvm.Cond.methodLink "HairRopeModel" (378 : Nat) ({ cls := "HairRopeModel", name := "lotOf", desc := "(I)I" } : Jvm.MethodName)) ∈ lw_all := lw_g (lw_at lw_m8 193 rfl) rfl
theorem q2007 : (Jvm.Cond.privateMethod ({ cls := "HairRopeModel", name := "lotOf", desc := "(I)I" } : Jvm.MethodName)) ∈ lw_tbl := lw_at lw_m8 194 rfl
theorem q2008 : (Jvm.Cond.instanceMethod ({ cls := "HairRopeModel", name := "lotOf", desc := "(I)I" } : Jvm.MethodName)) ∈ lw_all := lw_g (lw_at lw_m8 195 rfl) rfl
theorem q2009 : (Jvm.Cond.code ({ cls := "HairRopeModel", name := "lotOf", desc := "(I)I" } : Jvm.MethodName) prog_18_method_47_code (2 : Nat) (Option.some Jvm.ClassFile.FieldType.int)) ∈ lw_all := lw_g (lw_at lw_m8 196 rfl) rfl
theorem q2010 : (Jvm.Cond.methodLink "HairRopeModel" (336 : Nat) ({ cls := "HairRopeModel", name := "mixed", desc := "(II)I" } : Jvm.MethodName)) ∈ lw_all := lw_g (lw_at lw_m8 197 rfl) rfl
theorem q2011 : (Jvm.Cond.static ({ cls := "HairRopeModel", name := "mixed", desc := "(II)I" } : Jvm.MethodName)) ∈ lw_all := lw_g (lw_at lw_m8 198 rfl) rfl
theorem q2012 : (Jvm.Cond.code ({ cls := "HairRopeModel", name := "mixed", desc := "(II)I" } : Jvm.MethodName) prog_18_method_46_code (3 : Nat) (Option.some Jvm.ClassFile.FieldType.int)) ∈ lw_all := lw_g (lw_at lw_m8 199 rfl) rfl
theorem q2013 : (Jvm.Cond.constant "HairRopeModel" (335 : Nat) (1103515245 : Int32)) ∈ lw_all := lw_g (lw_at lw_m8 200 rfl) rfl
theorem q2015 : (Jvm.Cond.instanceMethod ({ cls := "HairRopeModel", name := "undo", desc := "()Z" } : Jvm.MethodName)) ∈ lw_all := lw_g (lw_at lw_m8 202 rfl) rfl
theorem q2016 : (Jvm.Cond.selects "HairRopeModel" ({ cls := "HairRopeModel", name := "undo", desc := "()Z" } : Jvm.MethodName) ({ cls := "HairRopeModel", name := "undo", desc := "()Z" } : Jvm.MethodName)) ∈ lw_all := lw_g (lw_at lw_m8 203 rfl) rfl
theorem q2017 : (Jvm.Cond.code ({ cls := "HairRopeModel", name := "undo", desc := "()Z" } : Jvm.MethodName) prog_18_method_79_code (2 : Nat) (Option.some Jvm.ClassFile.FieldType.boolean)) ∈ lw_all := lw_g (lw_at lw_m8 204 rfl) rfl
theorem q2019 : (Jvm.Cond.instanceMethod ({ cls := "HairRopeModel", name := "most", desc := "()I" } : Jvm.MethodName)) ∈ lw_all := lw_g (lw_at lw_m8 206 rfl) rfl
theorem q2020 : (Jvm.Cond.selects "HairRopeModel" ({ cls := "HairRopeModel", name := "most", desc := "()I" } : Jvm.MethodName) ({ cls := "HairRopeModel", name := "most", desc := "()I" } : Jvm.MethodName)) ∈ lw_all := lw_g (lw_at lw_m8 207 rfl) rfl
theorem q2021 : (Jvm.Cond.code ({ cls := "HairRopeModel", name := "most", desc := "()I" } : Jvm.MethodName) prog_18_method_81_code (1 : Nat) (Option.some Jvm.ClassFile.FieldType.int)) ∈ lw_all := lw_g (lw_at lw_m8 208 rfl) rfl
theorem q2022 : (Jvm.Cond.methodLink "HairRopeModel" (427 : Nat) ({ cls := "HairRopeModel", name := "mostOf", desc := "()I" } : Jvm.MethodName)) ∈ lw_all := lw_g (lw_at lw_m8 209 rfl) rfl
theorem q2023 : (Jvm.Cond.privateMethod ({ cls := "HairRopeModel", name := "mostOf", desc := "()I" } : Jvm.MethodName)) ∈ lw_tbl := lw_at lw_m8 210 rfl
theorem q2024 : (Jvm.Cond.instanceMethod ({ cls := "HairRopeModel", name := "mostOf", desc := "()I" } : Jvm.MethodName)) ∈ lw_all := lw_g (lw_at lw_m8 211 rfl) rfl
theorem q2025 : (Jvm.Cond.code ({ cls := "HairRopeModel", name := "mostOf", desc := "()I" } : Jvm.MethodName) prog_18_method_80_code (2 : Nat) (Option.some Jvm.ClassFile.FieldType.int)) ∈ lw_all := lw_g (lw_at lw_m8 212 rfl) rfl
theorem q2026 : (Jvm.Cond.methodLink "HairRopeModel" (424 : Nat) ({ cls := "HairRopeModel", name := "spareLeast", desc := "()I" } : Jvm.MethodName)) ∈ lw_all := lw_g (lw_at lw_m8 213 rfl) rfl
theorem q2027 : (Jvm.Cond.privateMethod ({ cls := "HairRopeModel", name := "spareLeast", desc := "()I" } : Jvm.MethodName)) ∈ lw_tbl := lw_at lw_m8 214 rfl
theorem q2028 : (Jvm.Cond.instanceMethod ({ cls := "HairRopeModel", name := "spareLeast", desc := "()I" } : Jvm.MethodName)) ∈ lw_all := lw_g (lw_at lw_m8 215 rfl) rfl
theorem q2029 : (Jvm.Cond.code ({ cls := "HairRopeModel", name := "spareLeast", desc := "()I" } : Jvm.MethodName) prog_18_method_61_code (3 : Nat) (Option.some Jvm.ClassFile.FieldType.int)) ∈ lw_all := lw_g (lw_at lw_m8 216 rfl) rfl
theorem q2031 : (Jvm.Cond.instanceMethod ({ cls := "HairRopeModel", name := "weakest", desc := "(I)I" } : Jvm.MethodName)) ∈ lw_all := lw_g (lw_at lw_m8 218 rfl) rfl
theorem q2032 : (Jvm.Cond.selects "HairRopeModel" ({ cls := "HairRopeModel", name := "weakest", desc := "(I)I" } : Jvm.MethodName) ({ cls := "HairRopeModel", name := "weakest", desc := "(I)I" } : Jvm.MethodName)) ∈ lw_all := lw_g (lw_at lw_m8 219 rfl) rfl
theorem q2033 : (Jvm.Cond.code ({ cls := "HairRopeModel", name := "weakest", desc := "(I)I" } : Jvm.MethodName) prog_18_method_82_code (3 : Nat) (Option.some Jvm.ClassFile.FieldType.int)) ∈ lw_all := lw_g (lw_at lw_m8 220 rfl) rfl
theorem q2035 : (Jvm.Cond.instanceMethod ({ cls := "HairRopeModel", name := "below", desc := "(I)I" } : Jvm.MethodName)) ∈ lw_all := lw_g (lw_at lw_m8 222 rfl) rfl
theorem q2036 : (Jvm.Cond.selects "HairRopeModel" ({ cls := "HairRopeModel", name := "below", desc := "(I)I" } : Jvm.MethodName) ({ cls := "HairRopeModel", name := "below", desc := "(I)I" } : Jvm.MethodName)) ∈ lw_all := lw_g (lw_at lw_m8 223 rfl) rfl
theorem q2037 : (Jvm.Cond.code ({ cls := "HairRopeModel", name := "below", desc := "(I)I" } : Jvm.MethodName) prog_18_method_83_code (2 : Nat) (Option.some Jvm.ClassFile.FieldType.int)) ∈ lw_all := lw_g (lw_at lw_m8 224 rfl) rfl
theorem q2039 : (Jvm.Cond.instanceMethod ({ cls := "HairRopeModel", name := "lasts", desc := "(I)I" } : Jvm.MethodName)) ∈ lw_all := lw_g (lw_at lw_m8 226 rfl) rfl
theorem q2040 : (Jvm.Cond.selects "HairRopeModel" ({ cls := "HairRopeModel", name := "lasts", desc := "(I)I" } : Jvm.MethodName) ({ cls := "HairRopeModel", name := "lasts", desc := "(I)I" } : Jvm.MethodName)) ∈ lw_all := lw_g (lw_at lw_m8 227 rfl) rfl
theorem q2041 : (Jvm.Cond.code ({ cls := "HairRopeModel", name := "lasts", desc := "(I)I" } : Jvm.MethodName) prog_18_method_84_code (3 : Nat) (Option.some Jvm.ClassFile.FieldType.int)) ∈ lw_all := lw_g (lw_at lw_m8 228 rfl) rfl
theorem q2042 : (Jvm.Cond.methodLink "HairRopeModel" (430 : Nat) ({ cls := "HairRopeModel", name := "copiesStill", desc := "()V" } : Jvm.MethodName)) ∈ lw_all := lw_g (lw_at lw_m8 229 rfl) rfl
theorem q2043 : (Jvm.Cond.privateMethod ({ cls := "HairRopeModel", name := "copiesStill", desc := "()V" } : Jvm.MethodName)) ∈ lw_tbl := lw_at lw_m8 230 rfl
theorem q2044 : (Jvm.Cond.instanceMethod ({ cls := "HairRopeModel", name := "copiesStill", desc := "()V" } : Jvm.MethodName)) ∈ lw_all := lw_g (lw_at lw_m8 231 rfl) rfl
theorem q2045 : (Jvm.Cond.code ({ cls := "HairRopeModel", name := "copiesStill", desc := "()V" } : Jvm.MethodName) prog_18_method_45_code (1 : Nat) (Option.none : Option Jvm.ClassFile.FieldType)) ∈ lw_all := lw_g (lw_at lw_m8 232 rfl) rfl
theorem q2047 : (Jvm.Cond.instanceMethod ({ cls := "HairRopeModel", name := "quarrel", desc := "(I)I" } : Jvm.MethodName)) ∈ lw_all := lw_g (lw_at lw_m8 234 rfl) rfl
theorem q2048 : (Jvm.Cond.selects "HairRopeModel" ({ cls := "HairRopeModel", name := "quarrel", desc := "(I)I" } : Jvm.MethodName) ({ cls := "HairRopeModel", name := "quarrel", desc := "(I)I" } : Jvm.MethodName)) ∈ lw_all := lw_g (lw_at lw_m8 235 rfl) rfl
theorem q2049 : (Jvm.Cond.code ({ cls := "HairRopeModel", name := "quarrel", desc := "(I)I" } : Jvm.MethodName) prog_18_method_85_code (6 : Nat) (Option.some Jvm.ClassFile.FieldType.int)) ∈ lw_all := lw_g (lw_at lw_m8 236 rfl) rfl
theorem q2051 : (Jvm.Cond.instanceMethod ({ cls := "HairRopeModel", name := "greyest", desc := "(I)I" } : Jvm.MethodName)) ∈ lw_all := lw_g (lw_at lw_m8 238 rfl) rfl
theorem q2052 : (Jvm.Cond.selects "HairRopeModel" ({ cls := "HairRopeModel", name := "greyest", desc := "(I)I" } : Jvm.MethodName) ({ cls := "HairRopeModel", name := "greyest", desc := "(I)I" } : Jvm.MethodName)) ∈ lw_all := lw_g (lw_at lw_m8 239 rfl) rfl
theorem q2053 : (Jvm.Cond.code ({ cls := "HairRopeModel", name := "greyest", desc := "(I)I" } : Jvm.MethodName) prog_18_method_86_code (4 : Nat) (Option.some Jvm.ClassFile.FieldType.int)) ∈ lw_all := lw_g (lw_at lw_m9 0 rfl) rfl
theorem q2055 : (Jvm.Cond.instanceMethod ({ cls := "HairRopeModel", name := "share", desc := "(I)I" } : Jvm.MethodName)) ∈ lw_all := lw_g (lw_at lw_m9 2 rfl) rfl
theorem q2056 : (Jvm.Cond.selects "HairRopeModel" ({ cls := "HairRopeModel", name := "share", desc := "(I)I" } : Jvm.MethodName) ({ cls := "HairRopeModel", name := "share", desc := "(I)I" } : Jvm.MethodName)) ∈ lw_all := lw_g (lw_at lw_m9 3 rfl) rfl
theorem q2057 : (Jvm.Cond.code ({ cls := "HairRopeModel", name := "share", desc := "(I)I" } : Jvm.MethodName) prog_18_method_87_code (2 : Nat) (Option.some Jvm.ClassFile.FieldType.int)) ∈ lw_all := lw_g (lw_at lw_m9 4 rfl) rfl
theorem q2059 : (Jvm.Cond.instanceMethod ({ cls := "HairRopeModel", name := "swap", desc := "()I" } : Jvm.MethodName)) ∈ lw_all := lw_g (lw_at lw_m9 6 rfl) rfl
theorem q2060 : (Jvm.Cond.selects "HairRopeModel" ({ cls := "HairRopeModel", name := "swap", desc := "()I" } : Jvm.MethodName) ({ cls := "HairRopeModel", name := "swap", desc := "()I" } : Jvm.MethodName)) ∈ lw_all := lw_g (lw_at lw_m9 7 rfl) rfl
theorem q2061 : (Jvm.Cond.code ({ cls := "HairRopeModel", name := "swap", desc := "()I" } : Jvm.MethodName) prog_18_method_88_code (5 : Nat) (Option.some Jvm.ClassFile.FieldType.int)) ∈ lw_all := lw_g (lw_at lw_m9 8 rfl) rfl
theorem q2063 : (Jvm.Cond.instanceMethod ({ cls := "HairRopeModel", name := "orders", desc := "(I)I" } : Jvm.MethodName)) ∈ lw_all := lw_g (lw_at lw_m9 10 rfl) rfl
theorem q2064 : (Jvm.Cond.selects "HairRopeModel" ({ cls := "HairRopeModel", name := "orders", desc := "(I)I" } : Jvm.MethodName) ({ cls := "HairRopeModel", name := "orders", desc := "(I)I" } : Jvm.MethodName)) ∈ lw_all := lw_g (lw_at lw_m9 11 rfl) rfl
theorem q2065 : (Jvm.Cond.code ({ cls := "HairRopeModel", name := "orders", desc := "(I)I" } : Jvm.MethodName) prog_18_method_94_code (3 : Nat) (Option.some Jvm.ClassFile.FieldType.int)) ∈ lw_all := lw_g (lw_at lw_m9 12 rfl) rfl
theorem q2066 : (Jvm.Cond.methodLink "HairRopeModel" (442 : Nat) ({ cls := "HairRopeModel", name := "fillsPlans", desc := "()V" } : Jvm.MethodName)) ∈ lw_all := lw_g (lw_at lw_m9 13 rfl) rfl
theorem q2067 : (Jvm.Cond.privateMethod ({ cls := "HairRopeModel", name := "fillsPlans", desc := "()V" } : Jvm.MethodName)) ∈ lw_tbl := lw_at lw_m9 14 rfl
theorem q2068 : (Jvm.Cond.instanceMethod ({ cls := "HairRopeModel", name := "fillsPlans", desc := "()V" } : Jvm.MethodName)) ∈ lw_all := lw_g (lw_at lw_m9 15 rfl) rfl
theorem q2069 : (Jvm.Cond.code ({ cls := "HairRopeModel", name := "fillsPlans", desc := "()V" } : Jvm.MethodName) prog_18_method_89_code (2 : Nat) (Option.none : Option Jvm.ClassFile.FieldType)) ∈ lw_all := lw_g (lw_at lw_m9 16 rfl) rfl
theorem q2070 : (Jvm.Cond.methodLink "HairRopeModel" (445 : Nat) ({ cls := "HairRopeModel", name := "goesToNext", desc := "()Z" } : Jvm.MethodName)) ∈ lw_all := lw_g (lw_at lw_m9 17 rfl) rfl
theorem q2071 : (Jvm.Cond.privateMethod ({ cls := "HairRopeModel", name := "goesToNext", desc := "()Z" } : Jvm.MethodName)) ∈ lw_tbl := lw_at lw_m9 18 rfl
theorem q2072 : (Jvm.Cond.instanceMethod ({ cls := "HairRopeModel", name := "goesToNext", desc := "()Z" } : Jvm.MethodName)) ∈ lw_all := lw_g (lw_at lw_m9 19 rfl) rfl
theorem q2073 : (Jvm.Cond.code ({ cls := "HairRopeModel", name := "goesToNext", desc := "()Z" } : Jvm.MethodName) prog_18_method_92_code (2 : Nat) (Option.some Jvm.ClassFile.FieldType.boolean)) ∈ lw_all := lw_g (lw_at lw_m9 20 rfl) rfl
theorem q2074 : (Jvm.Cond.methodLink "HairRopeModel" (439 : Nat) ({ cls := "HairRopeModel", name := "nextFrom", desc := "(I)I" } : Jvm.MethodName)) ∈ lw_all := lw_g (lw_at lw_m9 21 rfl) rfl
theorem q2075 : (Jvm.Cond.privateMethod ({ cls := "HairRopeModel", name := "nextFrom", desc := "(I)I" } : Jvm.MethodName)) ∈ lw_tbl := lw_at lw_m9 22 rfl
theorem q2076 : (Jvm.Cond.instanceMethod ({ cls := "HairRopeModel", name := "nextFrom", desc := "(I)I" } : Jvm.MethodName)) ∈ lw_all := lw_g (lw_at lw_m9 23 rfl) rfl
theorem q2077 : (Jvm.Cond.code ({ cls := "HairRopeModel", name := "nextFrom", desc := "(I)I" } : Jvm.MethodName) prog_18_method_91_code (3 : Nat) (Option.some Jvm.ClassFile.FieldType.int)) ∈ lw_all := lw_g (lw_at lw_m9 24 rfl) rfl
theorem q2078 : (Jvm.Cond.methodLink "HairRopeModel" (436 : Nat) ({ cls := "HairRopeModel", name := "isIn", desc := "(I)Z" } : Jvm.MethodName)) ∈ lw_all := lw_g (lw_at lw_m9 25 rfl) rfl
theorem q2079 : (Jvm.Cond.privateMethod ({ cls := "HairRopeModel", name := "isIn", desc := "(I)Z" } : Jvm.MethodName)) ∈ lw_tbl := lw_at lw_m9 26 rfl
theorem q2080 : (Jvm.Cond.instanceMethod ({ cls := "HairRopeModel", name := "isIn", desc := "(I)Z" } : Jvm.MethodName)) ∈ lw_all := lw_g (lw_at lw_m9 27 rfl) rfl
theorem q2081 : (Jvm.Cond.code ({ cls := "HairRopeModel", name := "isIn", desc := "(I)Z" } : Jvm.MethodName) prog_18_method_90_code (3 : Nat) (Option.some Jvm.ClassFile.FieldType.boolean)) ∈ lw_all := lw_g (lw_at lw_m9 28 rfl) rfl
theorem q2082 : (Jvm.Cond.methodLink "HairRopeModel" (449 : Nat) ({ cls := "HairRopeModel", name := "orderSpare", desc := "()I" } : Jvm.MethodName)) ∈ lw_all := lw_g (lw_at lw_m9 29 rfl) rfl
theorem q2083 : (Jvm.Cond.privateMethod ({ cls := "HairRopeModel", name := "orderSpare", desc := "()I" } : Jvm.MethodName)) ∈ lw_tbl := lw_at lw_m9 30 rfl
theorem q2084 : (Jvm.Cond.instanceMethod ({ cls := "HairRopeModel", name := "orderSpare", desc := "()I" } : Jvm.MethodName)) ∈ lw_all := lw_g (lw_at lw_m9 31 rfl) rfl
theorem q2085 : (Jvm.Cond.code ({ cls := "HairRopeModel", name := "orderSpare", desc := "()I" } : Jvm.MethodName) prog_18_method_93_code (5 : Nat) (Option.some Jvm.ClassFile.FieldType.int)) ∈ lw_all := lw_g (lw_at lw_m9 32 rfl) rfl
theorem q2087 : (Jvm.Cond.instanceMethod ({ cls := "HairRopeModel", name := "peak", desc := "()I" } : Jvm.MethodName)) ∈ lw_all := lw_g (lw_at lw_m9 34 rfl) rfl
theorem q2088 : (Jvm.Cond.selects "HairRopeModel" ({ cls := "HairRopeModel", name := "peak", desc := "()I" } : Jvm.MethodName) ({ cls := "HairRopeModel", name := "peak", desc := "()I" } : Jvm.MethodName)) ∈ lw_all := lw_g (lw_at lw_m9 35 rfl) rfl
theorem q2089 : (Jvm.Cond.code ({ cls := "HairRopeModel", name := "peak", desc := "()I" } : Jvm.MethodName) prog_18_method_96_code (1 : Nat) (Option.some Jvm.ClassFile.FieldType.int)) ∈ lw_all := lw_g (lw_at lw_m9 36 rfl) rfl
theorem q2090 : (Jvm.Cond.methodLink "HairRopeModel" (452 : Nat) ({ cls := "HairRopeModel", name := "peakOf", desc := "()I" } : Jvm.MethodName)) ∈ lw_all := lw_g (lw_at lw_m9 37 rfl) rfl
theorem q2091 : (Jvm.Cond.privateMethod ({ cls := "HairRopeModel", name := "peakOf", desc := "()I" } : Jvm.MethodName)) ∈ lw_tbl := lw_at lw_m9 38 rfl
theorem q2092 : (Jvm.Cond.instanceMethod ({ cls := "HairRopeModel", name := "peakOf", desc := "()I" } : Jvm.MethodName)) ∈ lw_all := lw_g (lw_at lw_m9 39 rfl) rfl
theorem q2093 : (Jvm.Cond.code ({ cls := "HairRopeModel", name := "peakOf", desc := "()I" } : Jvm.MethodName) prog_18_method_95_code (3 : Nat) (Option.some Jvm.ClassFile.FieldType.int)) ∈ lw_all := lw_g (lw_at lw_m9 40 rfl) rfl
theorem q2095 : (Jvm.Cond.instanceMethod ({ cls := "HairRopeModel", name := "fewest", desc := "(II)I" } : Jvm.MethodName)) ∈ lw_all := lw_g (lw_at lw_m9 42 rfl) rfl
theorem q2096 : (Jvm.Cond.selects "HairRopeModel" ({ cls := "HairRopeModel", name := "fewest", desc := "(II)I" } : Jvm.MethodName) ({ cls := "HairRopeModel", name := "fewest", desc := "(II)I" } : Jvm.MethodName)) ∈ lw_all := lw_g (lw_at lw_m9 43 rfl) rfl
theorem q2097 : (Jvm.Cond.code ({ cls := "HairRopeModel", name := "fewest", desc := "(II)I" } : Jvm.MethodName) prog_18_method_98_code (4 : Nat) (Option.some Jvm.ClassFile.FieldType.int)) ∈ lw_all := lw_g (lw_at lw_m9 44 rfl) rfl
theorem q2098 : (Jvm.Cond.methodLink "HairRopeModel" (455 : Nat) ({ cls := "HairRopeModel", name := "fewestOf", desc := "(I)I" } : Jvm.MethodName)) ∈ lw_all := lw_g (lw_at lw_m9 45 rfl) rfl
theorem q2099 : (Jvm.Cond.privateMethod ({ cls := "HairRopeModel", name := "fewestOf", desc := "(I)I" } : Jvm.MethodName)) ∈ lw_tbl := lw_at lw_m9 46 rfl
theorem q2100 : (Jvm.Cond.instanceMethod ({ cls := "HairRopeModel", name := "fewestOf", desc := "(I)I" } : Jvm.MethodName)) ∈ lw_all := lw_g (lw_at lw_m9 47 rfl) rfl
theorem q2101 : (Jvm.Cond.code ({ cls := "HairRopeModel", name := "fewestOf", desc := "(I)I" } : Jvm.MethodName) prog_18_method_97_code (4 : Nat) (Option.some Jvm.ClassFile.FieldType.int)) ∈ lw_all := lw_g (lw_at lw_m9 48 rfl) rfl
theorem q2103 : (Jvm.Cond.instanceMethod ({ cls := "HairRopeModel", name := "needed", desc := "(I)I" } : Jvm.MethodName)) ∈ lw_all := lw_g (lw_at lw_m9 50 rfl) rfl
theorem q2104 : (Jvm.Cond.selects "HairRopeModel" ({ cls := "HairRopeModel", name := "needed", desc := "(I)I" } : Jvm.MethodName) ({ cls := "HairRopeModel", name := "needed", desc := "(I)I" } : Jvm.MethodName)) ∈ lw_all := lw_g (lw_at lw_m9 51 rfl) rfl
theorem q2105 : (Jvm.Cond.code ({ cls := "HairRopeModel", name := "needed", desc := "(I)I" } : Jvm.MethodName) prog_18_method_99_code (5 : Nat) (Option.some Jvm.ClassFile.FieldType.int)) ∈ lw_all := lw_g (lw_at lw_m9 52 rfl) rfl
theorem q2107 : (Jvm.Cond.instanceMethod ({ cls := "HairRopeModel", name := "soon", desc := "(I)I" } : Jvm.MethodName)) ∈ lw_all := lw_g (lw_at lw_m9 54 rfl) rfl
theorem q2108 : (Jvm.Cond.selects "HairRopeModel" ({ cls := "HairRopeModel", name := "soon", desc := "(I)I" } : Jvm.MethodName) ({ cls := "HairRopeModel", name := "soon", desc := "(I)I" } : Jvm.MethodName)) ∈ lw_all := lw_g (lw_at lw_m9 55 rfl) rfl
theorem q2109 : (Jvm.Cond.code ({ cls := "HairRopeModel", name := "soon", desc := "(I)I" } : Jvm.MethodName) prog_18_method_100_code (3 : Nat) (Option.some Jvm.ClassFile.FieldType.int)) ∈ lw_all := lw_g (lw_at lw_m9 56 rfl) rfl
theorem q2111 : (Jvm.Cond.instanceMethod ({ cls := "HairRopeModel", name := "peace", desc := "(II)I" } : Jvm.MethodName)) ∈ lw_all := lw_g (lw_at lw_m9 58 rfl) rfl
theorem q2112 : (Jvm.Cond.selects "HairRopeModel" ({ cls := "HairRopeModel", name := "peace", desc := "(II)I" } : Jvm.MethodName) ({ cls := "HairRopeModel", name := "peace", desc := "(II)I" } : Jvm.MethodName)) ∈ lw_all := lw_g (lw_at lw_m9 59 rfl) rfl
theorem q2113 : (Jvm.Cond.code ({ cls := "HairRopeModel", name := "peace", desc := "(II)I" } : Jvm.MethodName) prog_18_method_104_code (5 : Nat) (Option.some Jvm.ClassFile.FieldType.int)) ∈ lw_all := lw_g (lw_at lw_m9 60 rfl) rfl
theorem q2114 : (Jvm.Cond.methodLink "HairRopeModel" (461 : Nat) ({ cls := "HairRopeModel", name := "isPeace", desc := "(III)Z" } : Jvm.MethodName)) ∈ lw_all := lw_g (lw_at lw_m9 61 rfl) rfl
theorem q2115 : (Jvm.Cond.privateMethod ({ cls := "HairRopeModel", name := "isPeace", desc := "(III)Z" } : Jvm.MethodName)) ∈ lw_tbl := lw_at lw_m9 62 rfl
theorem q2116 : (Jvm.Cond.instanceMethod ({ cls := "HairRopeModel", name := "isPeace", desc := "(III)Z" } : Jvm.MethodName)) ∈ lw_all := lw_g (lw_at lw_m9 63 rfl) rfl
theorem q2117 : (Jvm.Cond.code ({ cls := "HairRopeModel", name := "isPeace", desc := "(III)Z" } : Jvm.MethodName) prog_18_method_102_code (5 : Nat) (Option.some Jvm.ClassFile.FieldType.boolean)) ∈ lw_all := lw_g (lw_at lw_m9 64 rfl) rfl
theorem q2118 : (Jvm.Cond.methodLink "HairRopeModel" (458 : Nat) ({ cls := "HairRopeModel", name := "likesMost", desc := "(I)V" } : Jvm.MethodName)) ∈ lw_all := lw_g (lw_at lw_m9 65 rfl) rfl
theorem q2119 : (Jvm.Cond.privateMethod ({ cls := "HairRopeModel", name := "likesMost", desc := "(I)V" } : Jvm.MethodName)) ∈ lw_tbl := lw_at lw_m9 66 rfl
theorem q2120 : (Jvm.Cond.instanceMethod ({ cls := "HairRopeModel", name := "likesMost", desc := "(I)V" } : Jvm.MethodName)) ∈ lw_all := lw_g (lw_at lw_m9 67 rfl) rfl
theorem q2121 : (Jvm.Cond.code ({ cls := "HairRopeModel", name := "likesMost", desc := "(I)V" } : Jvm.MethodName) prog_18_method_101_code (4 : Nat) (Option.none : Option Jvm.ClassFile.FieldType)) ∈ lw_all := lw_g (lw_at lw_m9 68 rfl) rfl
theorem q2122 : (Jvm.Cond.methodLink "HairRopeModel" (464 : Nat) ({ cls := "HairRopeModel", name := "isPair", desc := "(I)Z" } : Jvm.MethodName)) ∈ lw_all := lw_g (lw_at lw_m9 69 rfl) rfl
theorem q2123 : (Jvm.Cond.privateMethod ({ cls := "HairRopeModel", name := "isPair", desc := "(I)Z" } : Jvm.MethodName)) ∈ lw_tbl := lw_at lw_m9 70 rfl
theorem q2124 : (Jvm.Cond.instanceMethod ({ cls := "HairRopeModel", name := "isPair", desc := "(I)Z" } : Jvm.MethodName)) ∈ lw_all := lw_g (lw_at lw_m9 71 rfl) rfl
theorem q2125 : (Jvm.Cond.code ({ cls := "HairRopeModel", name := "isPair", desc := "(I)Z" } : Jvm.MethodName) prog_18_method_103_code (2 : Nat) (Option.some Jvm.ClassFile.FieldType.boolean)) ∈ lw_all := lw_g (lw_at lw_m9 72 rfl) rfl
theorem q2127 : (Jvm.Cond.instanceMethod ({ cls := "HairRopeModel", name := "rests", desc := "(I)I" } : Jvm.MethodName)) ∈ lw_all := lw_g (lw_at lw_m9 74 rfl) rfl
theorem q2128 : (Jvm.Cond.selects "HairRopeModel" ({ cls := "HairRopeModel", name := "rests", desc := "(I)I" } : Jvm.MethodName) ({ cls := "HairRopeModel", name := "rests", desc := "(I)I" } : Jvm.MethodName)) ∈ lw_all := lw_g (lw_at lw_m9 75 rfl) rfl
theorem q2129 : (Jvm.Cond.code ({ cls := "HairRopeModel", name := "rests", desc := "(I)I" } : Jvm.MethodName) prog_18_method_110_code (5 : Nat) (Option.some Jvm.ClassFile.FieldType.int)) ∈ lw_all := lw_g (lw_at lw_m9 76 rfl) rfl
theorem q2130 : (Jvm.Cond.methodLink "HairRopeModel" (473 : Nat) ({ cls := "HairRopeModel", name := "givesBits", desc := "()I" } : Jvm.MethodName)) ∈ lw_all := lw_g (lw_at lw_m9 77 rfl) rfl
theorem q2131 : (Jvm.Cond.privateMethod ({ cls := "HairRopeModel", name := "givesBits", desc := "()I" } : Jvm.MethodName)) ∈ lw_tbl := lw_at lw_m9 78 rfl
theorem q2132 : (Jvm.Cond.instanceMethod ({ cls := "HairRopeModel", name := "givesBits", desc := "()I" } : Jvm.MethodName)) ∈ lw_all := lw_g (lw_at lw_m9 79 rfl) rfl
theorem q2133 : (Jvm.Cond.code ({ cls := "HairRopeModel", name := "givesBits", desc := "()I" } : Jvm.MethodName) prog_18_method_105_code (3 : Nat) (Option.some Jvm.ClassFile.FieldType.int)) ∈ lw_all := lw_g (lw_at lw_m9 80 rfl) rfl
theorem q2134 : (Jvm.Cond.methodLink "HairRopeModel" (479 : Nat) ({ cls := "HairRopeModel", name := "isRest", desc := "(I)Z" } : Jvm.MethodName)) ∈ lw_all := lw_g (lw_at lw_m9 81 rfl) rfl
theorem q2135 : (Jvm.Cond.privateMethod ({ cls := "HairRopeModel", name := "isRest", desc := "(I)Z" } : Jvm.MethodName)) ∈ lw_tbl := lw_at lw_m9 82 rfl
theorem q2136 : (Jvm.Cond.instanceMethod ({ cls := "HairRopeModel", name := "isRest", desc := "(I)Z" } : Jvm.MethodName)) ∈ lw_all := lw_g (lw_at lw_m9 83 rfl) rfl
theorem q2137 : (Jvm.Cond.code ({ cls := "HairRopeModel", name := "isRest", desc := "(I)Z" } : Jvm.MethodName) prog_18_method_109_code (4 : Nat) (Option.some Jvm.ClassFile.FieldType.boolean)) ∈ lw_all := lw_g (lw_at lw_m9 84 rfl) rfl
theorem q2138 : (Jvm.Cond.methodLink "HairRopeModel" (476 : Nat) ({ cls := "HairRopeModel", name := "hasOf", desc := "(II)I" } : Jvm.MethodName)) ∈ lw_all := lw_g (lw_at lw_m9 85 rfl) rfl
theorem q2139 : (Jvm.Cond.privateMethod ({ cls := "HairRopeModel", name := "hasOf", desc := "(II)I" } : Jvm.MethodName)) ∈ lw_tbl := lw_at lw_m9 86 rfl
theorem q2140 : (Jvm.Cond.instanceMethod ({ cls := "HairRopeModel", name := "hasOf", desc := "(II)I" } : Jvm.MethodName)) ∈ lw_all := lw_g (lw_at lw_m9 87 rfl) rfl
theorem q2141 : (Jvm.Cond.code ({ cls := "HairRopeModel", name := "hasOf", desc := "(II)I" } : Jvm.MethodName) prog_18_method_108_code (3 : Nat) (Option.some Jvm.ClassFile.FieldType.int)) ∈ lw_all := lw_g (lw_at lw_m9 88 rfl) rfl
theorem q2142 : (Jvm.Cond.methodLink "HairRopeModel" (467 : Nat) ({ cls := "HairRopeModel", name := "isEnough", desc := "(I)Z" } : Jvm.MethodName)) ∈ lw_all := lw_g (lw_at lw_m9 89 rfl) rfl
theorem q2143 : (Jvm.Cond.privateMethod ({ cls := "HairRopeModel", name := "isEnough", desc := "(I)Z" } : Jvm.MethodName)) ∈ lw_tbl := lw_at lw_m9 90 rfl
theorem q2144 : (Jvm.Cond.instanceMethod ({ cls := "HairRopeModel", name := "isEnough", desc := "(I)Z" } : Jvm.MethodName)) ∈ lw_all := lw_g (lw_at lw_m9 91 rfl) rfl
theorem q2145 : (Jvm.Cond.code ({ cls := "HairRopeModel", name := "isEnough", desc := "(I)Z" } : Jvm.MethodName) prog_18_method_106_code (4 : Nat) (Option.some Jvm.ClassFile.FieldType.boolean)) ∈ lw_all := lw_g (lw_at lw_m9 92 rfl) rfl
theorem q2146 : (Jvm.Cond.methodLink "HairRopeModel" (470 : Nat) ({ cls := "HairRopeModel", name := "givesCost", desc := "(I)I" } : Jvm.MethodName)) ∈ lw_all := lw_g (lw_at lw_m9 93 rfl) rfl
theorem q2147 : (Jvm.Cond.privateMethod ({ cls := "HairRopeModel", name := "givesCost", desc := "(I)I" } : Jvm.MethodName)) ∈ lw_tbl := lw_at lw_m9 94 rfl
theorem q2148 : (Jvm.Cond.instanceMethod ({ cls := "HairRopeModel", name := "givesCost", desc := "(I)I" } : Jvm.MethodName)) ∈ lw_all := lw_g (lw_at lw_m9 95 rfl) rfl
theorem q2149 : (Jvm.Cond.code ({ cls := "HairRopeModel", name := "givesCost", desc := "(I)I" } : Jvm.MethodName) prog_18_method_107_code (2 : Nat) (Option.some Jvm.ClassFile.FieldType.int)) ∈ lw_all := lw_g (lw_at lw_m9 96 rfl) rfl
theorem q2150 : (Jvm.Cond.methodLink "HairRopeModel" (482 : Nat) ({ cls := "HairRopeModel", name := "bits", desc := "(I)I" } : Jvm.MethodName)) ∈ lw_all := lw_g (lw_at lw_m9 97 rfl) rfl
theorem q2151 : (Jvm.Cond.static ({ cls := "HairRopeModel", name := "bits", desc := "(I)I" } : Jvm.MethodName)) ∈ lw_all := lw_g (lw_at lw_m9 98 rfl) rfl
theorem q2152 : (Jvm.Cond.code ({ cls := "HairRopeModel", name := "bits", desc := "(I)I" } : Jvm.MethodName) prog_18_method_38_code (3 : Nat) (Option.some Jvm.ClassFile.FieldType.int)) ∈ lw_all := lw_g (lw_at lw_m9 99 rfl) rfl
theorem q2154 : (Jvm.Cond.instanceMethod ({ cls := "HairRopeModel", name := "pivots", desc := "()I" } : Jvm.MethodName)) ∈ lw_all := lw_g (lw_at lw_m9 101 rfl) rfl
theorem q2155 : (Jvm.Cond.selects "HairRopeModel" ({ cls := "HairRopeModel", name := "pivots", desc := "()I" } : Jvm.MethodName) ({ cls := "HairRopeModel", name := "pivots", desc := "()I" } : Jvm.MethodName)) ∈ lw_all := lw_g (lw_at lw_m9 102 rfl) rfl
theorem q2156 : (Jvm.Cond.code ({ cls := "HairRopeModel", name := "pivots", desc := "()I" } : Jvm.MethodName) prog_18_method_111_code (3 : Nat) (Option.some Jvm.ClassFile.FieldType.int)) ∈ lw_all := lw_g (lw_at lw_m9 103 rfl) rfl
theorem q2158 : (Jvm.Cond.instanceMethod ({ cls := "HairRopeModel", name := "harvest", desc := "(III)I" } : Jvm.MethodName)) ∈ lw_all := lw_g (lw_at lw_m9 105 rfl) rfl
theorem q2159 : (Jvm.Cond.selects "HairRopeModel" ({ cls := "HairRopeModel", name := "harvest", desc := "(III)I" } : Jvm.MethodName) ({ cls := "HairRopeModel", name := "harvest", desc := "(III)I" } : Jvm.MethodName)) ∈ lw_all := lw_g (lw_at lw_m9 106 rfl) rfl
theorem q2160 : (Jvm.Cond.code ({ cls := "HairRopeModel", name := "harvest", desc := "(III)I" } : Jvm.MethodName) prog_18_method_113_code (8 : Nat) (Option.some Jvm.ClassFile.FieldType.int)) ∈ lw_all := lw_g (lw_at lw_m9 107 rfl) rfl
theorem q2161 : (Jvm.Cond.methodLink "HairRopeModel" (485 : Nat) ({ cls := "HairRopeModel", name := "harvestOf", desc := "(III)I" } : Jvm.MethodName)) ∈ lw_all := lw_g (lw_at lw_m9 108 rfl) rfl
theorem q2162 : (Jvm.Cond.privateMethod ({ cls := "HairRopeModel", name := "harvestOf", desc := "(III)I" } : Jvm.MethodName)) ∈ lw_tbl := lw_at lw_m9 109 rfl
theorem q2163 : (Jvm.Cond.instanceMethod ({ cls := "HairRopeModel", name := "harvestOf", desc := "(III)I" } : Jvm.MethodName)) ∈ lw_all := lw_g (lw_at lw_m9 110 rfl) rfl
theorem q2164 : (Jvm.Cond.code ({ cls := "HairRopeModel", name := "harvestOf", desc := "(III)I" } : Jvm.MethodName) prog_18_method_112_code (6 : Nat) (Option.some Jvm.ClassFile.FieldType.int)) ∈ lw_all := lw_g (lw_at lw_m9 111 rfl) rfl
theorem q2166 : (Jvm.Cond.instanceMethod ({ cls := "HairRopeModel", name := "then", desc := "(III)I" } : Jvm.MethodName)) ∈ lw_all := lw_g (lw_at lw_m9 113 rfl) rfl
theorem q2167 : (Jvm.Cond.selects "HairRopeModel" ({ cls := "HairRopeModel", name := "then", desc := "(III)I" } : Jvm.MethodName) ({ cls := "HairRopeModel", name := "then", desc := "(III)I" } : Jvm.MethodName)) ∈ lw_all := lw_g (lw_at lw_m9 114 rfl) rfl
theorem q2168 : (Jvm.Cond.code ({ cls := "HairRopeModel", name := "then", desc := "(III)I" } : Jvm.MethodName) prog_18_method_114_code (4 : Nat) (Option.some Jvm.ClassFile.FieldType.int)) ∈ lw_all := lw_g (lw_at lw_m9 115 rfl) rfl
theorem q2170 : (Jvm.Cond.instanceMethod ({ cls := "HairRopeModel", name := "year", desc := "(IIII)I" } : Jvm.MethodName)) ∈ lw_all := lw_g (lw_at lw_m9 117 rfl) rfl
theorem q2171 : (Jvm.Cond.selects "HairRopeModel" ({ cls := "HairRopeModel", name := "year", desc := "(IIII)I" } : Jvm.MethodName) ({ cls := "HairRopeModel", name := "year", desc := "(IIII)I" } : Jvm.MethodName)) ∈ lw_all := lw_g (lw_at lw_m9 118 rfl) rfl
theorem q2172 : (Jvm.Cond.code ({ cls := "HairRopeModel", name := "year", desc := "(IIII)I" } : Jvm.MethodName) prog_18_method_116_code (7 : Nat) (Option.some Jvm.ClassFile.FieldType.int)) ∈ lw_all := lw_g (lw_at lw_m9 119 rfl) rfl
theorem q2173 : (Jvm.Cond.methodLink "HairRopeModel" (488 : Nat) ({ cls := "HairRopeModel", name := "isMark", desc := "(I)Z" } : Jvm.MethodName)) ∈ lw_all := lw_g (lw_at lw_m9 120 rfl) rfl
theorem q2174 : (Jvm.Cond.static ({ cls := "HairRopeModel", name := "isMark", desc := "(I)Z" } : Jvm.MethodName)) ∈ lw_all := lw_g (lw_at lw_m9 121 rfl) rfl
theorem q2175 : (Jvm.Cond.code ({ cls := "HairRopeModel", name := "isMark", desc := "(I)Z" } : Jvm.MethodName) prog_18_method_115_code (1 : Nat) (Option.some Jvm.ClassFile.FieldType.boolean)) ∈ lw_all := lw_g (lw_at lw_m9 122 rfl) rfl
theorem q2177 : (Jvm.Cond.instanceMethod ({ cls := "HairRopeModel", name := "tell", desc := "(IIZ)I" } : Jvm.MethodName)) ∈ lw_all := lw_g (lw_at lw_m9 124 rfl) rfl
theorem q2178 : (Jvm.Cond.selects "HairRopeModel" ({ cls := "HairRopeModel", name := "tell", desc := "(IIZ)I" } : Jvm.MethodName) ({ cls := "HairRopeModel", name := "tell", desc := "(IIZ)I" } : Jvm.MethodName)) ∈ lw_all := lw_g (lw_at lw_m9 125 rfl) rfl
theorem q2179 : (Jvm.Cond.code ({ cls := "HairRopeModel", name := "tell", desc := "(IIZ)I" } : Jvm.MethodName) prog_18_method_117_code (4 : Nat) (Option.some Jvm.ClassFile.FieldType.int)) ∈ lw_all := lw_g (lw_at lw_m9 126 rfl) rfl
theorem q2181 : (Jvm.Cond.instanceMethod ({ cls := "HairRopeModel", name := "forget", desc := "()I" } : Jvm.MethodName)) ∈ lw_all := lw_g (lw_at lw_m9 128 rfl) rfl
theorem q2182 : (Jvm.Cond.selects "HairRopeModel" ({ cls := "HairRopeModel", name := "forget", desc := "()I" } : Jvm.MethodName) ({ cls := "HairRopeModel", name := "forget", desc := "()I" } : Jvm.MethodName)) ∈ lw_all := lw_g (lw_at lw_m9 129 rfl) rfl
theorem q2183 : (Jvm.Cond.code ({ cls := "HairRopeModel", name := "forget", desc := "()I" } : Jvm.MethodName) prog_18_method_118_code (2 : Nat) (Option.some Jvm.ClassFile.FieldType.int)) ∈ lw_all := lw_g (lw_at lw_m9 130 rfl) rfl
theorem q2185 : (Jvm.Cond.instanceMethod ({ cls := "HairRopeModel", name := "rows", desc := "(III)I" } : Jvm.MethodName)) ∈ lw_all := lw_g (lw_at lw_m9 132 rfl) rfl
theorem q2186 : (Jvm.Cond.selects "HairRopeModel" ({ cls := "HairRopeModel", name := "rows", desc := "(III)I" } : Jvm.MethodName) ({ cls := "HairRopeModel", name := "rows", desc := "(III)I" } : Jvm.MethodName)) ∈ lw_all := lw_g (lw_at lw_m9 133 rfl) rfl
theorem q2187 : (Jvm.Cond.code ({ cls := "HairRopeModel", name := "rows", desc := "(III)I" } : Jvm.MethodName) prog_18_method_122_code (7 : Nat) (Option.some Jvm.ClassFile.FieldType.int)) ∈ lw_all := lw_g (lw_at lw_m9 134 rfl) rfl
theorem q2188 : (Jvm.Cond.methodLink "HairRopeModel" (491 : Nat) ({ cls := "HairRopeModel", name := "isAsked", desc := "(II)Z" } : Jvm.MethodName)) ∈ lw_all := lw_g (lw_at lw_m9 135 rfl) rfl
theorem q2189 : (Jvm.Cond.privateMethod ({ cls := "HairRopeModel", name := "isAsked", desc := "(II)Z" } : Jvm.MethodName)) ∈ lw_tbl := lw_at lw_m9 136 rfl
theorem q2190 : (Jvm.Cond.instanceMethod ({ cls := "HairRopeModel", name := "isAsked", desc := "(II)Z" } : Jvm.MethodName)) ∈ lw_all := lw_g (lw_at lw_m9 137 rfl) rfl
theorem q2191 : (Jvm.Cond.code ({ cls := "HairRopeModel", name := "isAsked", desc := "(II)Z" } : Jvm.MethodName) prog_18_method_121_code (3 : Nat) (Option.some Jvm.ClassFile.FieldType.boolean)) ∈ lw_all := lw_g (lw_at lw_m9 138 rfl) rfl
theorem q2192 : (Jvm.Cond.methodLink "HairRopeModel" (494 : Nat) ({ cls := "HairRopeModel", name := "sixes", desc := "(I)I" } : Jvm.MethodName)) ∈ lw_all := lw_g (lw_at lw_m9 139 rfl) rfl
theorem q2193 : (Jvm.Cond.static ({ cls := "HairRopeModel", name := "sixes", desc := "(I)I" } : Jvm.MethodName)) ∈ lw_all := lw_g (lw_at lw_m9 140 rfl) rfl
theorem q2194 : (Jvm.Cond.code ({ cls := "HairRopeModel", name := "sixes", desc := "(I)I" } : Jvm.MethodName) prog_18_method_119_code (3 : Nat) (Option.some Jvm.ClassFile.FieldType.int)) ∈ lw_all := lw_g (lw_at lw_m9 141 rfl) rfl
theorem q2195 : (Jvm.Cond.methodLink "HairRopeModel" (497 : Nat) ({ cls := "HairRopeModel", name := "doesFit", desc := "(III)Z" } : Jvm.MethodName)) ∈ lw_all := lw_g (lw_at lw_m9 142 rfl) rfl
theorem q2196 : (Jvm.Cond.privateMethod ({ cls := "HairRopeModel", name := "doesFit", desc := "(III)Z" } : Jvm.MethodName)) ∈ lw_tbl := lw_at lw_m9 143 rfl
theorem q2197 : (Jvm.Cond.instanceMethod ({ cls := "HairRopeModel", name := "doesFit", desc := "(III)Z" } : Jvm.MethodName)) ∈ lw_all := lw_g (lw_at lw_m9 144 rfl) rfl
theorem q2198 : (Jvm.Cond.code ({ cls := "HairRopeModel", name := "doesFit", desc := "(III)Z" } : Jvm.MethodName) prog_18_method_120_code (7 : Nat) (Option.some Jvm.ClassFile.FieldType.boolean)) ∈ lw_all := lw_g (lw_at lw_m9 145 rfl) rfl
theorem q2200 : (Jvm.Cond.instanceMethod ({ cls := "HairRopeModel", name := "feel", desc := "(III)I" } : Jvm.MethodName)) ∈ lw_all := lw_g (lw_at lw_m9 147 rfl) rfl
theorem q2201 : (Jvm.Cond.selects "HairRopeModel" ({ cls := "HairRopeModel", name := "feel", desc := "(III)I" } : Jvm.MethodName) ({ cls := "HairRopeModel", name := "feel", desc := "(III)I" } : Jvm.MethodName)) ∈ lw_all := lw_g (lw_at lw_m9 148 rfl) rfl
theorem q2202 : (Jvm.Cond.code ({ cls := "HairRopeModel", name := "feel", desc := "(III)I" } : Jvm.MethodName) prog_18_method_123_code (9 : Nat) (Option.some Jvm.ClassFile.FieldType.int)) ∈ lw_all := lw_g (lw_at lw_m9 149 rfl) rfl
theorem q2204 : (Jvm.Cond.instanceMethod ({ cls := "HairRopeModel", name := "hold", desc := "(I)Z" } : Jvm.MethodName)) ∈ lw_all := lw_g (lw_at lw_m9 151 rfl) rfl
theorem q2205 : (Jvm.Cond.selects "HairRopeModel" ({ cls := "HairRopeModel", name := "hold", desc := "(I)Z" } : Jvm.MethodName) ({ cls := "HairRopeModel", name := "hold", desc := "(I)Z" } : Jvm.MethodName)) ∈ lw_all := lw_g (lw_at lw_m9 152 rfl) rfl
theorem q2206 : (Jvm.Cond.code ({ cls := "HairRopeModel", name := "hold", desc := "(I)Z" } : Jvm.MethodName) prog_18_method_124_code (3 : Nat) (Option.some Jvm.ClassFile.FieldType.boolean)) ∈ lw_all := lw_g (lw_at lw_m9 153 rfl) rfl
theorem q2208 : (Jvm.Cond.instanceMethod ({ cls := "HairRopeModel", name := "restore", desc := "(I)Z" } : Jvm.MethodName)) ∈ lw_all := lw_g (lw_at lw_m9 155 rfl) rfl
theorem q2209 : (Jvm.Cond.selects "HairRopeModel" ({ cls := "HairRopeModel", name := "restore", desc := "(I)Z" } : Jvm.MethodName) ({ cls := "HairRopeModel", name := "restore", desc := "(I)Z" } : Jvm.MethodName)) ∈ lw_all := lw_g (lw_at lw_m9 156 rfl) rfl
theorem q2210 : (Jvm.Cond.code ({ cls := "HairRopeModel", name := "restore", desc := "(I)Z" } : Jvm.MethodName) prog_18_method_125_code (3 : Nat) (Option.some Jvm.ClassFile.FieldType.boolean)) ∈ lw_all := lw_g (lw_at lw_m9 157 rfl) rfl
theorem q2212 : (Jvm.Cond.instanceMethod ({ cls := "HairRopeModel", name := "count", desc := "(I)I" } : Jvm.MethodName)) ∈ lw_all := lw_g (lw_at lw_m9 159 rfl) rfl
theorem q2213 : (Jvm.Cond.selects "HairRopeModel" ({ cls := "HairRopeModel", name := "count", desc := "(I)I" } : Jvm.MethodName) ({ cls := "HairRopeModel", name := "count", desc := "(I)I" } : Jvm.MethodName)) ∈ lw_all := lw_g (lw_at lw_m9 160 rfl) rfl
theorem q2214 : (Jvm.Cond.code ({ cls := "HairRopeModel", name := "count", desc := "(I)I" } : Jvm.MethodName) prog_18_method_127_code (4 : Nat) (Option.some Jvm.ClassFile.FieldType.int)) ∈ lw_all := lw_g (lw_at lw_m9 161 rfl) rfl
theorem q2215 : (Jvm.Cond.methodLink "HairRopeModel" (500 : Nat) ({ cls := "HairRopeModel", name := "sumNow", desc := "(I)I" } : Jvm.MethodName)) ∈ lw_all := lw_g (lw_at lw_m9 162 rfl) rfl
theorem q2216 : (Jvm.Cond.privateMethod ({ cls := "HairRopeModel", name := "sumNow", desc := "(I)I" } : Jvm.MethodName)) ∈ lw_tbl := lw_at lw_m9 163 rfl
theorem q2217 : (Jvm.Cond.instanceMethod ({ cls := "HairRopeModel", name := "sumNow", desc := "(I)I" } : Jvm.MethodName)) ∈ lw_all := lw_g (lw_at lw_m9 164 rfl) rfl
theorem q2218 : (Jvm.Cond.code ({ cls := "HairRopeModel", name := "sumNow", desc := "(I)I" } : Jvm.MethodName) prog_18_method_126_code (4 : Nat) (Option.some Jvm.ClassFile.FieldType.int)) ∈ lw_all := lw_g (lw_at lw_m9 165 rfl) rfl
theorem q2238 : (Jvm.Cond.castable "HairRopeModel" "java/lang/Object") ∈ lw_tbl := lw_at lw_m9 185 rfl
theorem in_X10 : ∀ w ∈ wsX100, w ∈ lw_all := lw_in wsX100 [1604, 1606, 1608, 1610, 1612, 1614, 1616, 1618, 1620, 1622, 1624, 1626, 1628, 1630, 1632, 1634, 1636, 1638, 1640, 1642, 1644, 1646, 1648, 1650, 1652, 1654, 1656, 1658, 1660, 1662, 1664, 1666, 1668, 1670, 1672, 1674, 1676, 1678, 1680, 1682, 1684, 1686, 1688, 1690, 1692, 1694, 1696, 1698, 1700, 1702, 1704, 1706, 1708, 1710, 1712, 1714, 1716, 1718, 1720, 1722, 1724, 1726, 1728, 1730, 1732, 1734, 1736, 1738, 1740, 1742, 1744] (by decide +kernel) (by decide +kernel)

/-! HairRope$Law -/
def RX11 : String := "HairRope$Law"
def TX11 : u_T := fun k => match k with
  | 0 => ("HairRope$Law", "less", "[LHairRope$Sum;", true)
  | 1 => ("HairRope$Law", "than", "[LHairRope$Sum;", true)
  | 2 => ("HairRope$Law", "then", "[LHairRope$Sum;", true)
  | _ => ("HairRope$Law", "ifs", "I", false)
def tyX11 : Nat → FieldType := fun k => match k with
  | 0 => .array (.object "HairRope$Sum")
  | 1 => .array (.object "HairRope$Sum")
  | 2 => .array (.object "HairRope$Sum")
  | _ => .int
abbrev wsX110 : List Cond := u_ws RX11 TX11 4
theorem nmX11 : ∀ a, a < 4 → ∀ b, b < 4 → a ≠ b → (TX11 a).2.1 ≠ (TX11 b).2.1 := by decide +kernel
theorem tyX11_ok : ∀ k, k < 4 → parseFieldDescriptor (TX11 k).2.2.1 = some (tyX11 k) := by decide +kernel
abbrev cX11_init : ByteArray := prog_8_method_1_code
def yX11_init : MethodName := ⟨RX11, "<init>", "()V"⟩
abbrev cX11_of : ByteArray := prog_8_method_2_code
def yX11_of : MethodName := ⟨RX11, "of", "(LHairRope$Asked;)I"⟩
theorem q156 : (Jvm.Cond.initialized "HairRope$Law") ∈ lw_all := lw_g (lw_at lw_m1 23 rfl) rfl
theorem q432 : (Jvm.Cond.fieldLink "HairRope$Law" (23 : Nat) "HairRope$Asked" "nought" "Z") ∈ lw_all := lw_g (lw_at lw_m2 59 rfl) rfl
theorem q737 : (Jvm.Cond.instantiable "HairRope$Law" (4 : Nat)) ∈ lw_all := lw_g (lw_at lw_m3 124 rfl) rfl
theorem q739 : (Jvm.Cond.instanceMethod ({ cls := "HairRope$Law", name := "<init>", desc := "()V" } : Jvm.MethodName)) ∈ lw_all := lw_g (lw_at lw_m3 126 rfl) rfl
theorem q740 : (Jvm.Cond.code ({ cls := "HairRope$Law", name := "<init>", desc := "()V" } : Jvm.MethodName) prog_8_method_1_code (1 : Nat) (Option.none : Option Jvm.ClassFile.FieldType)) ∈ lw_all := lw_g (lw_at lw_m3 127 rfl) rfl
theorem q741 : (Jvm.Cond.methodLink "HairRope$Law" (3 : Nat) ({ cls := "java/lang/Object", name := "<init>", desc := "()V" } : Jvm.MethodName)) ∈ lw_all := lw_g (lw_at lw_m3 128 rfl) rfl
theorem q742 : (Jvm.Cond.classLink "HairRope$Law" (9 : Nat) "HairRope$Sum") ∈ lw_all := lw_g (lw_at lw_m3 129 rfl) rfl
theorem q744 : (Jvm.Cond.fieldLink "HairRope$Law" (11 : Nat) "HairRope$Law" "less" "[LHairRope$Sum;") ∈ lw_all := lw_g (lw_at lw_m3 131 rfl) rfl
theorem q746 : (Jvm.Cond.fieldLink "HairRope$Law" (17 : Nat) "HairRope$Law" "than" "[LHairRope$Sum;") ∈ lw_all := lw_g (lw_at lw_m3 133 rfl) rfl
theorem q748 : (Jvm.Cond.fieldLink "HairRope$Law" (20 : Nat) "HairRope$Law" "then" "[LHairRope$Sum;") ∈ lw_all := lw_g (lw_at lw_m3 135 rfl) rfl
theorem q750 : (Jvm.Cond.fieldLink "HairRope$Law" (29 : Nat) "HairRope$Law" "ifs" "I") ∈ lw_all := lw_g (lw_at lw_m3 137 rfl) rfl
theorem q752 : (Jvm.Cond.laysFinal "HairRope$Law" "HairRope$Law" "less" "[LHairRope$Sum;") ∈ lw_all := lw_g (lw_at lw_m3 139 rfl) rfl
theorem q753 : (Jvm.Cond.soleField "HairRope$Law" "less") ∈ lw_all := lw_g (lw_at lw_m3 140 rfl) rfl
theorem q754 : (Jvm.Cond.laysFinal "HairRope$Law" "HairRope$Law" "than" "[LHairRope$Sum;") ∈ lw_all := lw_g (lw_at lw_m3 141 rfl) rfl
theorem q755 : (Jvm.Cond.soleField "HairRope$Law" "than") ∈ lw_all := lw_g (lw_at lw_m3 142 rfl) rfl
theorem q756 : (Jvm.Cond.laysFinal "HairRope$Law" "HairRope$Law" "then" "[LHairRope$Sum;") ∈ lw_all := lw_g (lw_at lw_m3 143 rfl) rfl
theorem q757 : (Jvm.Cond.soleField "HairRope$Law" "then") ∈ lw_all := lw_g (lw_at lw_m3 144 rfl) rfl
theorem q758 : (Jvm.Cond.lays "HairRope$Law" "HairRope$Law" "ifs" "I") ∈ lw_all := lw_g (lw_at lw_m3 145 rfl) rfl
theorem q759 : (Jvm.Cond.soleField "HairRope$Law" "ifs") ∈ lw_all := lw_g (lw_at lw_m3 146 rfl) rfl
theorem q760 : (Jvm.Cond.superclass "HairRope$Law" "java/lang/Object") ∈ lw_all := lw_g (lw_at lw_m3 147 rfl) rfl
theorem q1087 : (Jvm.Cond.selects "HairRope$Law" ({ cls := "java/lang/Object", name := "getClass", desc := "()Ljava/lang/Class;" } : Jvm.MethodName) ({ cls := "java/lang/Object", name := "getClass", desc := "()Ljava/lang/Class;" } : Jvm.MethodName)) ∈ lw_all := lw_g (lw_at lw_m4 234 rfl) rfl
theorem q1157 : (Jvm.Cond.instanceMethod ({ cls := "HairRope$Law", name := "of", desc := "(LHairRope$Asked;)I" } : Jvm.MethodName)) ∈ lw_all := lw_g (lw_at lw_m5 64 rfl) rfl
theorem q1158 : (Jvm.Cond.selects "HairRope$Law" ({ cls := "HairRope$Law", name := "of", desc := "(LHairRope$Asked;)I" } : Jvm.MethodName) ({ cls := "HairRope$Law", name := "of", desc := "(LHairRope$Asked;)I" } : Jvm.MethodName)) ∈ lw_all := lw_g (lw_at lw_m5 65 rfl) rfl
theorem q1159 : (Jvm.Cond.code ({ cls := "HairRope$Law", name := "of", desc := "(LHairRope$Asked;)I" } : Jvm.MethodName) prog_8_method_2_code (4 : Nat) (Option.some Jvm.ClassFile.FieldType.int)) ∈ lw_all := lw_g (lw_at lw_m5 66 rfl) rfl
theorem q1160 : (Jvm.Cond.methodLink "HairRope$Law" (33 : Nat) ({ cls := "HairRope$Sum", name := "of", desc := "(LHairRope$Asked;)I" } : Jvm.MethodName)) ∈ lw_all := lw_g (lw_at lw_m5 67 rfl) rfl
theorem q1173 : (Jvm.Cond.methodLink "HairRope$Law" (37 : Nat) ({ cls := "java/lang/Math", name := "max", desc := "(II)I" } : Jvm.MethodName)) ∈ lw_all := lw_g (lw_at lw_m5 80 rfl) rfl
theorem q2226 : (Jvm.Cond.castable "HairRope$Law" "java/lang/Object") ∈ lw_tbl := lw_at lw_m9 173 rfl
theorem in_X11 : ∀ w ∈ wsX110, w ∈ lw_all := lw_in wsX110 [752, 754, 756, 758] (by decide +kernel) (by decide +kernel)

/-! HairRope$Sum -/
def RX12 : String := "HairRope$Sum"
abbrev cX12_init : ByteArray := prog_12_method_1_code
def yX12_init : MethodName := ⟨RX12, "<init>", "()V"⟩
theorem q157 : (Jvm.Cond.initialized "HairRope$Sum") ∈ lw_all := lw_g (lw_at lw_m1 24 rfl) rfl
theorem q799 : (Jvm.Cond.instanceMethod ({ cls := "HairRope$Sum", name := "<init>", desc := "()V" } : Jvm.MethodName)) ∈ lw_all := lw_g (lw_at lw_m3 186 rfl) rfl
theorem q800 : (Jvm.Cond.code ({ cls := "HairRope$Sum", name := "<init>", desc := "()V" } : Jvm.MethodName) prog_12_method_1_code (1 : Nat) (Option.none : Option Jvm.ClassFile.FieldType)) ∈ lw_all := lw_g (lw_at lw_m3 187 rfl) rfl
theorem q801 : (Jvm.Cond.methodLink "HairRope$Sum" (1 : Nat) ({ cls := "java/lang/Object", name := "<init>", desc := "()V" } : Jvm.MethodName)) ∈ lw_all := lw_g (lw_at lw_m3 188 rfl) rfl
theorem q1161 : (Jvm.Cond.declares ({ cls := "HairRope$Sum", name := "of", desc := "(LHairRope$Asked;)I" } : Jvm.MethodName)) ∈ lw_tbl := lw_at lw_m5 68 rfl
theorem q1162 : (Jvm.Cond.sameMethod "HairRope$Sum" "HairRope$Sum" "of" "(LHairRope$Asked;)I") ∈ lw_all := lw_g (lw_at lw_m5 69 rfl) rfl
theorem q2228 : (Jvm.Cond.castable "HairRope$Sum" "java/lang/Object") ∈ lw_tbl := lw_at lw_m9 175 rfl

/-! HairRope$Number -/
def RX13 : String := "HairRope$Number"
def TX13 : u_T := fun k => match k with
  | _ => ("HairRope$Number", "v", "I", true)
def tyX13 : Nat → FieldType := fun k => match k with
  | _ => .int
abbrev wsX130 : List Cond := u_ws RX13 TX13 1
theorem nmX13 : ∀ a, a < 1 → ∀ b, b < 1 → a ≠ b → (TX13 a).2.1 ≠ (TX13 b).2.1 := by decide +kernel
theorem tyX13_ok : ∀ k, k < 1 → parseFieldDescriptor (TX13 k).2.2.1 = some (tyX13 k) := by decide +kernel
abbrev cX13_init : ByteArray := prog_9_method_1_code
def yX13_init : MethodName := ⟨RX13, "<init>", "(I)V"⟩
abbrev cX13_of : ByteArray := prog_9_method_2_code
def yX13_of : MethodName := ⟨RX13, "of", "(LHairRope$Asked;)I"⟩
theorem q158 : (Jvm.Cond.initialized "HairRope$Number") ∈ lw_all := lw_g (lw_at lw_m1 25 rfl) rfl
theorem q790 : (Jvm.Cond.instantiable "HairRope$Number" (1 : Nat)) ∈ lw_all := lw_g (lw_at lw_m3 177 rfl) rfl
theorem q796 : (Jvm.Cond.instanceMethod ({ cls := "HairRope$Number", name := "<init>", desc := "(I)V" } : Jvm.MethodName)) ∈ lw_all := lw_g (lw_at lw_m3 183 rfl) rfl
theorem q797 : (Jvm.Cond.code ({ cls := "HairRope$Number", name := "<init>", desc := "(I)V" } : Jvm.MethodName) prog_9_method_1_code (2 : Nat) (Option.none : Option Jvm.ClassFile.FieldType)) ∈ lw_all := lw_g (lw_at lw_m3 184 rfl) rfl
theorem q798 : (Jvm.Cond.methodLinkNest "HairRope$Number" (1 : Nat) ({ cls := "HairRope$Sum", name := "<init>", desc := "()V" } : Jvm.MethodName) "HairRope") ∈ lw_tbl := lw_at lw_m3 185 rfl
theorem q802 : (Jvm.Cond.fieldLink "HairRope$Number" (7 : Nat) "HairRope$Number" "v" "I") ∈ lw_all := lw_g (lw_at lw_m3 189 rfl) rfl
theorem q803 : (Jvm.Cond.laysFinal "HairRope$Number" "HairRope$Number" "v" "I") ∈ lw_all := lw_g (lw_at lw_m3 190 rfl) rfl
theorem q804 : (Jvm.Cond.soleField "HairRope$Number" "v") ∈ lw_all := lw_g (lw_at lw_m3 191 rfl) rfl
theorem q805 : (Jvm.Cond.superclass "HairRope$Number" "HairRope$Sum") ∈ lw_all := lw_g (lw_at lw_m3 192 rfl) rfl
theorem q1088 : (Jvm.Cond.selects "HairRope$Number" ({ cls := "java/lang/Object", name := "getClass", desc := "()Ljava/lang/Class;" } : Jvm.MethodName) ({ cls := "java/lang/Object", name := "getClass", desc := "()Ljava/lang/Class;" } : Jvm.MethodName)) ∈ lw_all := lw_g (lw_at lw_m4 235 rfl) rfl
theorem q1167 : (Jvm.Cond.instanceMethod ({ cls := "HairRope$Number", name := "of", desc := "(LHairRope$Asked;)I" } : Jvm.MethodName)) ∈ lw_all := lw_g (lw_at lw_m5 74 rfl) rfl
theorem q1168 : (Jvm.Cond.code ({ cls := "HairRope$Number", name := "of", desc := "(LHairRope$Asked;)I" } : Jvm.MethodName) prog_9_method_2_code (2 : Nat) (Option.some Jvm.ClassFile.FieldType.int)) ∈ lw_all := lw_g (lw_at lw_m5 75 rfl) rfl
theorem q1171 : (Jvm.Cond.selects "HairRope$Number" ({ cls := "HairRope$Sum", name := "of", desc := "(LHairRope$Asked;)I" } : Jvm.MethodName) ({ cls := "HairRope$Number", name := "of", desc := "(LHairRope$Asked;)I" } : Jvm.MethodName)) ∈ lw_all := lw_g (lw_at lw_m5 78 rfl) rfl
theorem q2239 : (Jvm.Cond.castable "HairRope$Number" "java/lang/Object") ∈ lw_tbl := lw_at lw_m9 186 rfl
theorem q2245 : (Jvm.Cond.castable "HairRope$Number" "HairRope$Sum") ∈ lw_tbl := lw_at lw_m9 192 rfl
theorem in_X13 : ∀ w ∈ wsX130, w ∈ lw_all := lw_in wsX130 [803] (by decide +kernel) (by decide +kernel)

/-! HairRope$Var -/
def RX14 : String := "HairRope$Var"
def TX14 : u_T := fun k => match k with
  | _ => ("HairRope$Var", "k", "I", true)
def tyX14 : Nat → FieldType := fun k => match k with
  | _ => .int
abbrev wsX140 : List Cond := u_ws RX14 TX14 1
theorem nmX14 : ∀ a, a < 1 → ∀ b, b < 1 → a ≠ b → (TX14 a).2.1 ≠ (TX14 b).2.1 := by decide +kernel
theorem tyX14_ok : ∀ k, k < 1 → parseFieldDescriptor (TX14 k).2.2.1 = some (tyX14 k) := by decide +kernel
abbrev cX14_init : ByteArray := prog_15_method_1_code
def yX14_init : MethodName := ⟨RX14, "<init>", "(I)V"⟩
abbrev cX14_of : ByteArray := prog_15_method_2_code
def yX14_of : MethodName := ⟨RX14, "of", "(LHairRope$Asked;)I"⟩
theorem q159 : (Jvm.Cond.initialized "HairRope$Var") ∈ lw_all := lw_g (lw_at lw_m1 26 rfl) rfl
theorem q430 : (Jvm.Cond.fieldLink "HairRope$Var" (13 : Nat) "HairRope$Asked" "v" "[I") ∈ lw_all := lw_g (lw_at lw_m2 57 rfl) rfl
theorem q807 : (Jvm.Cond.instantiable "HairRope$Var" (1 : Nat)) ∈ lw_all := lw_g (lw_at lw_m3 194 rfl) rfl
theorem q809 : (Jvm.Cond.instanceMethod ({ cls := "HairRope$Var", name := "<init>", desc := "(I)V" } : Jvm.MethodName)) ∈ lw_all := lw_g (lw_at lw_m3 196 rfl) rfl
theorem q810 : (Jvm.Cond.code ({ cls := "HairRope$Var", name := "<init>", desc := "(I)V" } : Jvm.MethodName) prog_15_method_1_code (2 : Nat) (Option.none : Option Jvm.ClassFile.FieldType)) ∈ lw_all := lw_g (lw_at lw_m3 197 rfl) rfl
theorem q811 : (Jvm.Cond.methodLinkNest "HairRope$Var" (1 : Nat) ({ cls := "HairRope$Sum", name := "<init>", desc := "()V" } : Jvm.MethodName) "HairRope") ∈ lw_tbl := lw_at lw_m3 198 rfl
theorem q812 : (Jvm.Cond.fieldLink "HairRope$Var" (7 : Nat) "HairRope$Var" "k" "I") ∈ lw_all := lw_g (lw_at lw_m3 199 rfl) rfl
theorem q813 : (Jvm.Cond.laysFinal "HairRope$Var" "HairRope$Var" "k" "I") ∈ lw_all := lw_g (lw_at lw_m3 200 rfl) rfl
theorem q814 : (Jvm.Cond.soleField "HairRope$Var" "k") ∈ lw_all := lw_g (lw_at lw_m3 201 rfl) rfl
theorem q815 : (Jvm.Cond.superclass "HairRope$Var" "HairRope$Sum") ∈ lw_all := lw_g (lw_at lw_m3 202 rfl) rfl
theorem q1092 : (Jvm.Cond.selects "HairRope$Var" ({ cls := "java/lang/Object", name := "getClass", desc := "()Ljava/lang/Class;" } : Jvm.MethodName) ({ cls := "java/lang/Object", name := "getClass", desc := "()Ljava/lang/Class;" } : Jvm.MethodName)) ∈ lw_all := lw_g (lw_at lw_m4 239 rfl) rfl
theorem q1169 : (Jvm.Cond.instanceMethod ({ cls := "HairRope$Var", name := "of", desc := "(LHairRope$Asked;)I" } : Jvm.MethodName)) ∈ lw_all := lw_g (lw_at lw_m5 76 rfl) rfl
theorem q1170 : (Jvm.Cond.code ({ cls := "HairRope$Var", name := "of", desc := "(LHairRope$Asked;)I" } : Jvm.MethodName) prog_15_method_2_code (2 : Nat) (Option.some Jvm.ClassFile.FieldType.int)) ∈ lw_all := lw_g (lw_at lw_m5 77 rfl) rfl
theorem q1172 : (Jvm.Cond.selects "HairRope$Var" ({ cls := "HairRope$Sum", name := "of", desc := "(LHairRope$Asked;)I" } : Jvm.MethodName) ({ cls := "HairRope$Var", name := "of", desc := "(LHairRope$Asked;)I" } : Jvm.MethodName)) ∈ lw_all := lw_g (lw_at lw_m5 79 rfl) rfl
theorem q2240 : (Jvm.Cond.castable "HairRope$Var" "java/lang/Object") ∈ lw_tbl := lw_at lw_m9 187 rfl
theorem q2246 : (Jvm.Cond.castable "HairRope$Var" "HairRope$Sum") ∈ lw_tbl := lw_at lw_m9 193 rfl
theorem in_X14 : ∀ w ∈ wsX140, w ∈ lw_all := lw_in wsX140 [813] (by decide +kernel) (by decide +kernel)

/-! HairRope$Joined -/
def RX15 : String := "HairRope$Joined"
def TX15 : u_T := fun k => match k with
  | 0 => ("HairRope$Joined", "op", "I", true)
  | 1 => ("HairRope$Joined", "a", "LHairRope$Sum;", true)
  | _ => ("HairRope$Joined", "b", "LHairRope$Sum;", true)
def tyX15 : Nat → FieldType := fun k => match k with
  | 0 => .int
  | 1 => .object "HairRope$Sum"
  | _ => .object "HairRope$Sum"
abbrev wsX150 : List Cond := u_ws RX15 TX15 3
theorem nmX15 : ∀ a, a < 3 → ∀ b, b < 3 → a ≠ b → (TX15 a).2.1 ≠ (TX15 b).2.1 := by decide +kernel
theorem tyX15_ok : ∀ k, k < 3 → parseFieldDescriptor (TX15 k).2.2.1 = some (tyX15 k) := by decide +kernel
abbrev cX15_init : ByteArray := prog_7_method_1_code
def yX15_init : MethodName := ⟨RX15, "<init>", "(ILHairRope$Sum;LHairRope$Sum;)V"⟩
abbrev cX15_of : ByteArray := prog_7_method_2_code
def yX15_of : MethodName := ⟨RX15, "of", "(LHairRope$Asked;)I"⟩
theorem q160 : (Jvm.Cond.initialized "HairRope$Joined") ∈ lw_all := lw_g (lw_at lw_m1 27 rfl) rfl
theorem q433 : (Jvm.Cond.fieldLink "HairRope$Joined" (24 : Nat) "HairRope$Asked" "nought" "Z") ∈ lw_all := lw_g (lw_at lw_m2 60 rfl) rfl
theorem q817 : (Jvm.Cond.instantiable "HairRope$Joined" (3 : Nat)) ∈ lw_all := lw_g (lw_at lw_m3 204 rfl) rfl
theorem q819 : (Jvm.Cond.instanceMethod ({ cls := "HairRope$Joined", name := "<init>", desc := "(ILHairRope$Sum;LHairRope$Sum;)V" } : Jvm.MethodName)) ∈ lw_all := lw_g (lw_at lw_m3 206 rfl) rfl
theorem q820 : (Jvm.Cond.code ({ cls := "HairRope$Joined", name := "<init>", desc := "(ILHairRope$Sum;LHairRope$Sum;)V" } : Jvm.MethodName) prog_7_method_1_code (4 : Nat) (Option.none : Option Jvm.ClassFile.FieldType)) ∈ lw_all := lw_g (lw_at lw_m3 207 rfl) rfl
theorem q821 : (Jvm.Cond.methodLinkNest "HairRope$Joined" (1 : Nat) ({ cls := "HairRope$Sum", name := "<init>", desc := "()V" } : Jvm.MethodName) "HairRope") ∈ lw_tbl := lw_at lw_m3 208 rfl
theorem q822 : (Jvm.Cond.fieldLink "HairRope$Joined" (7 : Nat) "HairRope$Joined" "op" "I") ∈ lw_all := lw_g (lw_at lw_m3 209 rfl) rfl
theorem q823 : (Jvm.Cond.fieldLink "HairRope$Joined" (13 : Nat) "HairRope$Joined" "a" "LHairRope$Sum;") ∈ lw_all := lw_g (lw_at lw_m3 210 rfl) rfl
theorem q824 : (Jvm.Cond.fieldLink "HairRope$Joined" (17 : Nat) "HairRope$Joined" "b" "LHairRope$Sum;") ∈ lw_all := lw_g (lw_at lw_m3 211 rfl) rfl
theorem q825 : (Jvm.Cond.laysFinal "HairRope$Joined" "HairRope$Joined" "op" "I") ∈ lw_all := lw_g (lw_at lw_m3 212 rfl) rfl
theorem q826 : (Jvm.Cond.soleField "HairRope$Joined" "op") ∈ lw_all := lw_g (lw_at lw_m3 213 rfl) rfl
theorem q827 : (Jvm.Cond.laysFinal "HairRope$Joined" "HairRope$Joined" "a" "LHairRope$Sum;") ∈ lw_all := lw_g (lw_at lw_m3 214 rfl) rfl
theorem q828 : (Jvm.Cond.soleField "HairRope$Joined" "a") ∈ lw_all := lw_g (lw_at lw_m3 215 rfl) rfl
theorem q829 : (Jvm.Cond.laysFinal "HairRope$Joined" "HairRope$Joined" "b" "LHairRope$Sum;") ∈ lw_all := lw_g (lw_at lw_m3 216 rfl) rfl
theorem q830 : (Jvm.Cond.soleField "HairRope$Joined" "b") ∈ lw_all := lw_g (lw_at lw_m3 217 rfl) rfl
theorem q831 : (Jvm.Cond.superclass "HairRope$Joined" "HairRope$Sum") ∈ lw_all := lw_g (lw_at lw_m3 218 rfl) rfl
theorem q1086 : (Jvm.Cond.selects "HairRope$Joined" ({ cls := "java/lang/Object", name := "getClass", desc := "()Ljava/lang/Class;" } : Jvm.MethodName) ({ cls := "java/lang/Object", name := "getClass", desc := "()Ljava/lang/Class;" } : Jvm.MethodName)) ∈ lw_all := lw_g (lw_at lw_m4 233 rfl) rfl
theorem q1163 : (Jvm.Cond.selects "HairRope$Joined" ({ cls := "HairRope$Sum", name := "of", desc := "(LHairRope$Asked;)I" } : Jvm.MethodName) ({ cls := "HairRope$Joined", name := "of", desc := "(LHairRope$Asked;)I" } : Jvm.MethodName)) ∈ lw_all := lw_g (lw_at lw_m5 70 rfl) rfl
theorem q1164 : (Jvm.Cond.instanceMethod ({ cls := "HairRope$Joined", name := "of", desc := "(LHairRope$Asked;)I" } : Jvm.MethodName)) ∈ lw_all := lw_g (lw_at lw_m5 71 rfl) rfl
theorem q1165 : (Jvm.Cond.code ({ cls := "HairRope$Joined", name := "of", desc := "(LHairRope$Asked;)I" } : Jvm.MethodName) prog_7_method_2_code (4 : Nat) (Option.some Jvm.ClassFile.FieldType.int)) ∈ lw_all := lw_g (lw_at lw_m5 72 rfl) rfl
theorem q1166 : (Jvm.Cond.methodLink "HairRope$Joined" (20 : Nat) ({ cls := "HairRope$Sum", name := "of", desc := "(LHairRope$Asked;)I" } : Jvm.MethodName)) ∈ lw_all := lw_g (lw_at lw_m5 73 rfl) rfl
theorem q2241 : (Jvm.Cond.castable "HairRope$Joined" "java/lang/Object") ∈ lw_tbl := lw_at lw_m9 188 rfl
theorem q2247 : (Jvm.Cond.castable "HairRope$Joined" "HairRope$Sum") ∈ lw_tbl := lw_at lw_m9 194 rfl
theorem in_X15 : ∀ w ∈ wsX150, w ∈ lw_all := lw_in wsX150 [825, 827, 829] (by decide +kernel) (by decide +kernel)

/-! HairRope$House -/
def RX16 : String := "HairRope$House"
def TX16 : u_T := fun k => match k with
  | 0 => ("HairRope$House", "name", "Ljava/lang/String;", true)
  | 1 => ("HairRope$House", "hair", "I", false)
  | _ => ("HairRope$House", "strong", "I", false)
def tyX16 : Nat → FieldType := fun k => match k with
  | 0 => .object "java/lang/String"
  | 1 => .int
  | _ => .int
abbrev wsX160 : List Cond := u_ws RX16 TX16 3
theorem nmX16 : ∀ a, a < 3 → ∀ b, b < 3 → a ≠ b → (TX16 a).2.1 ≠ (TX16 b).2.1 := by decide +kernel
theorem tyX16_ok : ∀ k, k < 3 → parseFieldDescriptor (TX16 k).2.2.1 = some (tyX16 k) := by decide +kernel
abbrev cX16_init : ByteArray := prog_6_method_1_code
def yX16_init : MethodName := ⟨RX16, "<init>", "(Ljava/lang/String;)V"⟩
theorem q161 : (Jvm.Cond.initialized "HairRope$House") ∈ lw_all := lw_g (lw_at lw_m1 28 rfl) rfl
theorem q838 : (Jvm.Cond.instantiable "HairRope$House" (3 : Nat)) ∈ lw_all := lw_g (lw_at lw_m3 225 rfl) rfl
theorem q1036 : (Jvm.Cond.instanceMethod ({ cls := "HairRope$House", name := "<init>", desc := "(Ljava/lang/String;)V" } : Jvm.MethodName)) ∈ lw_all := lw_g (lw_at lw_m4 183 rfl) rfl
theorem q1037 : (Jvm.Cond.code ({ cls := "HairRope$House", name := "<init>", desc := "(Ljava/lang/String;)V" } : Jvm.MethodName) prog_6_method_1_code (2 : Nat) (Option.none : Option Jvm.ClassFile.FieldType)) ∈ lw_all := lw_g (lw_at lw_m4 184 rfl) rfl
theorem q1038 : (Jvm.Cond.methodLink "HairRope$House" (1 : Nat) ({ cls := "java/lang/Object", name := "<init>", desc := "()V" } : Jvm.MethodName)) ∈ lw_all := lw_g (lw_at lw_m4 185 rfl) rfl
theorem q1039 : (Jvm.Cond.fieldLink "HairRope$House" (7 : Nat) "HairRope$House" "name" "Ljava/lang/String;") ∈ lw_all := lw_g (lw_at lw_m4 186 rfl) rfl
theorem q1046 : (Jvm.Cond.laysFinal "HairRope$House" "HairRope$House" "name" "Ljava/lang/String;") ∈ lw_all := lw_g (lw_at lw_m4 193 rfl) rfl
theorem q1047 : (Jvm.Cond.soleField "HairRope$House" "name") ∈ lw_all := lw_g (lw_at lw_m4 194 rfl) rfl
theorem q1048 : (Jvm.Cond.lays "HairRope$House" "HairRope$House" "hair" "I") ∈ lw_all := lw_g (lw_at lw_m4 195 rfl) rfl
theorem q1049 : (Jvm.Cond.soleField "HairRope$House" "hair") ∈ lw_all := lw_g (lw_at lw_m4 196 rfl) rfl
theorem q1050 : (Jvm.Cond.lays "HairRope$House" "HairRope$House" "strong" "I") ∈ lw_all := lw_g (lw_at lw_m4 197 rfl) rfl
theorem q1051 : (Jvm.Cond.soleField "HairRope$House" "strong") ∈ lw_all := lw_g (lw_at lw_m4 198 rfl) rfl
theorem q1052 : (Jvm.Cond.superclass "HairRope$House" "java/lang/Object") ∈ lw_all := lw_g (lw_at lw_m4 199 rfl) rfl
theorem q1085 : (Jvm.Cond.selects "HairRope$House" ({ cls := "java/lang/Object", name := "getClass", desc := "()Ljava/lang/Class;" } : Jvm.MethodName) ({ cls := "java/lang/Object", name := "getClass", desc := "()Ljava/lang/Class;" } : Jvm.MethodName)) ∈ lw_all := lw_g (lw_at lw_m4 232 rfl) rfl
theorem q2242 : (Jvm.Cond.castable "HairRope$House" "java/lang/Object") ∈ lw_tbl := lw_at lw_m9 189 rfl
theorem in_X16 : ∀ w ∈ wsX160, w ∈ lw_all := lw_in wsX160 [1046, 1048, 1050] (by decide +kernel) (by decide +kernel)

/-! HairRope$Tokens -/
def RX2 : String := "HairRope$Tokens"
def TX2 : u_T := fun k => match k with
  | 0 => ("HairRope$Tokens", "words", "[Ljava/lang/String;", true)
  | 1 => ("HairRope$Tokens", "tape", "[B", true)
  | 2 => ("HairRope$Tokens", "taped", "I", false)
  | 3 => ("HairRope$Tokens", "sort", "[B", true)
  | 4 => ("HairRope$Tokens", "from", "[S", true)
  | 5 => ("HairRope$Tokens", "to", "[S", true)
  | 6 => ("HairRope$Tokens", "what", "[S", true)
  | _ => ("HairRope$Tokens", "many", "I", false)
def tyX2 : Nat → FieldType := fun k => match k with
  | 0 => .array (.object "java/lang/String")
  | 1 => .array .byte
  | 2 => .int
  | 3 => .array .byte
  | 4 => .array .short
  | 5 => .array .short
  | 6 => .array .short
  | _ => .int
abbrev wsX20 : List Cond := u_ws RX2 TX2 8
theorem nmX2 : ∀ a, a < 8 → ∀ b, b < 8 → a ≠ b → (TX2 a).2.1 ≠ (TX2 b).2.1 := by decide +kernel
theorem tyX2_ok : ∀ k, k < 8 → parseFieldDescriptor (TX2 k).2.2.1 = some (tyX2 k) := by decide +kernel
abbrev cX2_init : ByteArray := prog_14_method_1_code
def yX2_init : MethodName := ⟨RX2, "<init>", "()V"⟩
abbrev cX2_read : ByteArray := prog_14_method_8_code
def yX2_read : MethodName := ⟨RX2, "read", "()V"⟩
abbrev cX2_isLetter : ByteArray := prog_14_method_4_code
def yX2_isLetter : MethodName := ⟨RX2, "isLetter", "(I)Z"⟩
abbrev cX2_at : ByteArray := prog_14_method_2_code
def yX2_at : MethodName := ⟨RX2, "at", "(I)I"⟩
abbrev cX2_word : ByteArray := prog_14_method_6_code
def yX2_word : MethodName := ⟨RX2, "word", "(II)I"⟩
abbrev cX2_isDigit : ByteArray := prog_14_method_3_code
def yX2_isDigit : MethodName := ⟨RX2, "isDigit", "(I)Z"⟩
abbrev cX2_sign : ByteArray := prog_14_method_7_code
def yX2_sign : MethodName := ⟨RX2, "sign", "(I)I"⟩
abbrev cX2_add : ByteArray := prog_14_method_5_code
def yX2_add : MethodName := ⟨RX2, "add", "(IIII)V"⟩
abbrev cX2_number : ByteArray := prog_14_method_10_code
def yX2_number : MethodName := ⟨RX2, "number", "(I)I"⟩
abbrev cX2_text : ByteArray := prog_14_method_9_code
def yX2_text : MethodName := ⟨RX2, "text", "(I)Ljava/lang/String;"⟩
theorem q139 : (Jvm.Cond.initialized "HairRope$Tokens") ∈ lw_all := lw_g (lw_at lw_m1 6 rfl) rfl
theorem q252 : (Jvm.Cond.instantiable "HairRope$Tokens" (8 : Nat)) ∈ lw_all := lw_g (lw_at lw_m1 119 rfl) rfl
theorem q254 : (Jvm.Cond.instanceMethod ({ cls := "HairRope$Tokens", name := "<init>", desc := "()V" } : Jvm.MethodName)) ∈ lw_all := lw_g (lw_at lw_m1 121 rfl) rfl
theorem q255 : (Jvm.Cond.code ({ cls := "HairRope$Tokens", name := "<init>", desc := "()V" } : Jvm.MethodName) prog_14_method_1_code (1 : Nat) (Option.none : Option Jvm.ClassFile.FieldType)) ∈ lw_all := lw_g (lw_at lw_m1 122 rfl) rfl
theorem q256 : (Jvm.Cond.methodLink "HairRope$Tokens" (3 : Nat) ({ cls := "java/lang/Object", name := "<init>", desc := "()V" } : Jvm.MethodName)) ∈ lw_all := lw_g (lw_at lw_m1 123 rfl) rfl
theorem q257 : (Jvm.Cond.classLink "HairRope$Tokens" (9 : Nat) "java/lang/String") ∈ lw_all := lw_g (lw_at lw_m1 124 rfl) rfl
theorem q259 : (Jvm.Cond.stringRef "HairRope$Tokens" (11 : Nat) "house") ∈ lw_tbl := lw_at lw_m1 126 rfl
theorem q260 : (Jvm.Cond.stringRef "HairRope$Tokens" (13 : Nat) "likes") ∈ lw_tbl := lw_at lw_m1 127 rfl
theorem q261 : (Jvm.Cond.stringRef "HairRope$Tokens" (15 : Nat) "well") ∈ lw_tbl := lw_at lw_m1 128 rfl
theorem q262 : (Jvm.Cond.stringRef "HairRope$Tokens" (17 : Nat) "water") ∈ lw_tbl := lw_at lw_m1 129 rfl
theorem q263 : (Jvm.Cond.stringRef "HairRope$Tokens" (19 : Nat) "grows") ∈ lw_tbl := lw_at lw_m1 130 rfl
theorem q264 : (Jvm.Cond.stringRef "HairRope$Tokens" (21 : Nat) "weakens") ∈ lw_tbl := lw_at lw_m1 131 rfl
theorem q265 : (Jvm.Cond.stringRef "HairRope$Tokens" (23 : Nat) "joins") ∈ lw_tbl := lw_at lw_m1 132 rfl
theorem q266 : (Jvm.Cond.stringRef "HairRope$Tokens" (25 : Nat) "costs") ∈ lw_tbl := lw_at lw_m1 133 rfl
theorem q267 : (Jvm.Cond.stringRef "HairRope$Tokens" (27 : Nat) "blight") ∈ lw_tbl := lw_at lw_m1 134 rfl
theorem q268 : (Jvm.Cond.stringRef "HairRope$Tokens" (29 : Nat) "seed") ∈ lw_tbl := lw_at lw_m1 135 rfl
theorem q269 : (Jvm.Cond.stringRef "HairRope$Tokens" (31 : Nat) "if") ∈ lw_tbl := lw_at lw_m1 136 rfl
theorem q270 : (Jvm.Cond.stringRef "HairRope$Tokens" (33 : Nat) "then") ∈ lw_tbl := lw_at lw_m1 137 rfl
theorem q271 : (Jvm.Cond.stringRef "HairRope$Tokens" (35 : Nat) "else") ∈ lw_tbl := lw_at lw_m1 138 rfl
theorem q272 : (Jvm.Cond.stringRef "HairRope$Tokens" (37 : Nat) "hair") ∈ lw_tbl := lw_at lw_m1 139 rfl
theorem q273 : (Jvm.Cond.stringRef "HairRope$Tokens" (39 : Nat) "strong") ∈ lw_tbl := lw_at lw_m1 140 rfl
theorem q274 : (Jvm.Cond.stringRef "HairRope$Tokens" (41 : Nat) "like") ∈ lw_tbl := lw_at lw_m1 141 rfl
theorem q275 : (Jvm.Cond.stringRef "HairRope$Tokens" (43 : Nat) "year") ∈ lw_tbl := lw_at lw_m1 142 rfl
theorem q276 : (Jvm.Cond.stringRef "HairRope$Tokens" (45 : Nat) "place") ∈ lw_tbl := lw_at lw_m1 143 rfl
theorem q277 : (Jvm.Cond.stringRef "HairRope$Tokens" (47 : Nat) "which") ∈ lw_tbl := lw_at lw_m1 144 rfl
theorem q278 : (Jvm.Cond.stringRef "HairRope$Tokens" (49 : Nat) "spliced") ∈ lw_tbl := lw_at lw_m1 145 rfl
theorem q279 : (Jvm.Cond.stringRef "HairRope$Tokens" (51 : Nat) "given") ∈ lw_tbl := lw_at lw_m1 146 rfl
theorem q280 : (Jvm.Cond.stringRef "HairRope$Tokens" (53 : Nat) "other") ∈ lw_tbl := lw_at lw_m1 147 rfl
theorem q281 : (Jvm.Cond.fieldLink "HairRope$Tokens" (55 : Nat) "HairRope$Tokens" "words" "[Ljava/lang/String;") ∈ lw_all := lw_g (lw_at lw_m1 148 rfl) rfl
theorem q282 : (Jvm.Cond.fieldLink "HairRope$Tokens" (61 : Nat) "HairRope$Tokens" "tape" "[B") ∈ lw_all := lw_g (lw_at lw_m1 149 rfl) rfl
theorem q284 : (Jvm.Cond.fieldLink "HairRope$Tokens" (78 : Nat) "HairRope$Tokens" "taped" "I") ∈ lw_all := lw_g (lw_at lw_m1 151 rfl) rfl
theorem q286 : (Jvm.Cond.fieldLink "HairRope$Tokens" (65 : Nat) "HairRope$Tokens" "sort" "[B") ∈ lw_all := lw_g (lw_at lw_m1 153 rfl) rfl
theorem q288 : (Jvm.Cond.fieldLink "HairRope$Tokens" (68 : Nat) "HairRope$Tokens" "from" "[S") ∈ lw_all := lw_g (lw_at lw_m1 155 rfl) rfl
theorem q290 : (Jvm.Cond.fieldLink "HairRope$Tokens" (72 : Nat) "HairRope$Tokens" "to" "[S") ∈ lw_all := lw_g (lw_at lw_m1 157 rfl) rfl
theorem q291 : (Jvm.Cond.fieldLink "HairRope$Tokens" (75 : Nat) "HairRope$Tokens" "what" "[S") ∈ lw_all := lw_g (lw_at lw_m1 158 rfl) rfl
theorem q293 : (Jvm.Cond.fieldLink "HairRope$Tokens" (86 : Nat) "HairRope$Tokens" "many" "I") ∈ lw_all := lw_g (lw_at lw_m1 160 rfl) rfl
theorem q294 : (Jvm.Cond.laysFinal "HairRope$Tokens" "HairRope$Tokens" "words" "[Ljava/lang/String;") ∈ lw_all := lw_g (lw_at lw_m1 161 rfl) rfl
theorem q295 : (Jvm.Cond.soleField "HairRope$Tokens" "words") ∈ lw_all := lw_g (lw_at lw_m1 162 rfl) rfl
theorem q296 : (Jvm.Cond.laysFinal "HairRope$Tokens" "HairRope$Tokens" "tape" "[B") ∈ lw_all := lw_g (lw_at lw_m1 163 rfl) rfl
theorem q297 : (Jvm.Cond.soleField "HairRope$Tokens" "tape") ∈ lw_all := lw_g (lw_at lw_m1 164 rfl) rfl
theorem q298 : (Jvm.Cond.lays "HairRope$Tokens" "HairRope$Tokens" "taped" "I") ∈ lw_all := lw_g (lw_at lw_m1 165 rfl) rfl
theorem q299 : (Jvm.Cond.soleField "HairRope$Tokens" "taped") ∈ lw_all := lw_g (lw_at lw_m1 166 rfl) rfl
theorem q300 : (Jvm.Cond.laysFinal "HairRope$Tokens" "HairRope$Tokens" "sort" "[B") ∈ lw_all := lw_g (lw_at lw_m1 167 rfl) rfl
theorem q301 : (Jvm.Cond.soleField "HairRope$Tokens" "sort") ∈ lw_all := lw_g (lw_at lw_m1 168 rfl) rfl
theorem q302 : (Jvm.Cond.laysFinal "HairRope$Tokens" "HairRope$Tokens" "from" "[S") ∈ lw_all := lw_g (lw_at lw_m1 169 rfl) rfl
theorem q303 : (Jvm.Cond.soleField "HairRope$Tokens" "from") ∈ lw_all := lw_g (lw_at lw_m1 170 rfl) rfl
theorem q304 : (Jvm.Cond.laysFinal "HairRope$Tokens" "HairRope$Tokens" "to" "[S") ∈ lw_all := lw_g (lw_at lw_m1 171 rfl) rfl
theorem q305 : (Jvm.Cond.soleField "HairRope$Tokens" "to") ∈ lw_all := lw_g (lw_at lw_m1 172 rfl) rfl
theorem q306 : (Jvm.Cond.laysFinal "HairRope$Tokens" "HairRope$Tokens" "what" "[S") ∈ lw_all := lw_g (lw_at lw_m1 173 rfl) rfl
theorem q307 : (Jvm.Cond.soleField "HairRope$Tokens" "what") ∈ lw_all := lw_g (lw_at lw_m1 174 rfl) rfl
theorem q308 : (Jvm.Cond.lays "HairRope$Tokens" "HairRope$Tokens" "many" "I") ∈ lw_all := lw_g (lw_at lw_m1 175 rfl) rfl
theorem q309 : (Jvm.Cond.soleField "HairRope$Tokens" "many") ∈ lw_all := lw_g (lw_at lw_m1 176 rfl) rfl
theorem q310 : (Jvm.Cond.superclass "HairRope$Tokens" "java/lang/Object") ∈ lw_all := lw_g (lw_at lw_m1 177 rfl) rfl
theorem q633 : (Jvm.Cond.instanceMethod ({ cls := "HairRope$Tokens", name := "read", desc := "()V" } : Jvm.MethodName)) ∈ lw_all := lw_g (lw_at lw_m3 20 rfl) rfl
theorem q634 : (Jvm.Cond.selects "HairRope$Tokens" ({ cls := "HairRope$Tokens", name := "read", desc := "()V" } : Jvm.MethodName) ({ cls := "HairRope$Tokens", name := "read", desc := "()V" } : Jvm.MethodName)) ∈ lw_all := lw_g (lw_at lw_m3 21 rfl) rfl
theorem q635 : (Jvm.Cond.code ({ cls := "HairRope$Tokens", name := "read", desc := "()V" } : Jvm.MethodName) prog_14_method_8_code (7 : Nat) (Option.none : Option Jvm.ClassFile.FieldType)) ∈ lw_all := lw_g (lw_at lw_m3 22 rfl) rfl
theorem q636 : (Jvm.Cond.methodLink "HairRope$Tokens" (97 : Nat) ({ cls := "HairRope$Tokens", name := "isLetter", desc := "(I)Z" } : Jvm.MethodName)) ∈ lw_all := lw_g (lw_at lw_m3 23 rfl) rfl
theorem q637 : (Jvm.Cond.privateMethod ({ cls := "HairRope$Tokens", name := "isLetter", desc := "(I)Z" } : Jvm.MethodName)) ∈ lw_tbl := lw_at lw_m3 24 rfl
theorem q638 : (Jvm.Cond.instanceMethod ({ cls := "HairRope$Tokens", name := "isLetter", desc := "(I)Z" } : Jvm.MethodName)) ∈ lw_all := lw_g (lw_at lw_m3 25 rfl) rfl
theorem q639 : (Jvm.Cond.code ({ cls := "HairRope$Tokens", name := "isLetter", desc := "(I)Z" } : Jvm.MethodName) prog_14_method_4_code (2 : Nat) (Option.some Jvm.ClassFile.FieldType.boolean)) ∈ lw_all := lw_g (lw_at lw_m3 26 rfl) rfl
theorem q640 : (Jvm.Cond.methodLink "HairRope$Tokens" (82 : Nat) ({ cls := "HairRope$Tokens", name := "at", desc := "(I)I" } : Jvm.MethodName)) ∈ lw_all := lw_g (lw_at lw_m3 27 rfl) rfl
theorem q641 : (Jvm.Cond.privateMethod ({ cls := "HairRope$Tokens", name := "at", desc := "(I)I" } : Jvm.MethodName)) ∈ lw_tbl := lw_at lw_m3 28 rfl
theorem q642 : (Jvm.Cond.instanceMethod ({ cls := "HairRope$Tokens", name := "at", desc := "(I)I" } : Jvm.MethodName)) ∈ lw_all := lw_g (lw_at lw_m3 29 rfl) rfl
theorem q643 : (Jvm.Cond.code ({ cls := "HairRope$Tokens", name := "at", desc := "(I)I" } : Jvm.MethodName) prog_14_method_2_code (2 : Nat) (Option.some Jvm.ClassFile.FieldType.int)) ∈ lw_all := lw_g (lw_at lw_m3 30 rfl) rfl
theorem q644 : (Jvm.Cond.methodLink "HairRope$Tokens" (101 : Nat) ({ cls := "HairRope$Tokens", name := "word", desc := "(II)I" } : Jvm.MethodName)) ∈ lw_all := lw_g (lw_at lw_m3 31 rfl) rfl
theorem q645 : (Jvm.Cond.privateMethod ({ cls := "HairRope$Tokens", name := "word", desc := "(II)I" } : Jvm.MethodName)) ∈ lw_tbl := lw_at lw_m3 32 rfl
theorem q646 : (Jvm.Cond.instanceMethod ({ cls := "HairRope$Tokens", name := "word", desc := "(II)I" } : Jvm.MethodName)) ∈ lw_all := lw_g (lw_at lw_m3 33 rfl) rfl
theorem q647 : (Jvm.Cond.code ({ cls := "HairRope$Tokens", name := "word", desc := "(II)I" } : Jvm.MethodName) prog_14_method_6_code (6 : Nat) (Option.some Jvm.ClassFile.FieldType.int)) ∈ lw_all := lw_g (lw_at lw_m3 34 rfl) rfl
theorem q648 : (Jvm.Cond.methodLink "HairRope$Tokens" (89 : Nat) ({ cls := "java/lang/String", name := "length", desc := "()I" } : Jvm.MethodName)) ∈ lw_all := lw_g (lw_at lw_m3 35 rfl) rfl
theorem q658 : (Jvm.Cond.methodLink "HairRope$Tokens" (93 : Nat) ({ cls := "java/lang/String", name := "charAt", desc := "(I)C" } : Jvm.MethodName)) ∈ lw_all := lw_g (lw_at lw_m3 45 rfl) rfl
theorem q694 : (Jvm.Cond.methodLink "HairRope$Tokens" (105 : Nat) ({ cls := "HairRope$Tokens", name := "isDigit", desc := "(I)Z" } : Jvm.MethodName)) ∈ lw_all := lw_g (lw_at lw_m3 81 rfl) rfl
theorem q695 : (Jvm.Cond.privateMethod ({ cls := "HairRope$Tokens", name := "isDigit", desc := "(I)Z" } : Jvm.MethodName)) ∈ lw_tbl := lw_at lw_m3 82 rfl
theorem q696 : (Jvm.Cond.instanceMethod ({ cls := "HairRope$Tokens", name := "isDigit", desc := "(I)Z" } : Jvm.MethodName)) ∈ lw_all := lw_g (lw_at lw_m3 83 rfl) rfl
theorem q697 : (Jvm.Cond.code ({ cls := "HairRope$Tokens", name := "isDigit", desc := "(I)Z" } : Jvm.MethodName) prog_14_method_3_code (2 : Nat) (Option.some Jvm.ClassFile.FieldType.boolean)) ∈ lw_all := lw_g (lw_at lw_m3 84 rfl) rfl
theorem q698 : (Jvm.Cond.methodLink "HairRope$Tokens" (108 : Nat) ({ cls := "HairRope$Tokens", name := "sign", desc := "(I)I" } : Jvm.MethodName)) ∈ lw_all := lw_g (lw_at lw_m3 85 rfl) rfl
theorem q699 : (Jvm.Cond.privateMethod ({ cls := "HairRope$Tokens", name := "sign", desc := "(I)I" } : Jvm.MethodName)) ∈ lw_tbl := lw_at lw_m3 86 rfl
theorem q700 : (Jvm.Cond.instanceMethod ({ cls := "HairRope$Tokens", name := "sign", desc := "(I)I" } : Jvm.MethodName)) ∈ lw_all := lw_g (lw_at lw_m3 87 rfl) rfl
theorem q701 : (Jvm.Cond.code ({ cls := "HairRope$Tokens", name := "sign", desc := "(I)I" } : Jvm.MethodName) prog_14_method_7_code (3 : Nat) (Option.some Jvm.ClassFile.FieldType.int)) ∈ lw_all := lw_g (lw_at lw_m3 88 rfl) rfl
theorem q702 : (Jvm.Cond.methodLink "HairRope$Tokens" (111 : Nat) ({ cls := "HairRope$Tokens", name := "add", desc := "(IIII)V" } : Jvm.MethodName)) ∈ lw_all := lw_g (lw_at lw_m3 89 rfl) rfl
theorem q703 : (Jvm.Cond.privateMethod ({ cls := "HairRope$Tokens", name := "add", desc := "(IIII)V" } : Jvm.MethodName)) ∈ lw_tbl := lw_at lw_m3 90 rfl
theorem q704 : (Jvm.Cond.instanceMethod ({ cls := "HairRope$Tokens", name := "add", desc := "(IIII)V" } : Jvm.MethodName)) ∈ lw_all := lw_g (lw_at lw_m3 91 rfl) rfl
theorem q705 : (Jvm.Cond.code ({ cls := "HairRope$Tokens", name := "add", desc := "(IIII)V" } : Jvm.MethodName) prog_14_method_5_code (5 : Nat) (Option.none : Option Jvm.ClassFile.FieldType)) ∈ lw_all := lw_g (lw_at lw_m3 92 rfl) rfl
theorem q792 : (Jvm.Cond.instanceMethod ({ cls := "HairRope$Tokens", name := "number", desc := "(I)I" } : Jvm.MethodName)) ∈ lw_all := lw_g (lw_at lw_m3 179 rfl) rfl
theorem q793 : (Jvm.Cond.selects "HairRope$Tokens" ({ cls := "HairRope$Tokens", name := "number", desc := "(I)I" } : Jvm.MethodName) ({ cls := "HairRope$Tokens", name := "number", desc := "(I)I" } : Jvm.MethodName)) ∈ lw_all := lw_g (lw_at lw_m3 180 rfl) rfl
theorem q794 : (Jvm.Cond.code ({ cls := "HairRope$Tokens", name := "number", desc := "(I)I" } : Jvm.MethodName) prog_14_method_10_code (4 : Nat) (Option.some Jvm.ClassFile.FieldType.int)) ∈ lw_all := lw_g (lw_at lw_m3 181 rfl) rfl
theorem q848 : (Jvm.Cond.instanceMethod ({ cls := "HairRope$Tokens", name := "text", desc := "(I)Ljava/lang/String;" } : Jvm.MethodName)) ∈ lw_all := lw_g (lw_at lw_m3 235 rfl) rfl
theorem q849 : (Jvm.Cond.selects "HairRope$Tokens" ({ cls := "HairRope$Tokens", name := "text", desc := "(I)Ljava/lang/String;" } : Jvm.MethodName) ({ cls := "HairRope$Tokens", name := "text", desc := "(I)Ljava/lang/String;" } : Jvm.MethodName)) ∈ lw_all := lw_g (lw_at lw_m3 236 rfl) rfl
theorem q850 : (Jvm.Cond.code ({ cls := "HairRope$Tokens", name := "text", desc := "(I)Ljava/lang/String;" } : Jvm.MethodName) prog_14_method_9_code (4 : Nat) (Option.some (Jvm.ClassFile.FieldType.object "java/lang/String"))) ∈ lw_all := lw_g (lw_at lw_m3 237 rfl) rfl
theorem q851 : (Jvm.Cond.classLink "HairRope$Tokens" (115 : Nat) "java/lang/StringBuilder") ∈ lw_all := lw_g (lw_at lw_m3 238 rfl) rfl
theorem q853 : (Jvm.Cond.methodLink "HairRope$Tokens" (117 : Nat) ({ cls := "java/lang/StringBuilder", name := "<init>", desc := "()V" } : Jvm.MethodName)) ∈ lw_all := lw_g (lw_at lw_m4 0 rfl) rfl
theorem q881 : (Jvm.Cond.methodLink "HairRope$Tokens" (118 : Nat) ({ cls := "java/lang/StringBuilder", name := "append", desc := "(C)Ljava/lang/StringBuilder;" } : Jvm.MethodName)) ∈ lw_all := lw_g (lw_at lw_m4 28 rfl) rfl
theorem q956 : (Jvm.Cond.methodLink "HairRope$Tokens" (122 : Nat) ({ cls := "java/lang/StringBuilder", name := "toString", desc := "()Ljava/lang/String;" } : Jvm.MethodName)) ∈ lw_all := lw_g (lw_at lw_m4 103 rfl) rfl
theorem q1091 : (Jvm.Cond.selects "HairRope$Tokens" ({ cls := "java/lang/Object", name := "getClass", desc := "()Ljava/lang/Class;" } : Jvm.MethodName) ({ cls := "java/lang/Object", name := "getClass", desc := "()Ljava/lang/Class;" } : Jvm.MethodName)) ∈ lw_all := lw_g (lw_at lw_m4 238 rfl) rfl
theorem q2231 : (Jvm.Cond.castable "HairRope$Tokens" "java/lang/Object") ∈ lw_tbl := lw_at lw_m9 178 rfl
theorem in_X2 : ∀ w ∈ wsX20, w ∈ lw_all := lw_in wsX20 [294, 296, 298, 300, 302, 304, 306, 308] (by decide +kernel) (by decide +kernel)

/-! HairRope$Parser -/
def RX3 : String := "HairRope$Parser"
def TX3 : u_T := fun k => match k with
  | 0 => ("HairRope$Parser", "t", "LHairRope$Tokens;", true)
  | 1 => ("HairRope$Parser", "fault", "LHairRope$Fault;", true)
  | 2 => ("HairRope$Parser", "text", "LHairRope$Text;", false)
  | 3 => ("HairRope$Parser", "at", "I", false)
  | 4 => ("HairRope$Parser", "open", "I", false)
  | 5 => ("HairRope$Parser", "worst", "I", false)
  | _ => ("HairRope$Parser", "worstToken", "I", false)
def tyX3 : Nat → FieldType := fun k => match k with
  | 0 => .object "HairRope$Tokens"
  | 1 => .object "HairRope$Fault"
  | 2 => .object "HairRope$Text"
  | 3 => .int
  | 4 => .int
  | 5 => .int
  | _ => .int
abbrev wsX30 : List Cond := u_ws RX3 TX3 7
theorem nmX3 : ∀ a, a < 7 → ∀ b, b < 7 → a ≠ b → (TX3 a).2.1 ≠ (TX3 b).2.1 := by decide +kernel
theorem tyX3_ok : ∀ k, k < 7 → parseFieldDescriptor (TX3 k).2.2.1 = some (tyX3 k) := by decide +kernel
abbrev cX3_init : ByteArray := prog_10_method_1_code
def yX3_init : MethodName := ⟨RX3, "<init>", "(LHairRope$Tokens;LHairRope$Fault;)V"⟩
abbrev cX3_read : ByteArray := prog_10_method_16_code
def yX3_read : MethodName := ⟨RX3, "read", "()LHairRope$Text;"⟩
abbrev cX3_sort : ByteArray := prog_10_method_5_code
def yX3_sort : MethodName := ⟨RX3, "sort", "()I"⟩
abbrev cX3_wrong : ByteArray := prog_10_method_3_code
def yX3_wrong : MethodName := ⟨RX3, "wrong", "(I)LHairRope$Fault;"⟩
abbrev cX3_wrongAt : ByteArray := prog_10_method_2_code
def yX3_wrongAt : MethodName := ⟨RX3, "wrongAt", "(II)LHairRope$Fault;"⟩
abbrev cX3_told : ByteArray := prog_10_method_17_code
def yX3_told : MethodName := ⟨RX3, "told", "()V"⟩
abbrev cX3_pass : ByteArray := prog_10_method_6_code
def yX3_pass : MethodName := ⟨RX3, "pass", "()V"⟩
abbrev cX3_law : ByteArray := prog_10_method_18_code
def yX3_law : MethodName := ⟨RX3, "law", "()LHairRope$Law;"⟩
abbrev cX3_sign : ByteArray := prog_10_method_9_code
def yX3_sign : MethodName := ⟨RX3, "sign", "(I)V"⟩
abbrev cX3_isSign : ByteArray := prog_10_method_7_code
def yX3_isSign : MethodName := ⟨RX3, "isSign", "(I)Z"⟩
abbrev cX3_isWord : ByteArray := prog_10_method_8_code
def yX3_isWord : MethodName := ⟨RX3, "isWord", "(I)Z"⟩
abbrev cX3_begins : ByteArray := prog_10_method_15_code
def yX3_begins : MethodName := ⟨RX3, "begins", "(II)V"⟩
abbrev cX3_sum : ByteArray := prog_10_method_19_code
def yX3_sum : MethodName := ⟨RX3, "sum", "()LHairRope$Sum;"⟩
abbrev cX3_part : ByteArray := prog_10_method_20_code
def yX3_part : MethodName := ⟨RX3, "part", "()LHairRope$Sum;"⟩
abbrev cX3_unit : ByteArray := prog_10_method_21_code
def yX3_unit : MethodName := ⟨RX3, "unit", "()LHairRope$Sum;"⟩
abbrev cX3_word : ByteArray := prog_10_method_10_code
def yX3_word : MethodName := ⟨RX3, "word", "(I)V"⟩
abbrev cX3_name : ByteArray := prog_10_method_13_code
def yX3_name : MethodName := ⟨RX3, "name", "()Ljava/lang/String;"⟩
abbrev cX3_take : ByteArray := prog_10_method_11_code
def yX3_take : MethodName := ⟨RX3, "take", "(I)I"⟩
abbrev cX3_tell : ByteArray := prog_10_method_4_code
def yX3_tell : MethodName := ⟨RX3, "tell", "(II)V"⟩
abbrev cX3_number : ByteArray := prog_10_method_12_code
def yX3_number : MethodName := ⟨RX3, "number", "(II)I"⟩
abbrev cX3_known : ByteArray := prog_10_method_14_code
def yX3_known : MethodName := ⟨RX3, "known", "(Ljava/util/ArrayList;)I"⟩
theorem q140 : (Jvm.Cond.initialized "HairRope$Parser") ∈ lw_all := lw_g (lw_at lw_m1 7 rfl) rfl
theorem q287 : (Jvm.Cond.fieldLink "HairRope$Parser" (44 : Nat) "HairRope$Tokens" "sort" "[B") ∈ lw_all := lw_g (lw_at lw_m1 154 rfl) rfl
theorem q289 : (Jvm.Cond.fieldLink "HairRope$Parser" (19 : Nat) "HairRope$Tokens" "from" "[S") ∈ lw_all := lw_g (lw_at lw_m1 156 rfl) rfl
theorem q292 : (Jvm.Cond.fieldLink "HairRope$Parser" (52 : Nat) "HairRope$Tokens" "what" "[S") ∈ lw_all := lw_g (lw_at lw_m1 159 rfl) rfl
theorem q313 : (Jvm.Cond.instantiable "HairRope$Parser" (7 : Nat)) ∈ lw_all := lw_g (lw_at lw_m1 180 rfl) rfl
theorem q315 : (Jvm.Cond.instanceMethod ({ cls := "HairRope$Parser", name := "<init>", desc := "(LHairRope$Tokens;LHairRope$Fault;)V" } : Jvm.MethodName)) ∈ lw_all := lw_g (lw_at lw_m1 182 rfl) rfl
theorem q316 : (Jvm.Cond.code ({ cls := "HairRope$Parser", name := "<init>", desc := "(LHairRope$Tokens;LHairRope$Fault;)V" } : Jvm.MethodName) prog_10_method_1_code (3 : Nat) (Option.none : Option Jvm.ClassFile.FieldType)) ∈ lw_all := lw_g (lw_at lw_m1 183 rfl) rfl
theorem q317 : (Jvm.Cond.methodLink "HairRope$Parser" (3 : Nat) ({ cls := "java/lang/Object", name := "<init>", desc := "()V" } : Jvm.MethodName)) ∈ lw_all := lw_g (lw_at lw_m1 184 rfl) rfl
theorem q318 : (Jvm.Cond.fieldLink "HairRope$Parser" (9 : Nat) "HairRope$Parser" "t" "LHairRope$Tokens;") ∈ lw_all := lw_g (lw_at lw_m1 185 rfl) rfl
theorem q319 : (Jvm.Cond.fieldLink "HairRope$Parser" (15 : Nat) "HairRope$Parser" "fault" "LHairRope$Fault;") ∈ lw_all := lw_g (lw_at lw_m1 186 rfl) rfl
theorem q320 : (Jvm.Cond.fieldLink "HairRope$Parser" (83 : Nat) "HairRope$Parser" "text" "LHairRope$Text;") ∈ lw_all := lw_g (lw_at lw_m1 187 rfl) rfl
theorem q321 : (Jvm.Cond.fieldLink "HairRope$Parser" (31 : Nat) "HairRope$Parser" "at" "I") ∈ lw_all := lw_g (lw_at lw_m1 188 rfl) rfl
theorem q322 : (Jvm.Cond.fieldLink "HairRope$Parser" (99 : Nat) "HairRope$Parser" "open" "I") ∈ lw_all := lw_g (lw_at lw_m1 189 rfl) rfl
theorem q323 : (Jvm.Cond.fieldLink "HairRope$Parser" (38 : Nat) "HairRope$Parser" "worst" "I") ∈ lw_all := lw_g (lw_at lw_m1 190 rfl) rfl
theorem q324 : (Jvm.Cond.fieldLink "HairRope$Parser" (41 : Nat) "HairRope$Parser" "worstToken" "I") ∈ lw_all := lw_g (lw_at lw_m1 191 rfl) rfl
theorem q325 : (Jvm.Cond.laysFinal "HairRope$Parser" "HairRope$Parser" "t" "LHairRope$Tokens;") ∈ lw_all := lw_g (lw_at lw_m1 192 rfl) rfl
theorem q326 : (Jvm.Cond.soleField "HairRope$Parser" "t") ∈ lw_all := lw_g (lw_at lw_m1 193 rfl) rfl
theorem q327 : (Jvm.Cond.laysFinal "HairRope$Parser" "HairRope$Parser" "fault" "LHairRope$Fault;") ∈ lw_all := lw_g (lw_at lw_m1 194 rfl) rfl
theorem q328 : (Jvm.Cond.soleField "HairRope$Parser" "fault") ∈ lw_all := lw_g (lw_at lw_m1 195 rfl) rfl
theorem q329 : (Jvm.Cond.lays "HairRope$Parser" "HairRope$Parser" "text" "LHairRope$Text;") ∈ lw_all := lw_g (lw_at lw_m1 196 rfl) rfl
theorem q330 : (Jvm.Cond.soleField "HairRope$Parser" "text") ∈ lw_all := lw_g (lw_at lw_m1 197 rfl) rfl
theorem q331 : (Jvm.Cond.lays "HairRope$Parser" "HairRope$Parser" "at" "I") ∈ lw_all := lw_g (lw_at lw_m1 198 rfl) rfl
theorem q332 : (Jvm.Cond.soleField "HairRope$Parser" "at") ∈ lw_all := lw_g (lw_at lw_m1 199 rfl) rfl
theorem q333 : (Jvm.Cond.lays "HairRope$Parser" "HairRope$Parser" "open" "I") ∈ lw_all := lw_g (lw_at lw_m1 200 rfl) rfl
theorem q334 : (Jvm.Cond.soleField "HairRope$Parser" "open") ∈ lw_all := lw_g (lw_at lw_m1 201 rfl) rfl
theorem q335 : (Jvm.Cond.lays "HairRope$Parser" "HairRope$Parser" "worst" "I") ∈ lw_all := lw_g (lw_at lw_m1 202 rfl) rfl
theorem q336 : (Jvm.Cond.soleField "HairRope$Parser" "worst") ∈ lw_all := lw_g (lw_at lw_m1 203 rfl) rfl
theorem q337 : (Jvm.Cond.lays "HairRope$Parser" "HairRope$Parser" "worstToken" "I") ∈ lw_all := lw_g (lw_at lw_m1 204 rfl) rfl
theorem q338 : (Jvm.Cond.soleField "HairRope$Parser" "worstToken") ∈ lw_all := lw_g (lw_at lw_m1 205 rfl) rfl
theorem q339 : (Jvm.Cond.superclass "HairRope$Parser" "java/lang/Object") ∈ lw_all := lw_g (lw_at lw_m1 206 rfl) rfl
theorem q379 : (Jvm.Cond.fieldLink "HairRope$Parser" (117 : Nat) "HairRope$Text" "houses" "Ljava/util/ArrayList;") ∈ lw_all := lw_g (lw_at lw_m2 6 rfl) rfl
theorem q382 : (Jvm.Cond.fieldLink "HairRope$Parser" (109 : Nat) "HairRope$Text" "laws" "[LHairRope$Law;") ∈ lw_all := lw_g (lw_at lw_m2 9 rfl) rfl
theorem q385 : (Jvm.Cond.fieldLink "HairRope$Parser" (158 : Nat) "HairRope$Text" "like" "[[I") ∈ lw_all := lw_g (lw_at lw_m2 12 rfl) rfl
theorem q387 : (Jvm.Cond.fieldLink "HairRope$Parser" (151 : Nat) "HairRope$Text" "likes" "I") ∈ lw_all := lw_g (lw_at lw_m2 14 rfl) rfl
theorem q389 : (Jvm.Cond.fieldLink "HairRope$Parser" (162 : Nat) "HairRope$Text" "well" "I") ∈ lw_all := lw_g (lw_at lw_m2 16 rfl) rfl
theorem q392 : (Jvm.Cond.fieldLink "HairRope$Parser" (165 : Nat) "HairRope$Text" "water" "I") ∈ lw_all := lw_g (lw_at lw_m2 19 rfl) rfl
theorem q395 : (Jvm.Cond.fieldLink "HairRope$Parser" (168 : Nat) "HairRope$Text" "blight" "I") ∈ lw_all := lw_g (lw_at lw_m2 22 rfl) rfl
theorem q397 : (Jvm.Cond.fieldLink "HairRope$Parser" (171 : Nat) "HairRope$Text" "seed" "I") ∈ lw_all := lw_g (lw_at lw_m2 24 rfl) rfl
theorem q629 : (Jvm.Cond.instanceMethod ({ cls := "HairRope$Parser", name := "read", desc := "()LHairRope$Text;" } : Jvm.MethodName)) ∈ lw_all := lw_g (lw_at lw_m3 16 rfl) rfl
theorem q630 : (Jvm.Cond.selects "HairRope$Parser" ({ cls := "HairRope$Parser", name := "read", desc := "()LHairRope$Text;" } : Jvm.MethodName) ({ cls := "HairRope$Parser", name := "read", desc := "()LHairRope$Text;" } : Jvm.MethodName)) ∈ lw_all := lw_g (lw_at lw_m3 17 rfl) rfl
theorem q631 : (Jvm.Cond.code ({ cls := "HairRope$Parser", name := "read", desc := "()LHairRope$Text;" } : Jvm.MethodName) prog_10_method_16_code (1 : Nat) (Option.some (Jvm.ClassFile.FieldType.object "HairRope$Text"))) ∈ lw_all := lw_g (lw_at lw_m3 18 rfl) rfl
theorem q632 : (Jvm.Cond.methodLink "HairRope$Parser" (95 : Nat) ({ cls := "HairRope$Tokens", name := "read", desc := "()V" } : Jvm.MethodName)) ∈ lw_all := lw_g (lw_at lw_m3 19 rfl) rfl
theorem q706 : (Jvm.Cond.classLink "HairRope$Parser" (87 : Nat) "HairRope$Text") ∈ lw_all := lw_g (lw_at lw_m3 93 rfl) rfl
theorem q707 : (Jvm.Cond.methodLink "HairRope$Parser" (98 : Nat) ({ cls := "HairRope$Text", name := "<init>", desc := "()V" } : Jvm.MethodName)) ∈ lw_all := lw_g (lw_at lw_m3 94 rfl) rfl
theorem q708 : (Jvm.Cond.methodLink "HairRope$Parser" (65 : Nat) ({ cls := "HairRope$Parser", name := "sort", desc := "()I" } : Jvm.MethodName)) ∈ lw_all := lw_g (lw_at lw_m3 95 rfl) rfl
theorem q709 : (Jvm.Cond.privateMethod ({ cls := "HairRope$Parser", name := "sort", desc := "()I" } : Jvm.MethodName)) ∈ lw_tbl := lw_at lw_m3 96 rfl
theorem q710 : (Jvm.Cond.instanceMethod ({ cls := "HairRope$Parser", name := "sort", desc := "()I" } : Jvm.MethodName)) ∈ lw_all := lw_g (lw_at lw_m3 97 rfl) rfl
theorem q711 : (Jvm.Cond.code ({ cls := "HairRope$Parser", name := "sort", desc := "()I" } : Jvm.MethodName) prog_10_method_5_code (1 : Nat) (Option.some Jvm.ClassFile.FieldType.int)) ∈ lw_all := lw_g (lw_at lw_m3 98 rfl) rfl
theorem q712 : (Jvm.Cond.methodLink "HairRope$Parser" (48 : Nat) ({ cls := "HairRope$Parser", name := "wrong", desc := "(I)LHairRope$Fault;" } : Jvm.MethodName)) ∈ lw_all := lw_g (lw_at lw_m3 99 rfl) rfl
theorem q713 : (Jvm.Cond.privateMethod ({ cls := "HairRope$Parser", name := "wrong", desc := "(I)LHairRope$Fault;" } : Jvm.MethodName)) ∈ lw_tbl := lw_at lw_m3 100 rfl
theorem q714 : (Jvm.Cond.instanceMethod ({ cls := "HairRope$Parser", name := "wrong", desc := "(I)LHairRope$Fault;" } : Jvm.MethodName)) ∈ lw_all := lw_g (lw_at lw_m3 101 rfl) rfl
theorem q715 : (Jvm.Cond.code ({ cls := "HairRope$Parser", name := "wrong", desc := "(I)LHairRope$Fault;" } : Jvm.MethodName) prog_10_method_3_code (2 : Nat) (Option.some (Jvm.ClassFile.FieldType.object "HairRope$Fault"))) ∈ lw_all := lw_g (lw_at lw_m3 102 rfl) rfl
theorem q716 : (Jvm.Cond.methodLink "HairRope$Parser" (35 : Nat) ({ cls := "HairRope$Parser", name := "wrongAt", desc := "(II)LHairRope$Fault;" } : Jvm.MethodName)) ∈ lw_all := lw_g (lw_at lw_m3 103 rfl) rfl
theorem q717 : (Jvm.Cond.privateMethod ({ cls := "HairRope$Parser", name := "wrongAt", desc := "(II)LHairRope$Fault;" } : Jvm.MethodName)) ∈ lw_tbl := lw_at lw_m3 104 rfl
theorem q718 : (Jvm.Cond.instanceMethod ({ cls := "HairRope$Parser", name := "wrongAt", desc := "(II)LHairRope$Fault;" } : Jvm.MethodName)) ∈ lw_all := lw_g (lw_at lw_m3 105 rfl) rfl
theorem q719 : (Jvm.Cond.code ({ cls := "HairRope$Parser", name := "wrongAt", desc := "(II)LHairRope$Fault;" } : Jvm.MethodName) prog_10_method_2_code (3 : Nat) (Option.some (Jvm.ClassFile.FieldType.object "HairRope$Fault"))) ∈ lw_all := lw_g (lw_at lw_m3 106 rfl) rfl
theorem q720 : (Jvm.Cond.methodLink "HairRope$Parser" (25 : Nat) ({ cls := "HairRope$Fault", name := "of", desc := "(II)LHairRope$Fault;" } : Jvm.MethodName)) ∈ lw_all := lw_g (lw_at lw_m3 107 rfl) rfl
theorem q724 : (Jvm.Cond.methodLink "HairRope$Parser" (102 : Nat) ({ cls := "HairRope$Parser", name := "told", desc := "()V" } : Jvm.MethodName)) ∈ lw_all := lw_g (lw_at lw_m3 111 rfl) rfl
theorem q725 : (Jvm.Cond.privateMethod ({ cls := "HairRope$Parser", name := "told", desc := "()V" } : Jvm.MethodName)) ∈ lw_tbl := lw_at lw_m3 112 rfl
theorem q726 : (Jvm.Cond.instanceMethod ({ cls := "HairRope$Parser", name := "told", desc := "()V" } : Jvm.MethodName)) ∈ lw_all := lw_g (lw_at lw_m3 113 rfl) rfl
theorem q727 : (Jvm.Cond.code ({ cls := "HairRope$Parser", name := "told", desc := "()V" } : Jvm.MethodName) prog_10_method_17_code (6 : Nat) (Option.none : Option Jvm.ClassFile.FieldType)) ∈ lw_all := lw_g (lw_at lw_m3 114 rfl) rfl
theorem q728 : (Jvm.Cond.methodLink "HairRope$Parser" (59 : Nat) ({ cls := "HairRope$Parser", name := "pass", desc := "()V" } : Jvm.MethodName)) ∈ lw_all := lw_g (lw_at lw_m3 115 rfl) rfl
theorem q729 : (Jvm.Cond.privateMethod ({ cls := "HairRope$Parser", name := "pass", desc := "()V" } : Jvm.MethodName)) ∈ lw_tbl := lw_at lw_m3 116 rfl
theorem q730 : (Jvm.Cond.instanceMethod ({ cls := "HairRope$Parser", name := "pass", desc := "()V" } : Jvm.MethodName)) ∈ lw_all := lw_g (lw_at lw_m3 117 rfl) rfl
theorem q731 : (Jvm.Cond.code ({ cls := "HairRope$Parser", name := "pass", desc := "()V" } : Jvm.MethodName) prog_10_method_6_code (1 : Nat) (Option.none : Option Jvm.ClassFile.FieldType)) ∈ lw_all := lw_g (lw_at lw_m3 118 rfl) rfl
theorem q732 : (Jvm.Cond.methodLink "HairRope$Parser" (113 : Nat) ({ cls := "HairRope$Parser", name := "law", desc := "()LHairRope$Law;" } : Jvm.MethodName)) ∈ lw_all := lw_g (lw_at lw_m3 119 rfl) rfl
theorem q733 : (Jvm.Cond.privateMethod ({ cls := "HairRope$Parser", name := "law", desc := "()LHairRope$Law;" } : Jvm.MethodName)) ∈ lw_tbl := lw_at lw_m3 120 rfl
theorem q734 : (Jvm.Cond.instanceMethod ({ cls := "HairRope$Parser", name := "law", desc := "()LHairRope$Law;" } : Jvm.MethodName)) ∈ lw_all := lw_g (lw_at lw_m3 121 rfl) rfl
theorem q735 : (Jvm.Cond.code ({ cls := "HairRope$Parser", name := "law", desc := "()LHairRope$Law;" } : Jvm.MethodName) prog_10_method_18_code (2 : Nat) (Option.some (Jvm.ClassFile.FieldType.object "HairRope$Law"))) ∈ lw_all := lw_g (lw_at lw_m3 122 rfl) rfl
theorem q736 : (Jvm.Cond.classLink "HairRope$Parser" (174 : Nat) "HairRope$Law") ∈ lw_all := lw_g (lw_at lw_m3 123 rfl) rfl
theorem q738 : (Jvm.Cond.methodLinkNest "HairRope$Parser" (176 : Nat) ({ cls := "HairRope$Law", name := "<init>", desc := "()V" } : Jvm.MethodName) "HairRope") ∈ lw_tbl := lw_at lw_m3 125 rfl
theorem q745 : (Jvm.Cond.fieldLink "HairRope$Parser" (180 : Nat) "HairRope$Law" "less" "[LHairRope$Sum;") ∈ lw_all := lw_g (lw_at lw_m3 132 rfl) rfl
theorem q747 : (Jvm.Cond.fieldLink "HairRope$Parser" (188 : Nat) "HairRope$Law" "than" "[LHairRope$Sum;") ∈ lw_all := lw_g (lw_at lw_m3 134 rfl) rfl
theorem q749 : (Jvm.Cond.fieldLink "HairRope$Parser" (194 : Nat) "HairRope$Law" "then" "[LHairRope$Sum;") ∈ lw_all := lw_g (lw_at lw_m3 136 rfl) rfl
theorem q751 : (Jvm.Cond.fieldLink "HairRope$Parser" (177 : Nat) "HairRope$Law" "ifs" "I") ∈ lw_all := lw_g (lw_at lw_m3 138 rfl) rfl
theorem q761 : (Jvm.Cond.methodLink "HairRope$Parser" (105 : Nat) ({ cls := "HairRope$Parser", name := "sign", desc := "(I)V" } : Jvm.MethodName)) ∈ lw_all := lw_g (lw_at lw_m3 148 rfl) rfl
theorem q762 : (Jvm.Cond.privateMethod ({ cls := "HairRope$Parser", name := "sign", desc := "(I)V" } : Jvm.MethodName)) ∈ lw_tbl := lw_at lw_m3 149 rfl
theorem q763 : (Jvm.Cond.instanceMethod ({ cls := "HairRope$Parser", name := "sign", desc := "(I)V" } : Jvm.MethodName)) ∈ lw_all := lw_g (lw_at lw_m3 150 rfl) rfl
theorem q764 : (Jvm.Cond.code ({ cls := "HairRope$Parser", name := "sign", desc := "(I)V" } : Jvm.MethodName) prog_10_method_9_code (2 : Nat) (Option.none : Option Jvm.ClassFile.FieldType)) ∈ lw_all := lw_g (lw_at lw_m3 151 rfl) rfl
theorem q765 : (Jvm.Cond.methodLink "HairRope$Parser" (55 : Nat) ({ cls := "HairRope$Parser", name := "isSign", desc := "(I)Z" } : Jvm.MethodName)) ∈ lw_all := lw_g (lw_at lw_m3 152 rfl) rfl
theorem q766 : (Jvm.Cond.privateMethod ({ cls := "HairRope$Parser", name := "isSign", desc := "(I)Z" } : Jvm.MethodName)) ∈ lw_tbl := lw_at lw_m3 153 rfl
theorem q767 : (Jvm.Cond.instanceMethod ({ cls := "HairRope$Parser", name := "isSign", desc := "(I)Z" } : Jvm.MethodName)) ∈ lw_all := lw_g (lw_at lw_m3 154 rfl) rfl
theorem q768 : (Jvm.Cond.code ({ cls := "HairRope$Parser", name := "isSign", desc := "(I)Z" } : Jvm.MethodName) prog_10_method_7_code (2 : Nat) (Option.some Jvm.ClassFile.FieldType.boolean)) ∈ lw_all := lw_g (lw_at lw_m3 155 rfl) rfl
theorem q769 : (Jvm.Cond.methodLink "HairRope$Parser" (62 : Nat) ({ cls := "HairRope$Parser", name := "isWord", desc := "(I)Z" } : Jvm.MethodName)) ∈ lw_all := lw_g (lw_at lw_m3 156 rfl) rfl
theorem q770 : (Jvm.Cond.privateMethod ({ cls := "HairRope$Parser", name := "isWord", desc := "(I)Z" } : Jvm.MethodName)) ∈ lw_tbl := lw_at lw_m3 157 rfl
theorem q771 : (Jvm.Cond.instanceMethod ({ cls := "HairRope$Parser", name := "isWord", desc := "(I)Z" } : Jvm.MethodName)) ∈ lw_all := lw_g (lw_at lw_m3 158 rfl) rfl
theorem q772 : (Jvm.Cond.code ({ cls := "HairRope$Parser", name := "isWord", desc := "(I)Z" } : Jvm.MethodName) prog_10_method_8_code (2 : Nat) (Option.some Jvm.ClassFile.FieldType.boolean)) ∈ lw_all := lw_g (lw_at lw_m3 159 rfl) rfl
theorem q773 : (Jvm.Cond.methodLink "HairRope$Parser" (126 : Nat) ({ cls := "HairRope$Parser", name := "begins", desc := "(II)V" } : Jvm.MethodName)) ∈ lw_all := lw_g (lw_at lw_m3 160 rfl) rfl
theorem q774 : (Jvm.Cond.privateMethod ({ cls := "HairRope$Parser", name := "begins", desc := "(II)V" } : Jvm.MethodName)) ∈ lw_tbl := lw_at lw_m3 161 rfl
theorem q775 : (Jvm.Cond.instanceMethod ({ cls := "HairRope$Parser", name := "begins", desc := "(II)V" } : Jvm.MethodName)) ∈ lw_all := lw_g (lw_at lw_m3 162 rfl) rfl
theorem q776 : (Jvm.Cond.code ({ cls := "HairRope$Parser", name := "begins", desc := "(II)V" } : Jvm.MethodName) prog_10_method_15_code (3 : Nat) (Option.none : Option Jvm.ClassFile.FieldType)) ∈ lw_all := lw_g (lw_at lw_m3 163 rfl) rfl
theorem q777 : (Jvm.Cond.methodLink "HairRope$Parser" (184 : Nat) ({ cls := "HairRope$Parser", name := "sum", desc := "()LHairRope$Sum;" } : Jvm.MethodName)) ∈ lw_all := lw_g (lw_at lw_m3 164 rfl) rfl
theorem q778 : (Jvm.Cond.privateMethod ({ cls := "HairRope$Parser", name := "sum", desc := "()LHairRope$Sum;" } : Jvm.MethodName)) ∈ lw_tbl := lw_at lw_m3 165 rfl
theorem q779 : (Jvm.Cond.instanceMethod ({ cls := "HairRope$Parser", name := "sum", desc := "()LHairRope$Sum;" } : Jvm.MethodName)) ∈ lw_all := lw_g (lw_at lw_m3 166 rfl) rfl
theorem q780 : (Jvm.Cond.code ({ cls := "HairRope$Parser", name := "sum", desc := "()LHairRope$Sum;" } : Jvm.MethodName) prog_10_method_19_code (3 : Nat) (Option.some (Jvm.ClassFile.FieldType.object "HairRope$Sum"))) ∈ lw_all := lw_g (lw_at lw_m3 167 rfl) rfl
theorem q781 : (Jvm.Cond.methodLink "HairRope$Parser" (197 : Nat) ({ cls := "HairRope$Parser", name := "part", desc := "()LHairRope$Sum;" } : Jvm.MethodName)) ∈ lw_all := lw_g (lw_at lw_m3 168 rfl) rfl
theorem q782 : (Jvm.Cond.privateMethod ({ cls := "HairRope$Parser", name := "part", desc := "()LHairRope$Sum;" } : Jvm.MethodName)) ∈ lw_tbl := lw_at lw_m3 169 rfl
theorem q783 : (Jvm.Cond.instanceMethod ({ cls := "HairRope$Parser", name := "part", desc := "()LHairRope$Sum;" } : Jvm.MethodName)) ∈ lw_all := lw_g (lw_at lw_m3 170 rfl) rfl
theorem q784 : (Jvm.Cond.code ({ cls := "HairRope$Parser", name := "part", desc := "()LHairRope$Sum;" } : Jvm.MethodName) prog_10_method_20_code (3 : Nat) (Option.some (Jvm.ClassFile.FieldType.object "HairRope$Sum"))) ∈ lw_all := lw_g (lw_at lw_m3 171 rfl) rfl
theorem q785 : (Jvm.Cond.methodLink "HairRope$Parser" (205 : Nat) ({ cls := "HairRope$Parser", name := "unit", desc := "()LHairRope$Sum;" } : Jvm.MethodName)) ∈ lw_all := lw_g (lw_at lw_m3 172 rfl) rfl
theorem q786 : (Jvm.Cond.privateMethod ({ cls := "HairRope$Parser", name := "unit", desc := "()LHairRope$Sum;" } : Jvm.MethodName)) ∈ lw_tbl := lw_at lw_m3 173 rfl
theorem q787 : (Jvm.Cond.instanceMethod ({ cls := "HairRope$Parser", name := "unit", desc := "()LHairRope$Sum;" } : Jvm.MethodName)) ∈ lw_all := lw_g (lw_at lw_m3 174 rfl) rfl
theorem q788 : (Jvm.Cond.code ({ cls := "HairRope$Parser", name := "unit", desc := "()LHairRope$Sum;" } : Jvm.MethodName) prog_10_method_21_code (2 : Nat) (Option.some (Jvm.ClassFile.FieldType.object "HairRope$Sum"))) ∈ lw_all := lw_g (lw_at lw_m3 175 rfl) rfl
theorem q789 : (Jvm.Cond.classLink "HairRope$Parser" (208 : Nat) "HairRope$Number") ∈ lw_all := lw_g (lw_at lw_m3 176 rfl) rfl
theorem q791 : (Jvm.Cond.methodLink "HairRope$Parser" (72 : Nat) ({ cls := "HairRope$Tokens", name := "number", desc := "(I)I" } : Jvm.MethodName)) ∈ lw_all := lw_g (lw_at lw_m3 178 rfl) rfl
theorem q795 : (Jvm.Cond.methodLink "HairRope$Parser" (210 : Nat) ({ cls := "HairRope$Number", name := "<init>", desc := "(I)V" } : Jvm.MethodName)) ∈ lw_all := lw_g (lw_at lw_m3 182 rfl) rfl
theorem q806 : (Jvm.Cond.classLink "HairRope$Parser" (212 : Nat) "HairRope$Var") ∈ lw_all := lw_g (lw_at lw_m3 193 rfl) rfl
theorem q808 : (Jvm.Cond.methodLink "HairRope$Parser" (214 : Nat) ({ cls := "HairRope$Var", name := "<init>", desc := "(I)V" } : Jvm.MethodName)) ∈ lw_all := lw_g (lw_at lw_m3 195 rfl) rfl
theorem q816 : (Jvm.Cond.classLink "HairRope$Parser" (200 : Nat) "HairRope$Joined") ∈ lw_all := lw_g (lw_at lw_m3 203 rfl) rfl
theorem q818 : (Jvm.Cond.methodLink "HairRope$Parser" (202 : Nat) ({ cls := "HairRope$Joined", name := "<init>", desc := "(ILHairRope$Sum;LHairRope$Sum;)V" } : Jvm.MethodName)) ∈ lw_all := lw_g (lw_at lw_m3 205 rfl) rfl
theorem q832 : (Jvm.Cond.methodLink "HairRope$Parser" (191 : Nat) ({ cls := "HairRope$Parser", name := "word", desc := "(I)V" } : Jvm.MethodName)) ∈ lw_all := lw_g (lw_at lw_m3 219 rfl) rfl
theorem q833 : (Jvm.Cond.privateMethod ({ cls := "HairRope$Parser", name := "word", desc := "(I)V" } : Jvm.MethodName)) ∈ lw_tbl := lw_at lw_m3 220 rfl
theorem q834 : (Jvm.Cond.instanceMethod ({ cls := "HairRope$Parser", name := "word", desc := "(I)V" } : Jvm.MethodName)) ∈ lw_all := lw_g (lw_at lw_m3 221 rfl) rfl
theorem q835 : (Jvm.Cond.code ({ cls := "HairRope$Parser", name := "word", desc := "(I)V" } : Jvm.MethodName) prog_10_method_10_code (2 : Nat) (Option.none : Option Jvm.ClassFile.FieldType)) ∈ lw_all := lw_g (lw_at lw_m3 222 rfl) rfl
theorem q836 : (Jvm.Cond.methodLink "HairRope$Parser" (121 : Nat) ({ cls := "java/util/ArrayList", name := "size", desc := "()I" } : Jvm.MethodName)) ∈ lw_all := lw_g (lw_at lw_m3 223 rfl) rfl
theorem q837 : (Jvm.Cond.classLink "HairRope$Parser" (129 : Nat) "HairRope$House") ∈ lw_all := lw_g (lw_at lw_m3 224 rfl) rfl
theorem q839 : (Jvm.Cond.methodLink "HairRope$Parser" (131 : Nat) ({ cls := "HairRope$Parser", name := "name", desc := "()Ljava/lang/String;" } : Jvm.MethodName)) ∈ lw_all := lw_g (lw_at lw_m3 226 rfl) rfl
theorem q840 : (Jvm.Cond.privateMethod ({ cls := "HairRope$Parser", name := "name", desc := "()Ljava/lang/String;" } : Jvm.MethodName)) ∈ lw_tbl := lw_at lw_m3 227 rfl
theorem q841 : (Jvm.Cond.instanceMethod ({ cls := "HairRope$Parser", name := "name", desc := "()Ljava/lang/String;" } : Jvm.MethodName)) ∈ lw_all := lw_g (lw_at lw_m3 228 rfl) rfl
theorem q842 : (Jvm.Cond.code ({ cls := "HairRope$Parser", name := "name", desc := "()Ljava/lang/String;" } : Jvm.MethodName) prog_10_method_13_code (3 : Nat) (Option.some (Jvm.ClassFile.FieldType.object "java/lang/String"))) ∈ lw_all := lw_g (lw_at lw_m3 229 rfl) rfl
theorem q843 : (Jvm.Cond.methodLink "HairRope$Parser" (68 : Nat) ({ cls := "HairRope$Parser", name := "take", desc := "(I)I" } : Jvm.MethodName)) ∈ lw_all := lw_g (lw_at lw_m3 230 rfl) rfl
theorem q844 : (Jvm.Cond.privateMethod ({ cls := "HairRope$Parser", name := "take", desc := "(I)I" } : Jvm.MethodName)) ∈ lw_tbl := lw_at lw_m3 231 rfl
theorem q845 : (Jvm.Cond.instanceMethod ({ cls := "HairRope$Parser", name := "take", desc := "(I)I" } : Jvm.MethodName)) ∈ lw_all := lw_g (lw_at lw_m3 232 rfl) rfl
theorem q846 : (Jvm.Cond.code ({ cls := "HairRope$Parser", name := "take", desc := "(I)I" } : Jvm.MethodName) prog_10_method_11_code (2 : Nat) (Option.some Jvm.ClassFile.FieldType.int)) ∈ lw_all := lw_g (lw_at lw_m3 233 rfl) rfl
theorem q847 : (Jvm.Cond.methodLink "HairRope$Parser" (79 : Nat) ({ cls := "HairRope$Tokens", name := "text", desc := "(I)Ljava/lang/String;" } : Jvm.MethodName)) ∈ lw_all := lw_g (lw_at lw_m3 234 rfl) rfl
theorem q1013 : (Jvm.Cond.methodLink "HairRope$Parser" (86 : Nat) ({ cls := "HairRope$Text", name := "has", desc := "(Ljava/lang/String;)Z" } : Jvm.MethodName)) ∈ lw_all := lw_g (lw_at lw_m4 160 rfl) rfl
theorem q1031 : (Jvm.Cond.methodLink "HairRope$Parser" (75 : Nat) ({ cls := "HairRope$Parser", name := "tell", desc := "(II)V" } : Jvm.MethodName)) ∈ lw_all := lw_g (lw_at lw_m4 178 rfl) rfl
theorem q1032 : (Jvm.Cond.privateMethod ({ cls := "HairRope$Parser", name := "tell", desc := "(II)V" } : Jvm.MethodName)) ∈ lw_tbl := lw_at lw_m4 179 rfl
theorem q1033 : (Jvm.Cond.instanceMethod ({ cls := "HairRope$Parser", name := "tell", desc := "(II)V" } : Jvm.MethodName)) ∈ lw_all := lw_g (lw_at lw_m4 180 rfl) rfl
theorem q1034 : (Jvm.Cond.code ({ cls := "HairRope$Parser", name := "tell", desc := "(II)V" } : Jvm.MethodName) prog_10_method_4_code (3 : Nat) (Option.none : Option Jvm.ClassFile.FieldType)) ∈ lw_all := lw_g (lw_at lw_m4 181 rfl) rfl
theorem q1035 : (Jvm.Cond.methodLink "HairRope$Parser" (135 : Nat) ({ cls := "HairRope$House", name := "<init>", desc := "(Ljava/lang/String;)V" } : Jvm.MethodName)) ∈ lw_all := lw_g (lw_at lw_m4 182 rfl) rfl
theorem q1042 : (Jvm.Cond.fieldLink "HairRope$Parser" (141 : Nat) "HairRope$House" "hair" "I") ∈ lw_all := lw_g (lw_at lw_m4 189 rfl) rfl
theorem q1045 : (Jvm.Cond.fieldLink "HairRope$Parser" (144 : Nat) "HairRope$House" "strong" "I") ∈ lw_all := lw_g (lw_at lw_m4 192 rfl) rfl
theorem q1053 : (Jvm.Cond.methodLink "HairRope$Parser" (138 : Nat) ({ cls := "HairRope$Parser", name := "number", desc := "(II)I" } : Jvm.MethodName)) ∈ lw_all := lw_g (lw_at lw_m4 200 rfl) rfl
theorem q1054 : (Jvm.Cond.privateMethod ({ cls := "HairRope$Parser", name := "number", desc := "(II)I" } : Jvm.MethodName)) ∈ lw_tbl := lw_at lw_m4 201 rfl
theorem q1055 : (Jvm.Cond.instanceMethod ({ cls := "HairRope$Parser", name := "number", desc := "(II)I" } : Jvm.MethodName)) ∈ lw_all := lw_g (lw_at lw_m4 202 rfl) rfl
theorem q1056 : (Jvm.Cond.code ({ cls := "HairRope$Parser", name := "number", desc := "(II)I" } : Jvm.MethodName) prog_10_method_12_code (5 : Nat) (Option.some Jvm.ClassFile.FieldType.int)) ∈ lw_all := lw_g (lw_at lw_m4 203 rfl) rfl
theorem q1057 : (Jvm.Cond.methodLink "HairRope$Parser" (147 : Nat) ({ cls := "java/util/ArrayList", name := "add", desc := "(Ljava/lang/Object;)Z" } : Jvm.MethodName)) ∈ lw_all := lw_g (lw_at lw_m4 204 rfl) rfl
theorem q1089 : (Jvm.Cond.selects "HairRope$Parser" ({ cls := "java/lang/Object", name := "getClass", desc := "()Ljava/lang/Class;" } : Jvm.MethodName) ({ cls := "java/lang/Object", name := "getClass", desc := "()Ljava/lang/Class;" } : Jvm.MethodName)) ∈ lw_all := lw_g (lw_at lw_m4 236 rfl) rfl
theorem q1107 : (Jvm.Cond.methodLink "HairRope$Parser" (154 : Nat) ({ cls := "HairRope$Parser", name := "known", desc := "(Ljava/util/ArrayList;)I" } : Jvm.MethodName)) ∈ lw_all := lw_g (lw_at lw_m5 14 rfl) rfl
theorem q1108 : (Jvm.Cond.privateMethod ({ cls := "HairRope$Parser", name := "known", desc := "(Ljava/util/ArrayList;)I" } : Jvm.MethodName)) ∈ lw_tbl := lw_at lw_m5 15 rfl
theorem q1109 : (Jvm.Cond.instanceMethod ({ cls := "HairRope$Parser", name := "known", desc := "(Ljava/util/ArrayList;)I" } : Jvm.MethodName)) ∈ lw_all := lw_g (lw_at lw_m5 16 rfl) rfl
theorem q1110 : (Jvm.Cond.code ({ cls := "HairRope$Parser", name := "known", desc := "(Ljava/util/ArrayList;)I" } : Jvm.MethodName) prog_10_method_14_code (4 : Nat) (Option.some Jvm.ClassFile.FieldType.int)) ∈ lw_all := lw_g (lw_at lw_m5 17 rfl) rfl
theorem q1111 : (Jvm.Cond.methodLink "HairRope$Parser" (92 : Nat) ({ cls := "HairRope$Text", name := "at", desc := "(Ljava/util/ArrayList;Ljava/lang/String;)I" } : Jvm.MethodName)) ∈ lw_all := lw_g (lw_at lw_m5 18 rfl) rfl
theorem q2232 : (Jvm.Cond.castable "HairRope$Parser" "java/lang/Object") ∈ lw_tbl := lw_at lw_m9 179 rfl
theorem in_X3 : ∀ w ∈ wsX30, w ∈ lw_all := lw_in wsX30 [325, 327, 329, 331, 333, 335, 337] (by decide +kernel) (by decide +kernel)

/-! HairRope$Text -/
def RX4 : String := "HairRope$Text"
def TX4 : u_T := fun k => match k with
  | 0 => ("HairRope$Text", "houses", "Ljava/util/ArrayList;", true)
  | 1 => ("HairRope$Text", "laws", "[LHairRope$Law;", true)
  | 2 => ("HairRope$Text", "like", "[[I", true)
  | 3 => ("HairRope$Text", "likes", "I", false)
  | 4 => ("HairRope$Text", "well", "I", false)
  | 5 => ("HairRope$Text", "water", "I", false)
  | 6 => ("HairRope$Text", "blight", "I", false)
  | _ => ("HairRope$Text", "seed", "I", false)
def tyX4 : Nat → FieldType := fun k => match k with
  | 0 => .object "java/util/ArrayList"
  | 1 => .array (.object "HairRope$Law")
  | 2 => .array (.array .int)
  | 3 => .int
  | 4 => .int
  | 5 => .int
  | 6 => .int
  | _ => .int
abbrev wsX40 : List Cond := u_ws RX4 TX4 8
theorem nmX4 : ∀ a, a < 8 → ∀ b, b < 8 → a ≠ b → (TX4 a).2.1 ≠ (TX4 b).2.1 := by decide +kernel
theorem tyX4_ok : ∀ k, k < 8 → parseFieldDescriptor (TX4 k).2.2.1 = some (tyX4 k) := by decide +kernel
abbrev cX4_init : ByteArray := prog_13_method_1_code
def yX4_init : MethodName := ⟨RX4, "<init>", "()V"⟩
abbrev cX4_has : ByteArray := prog_13_method_3_code
def yX4_has : MethodName := ⟨RX4, "has", "(Ljava/lang/String;)Z"⟩
abbrev cX4_at : ByteArray := prog_13_method_2_code
def yX4_at : MethodName := ⟨RX4, "at", "(Ljava/util/ArrayList;Ljava/lang/String;)I"⟩
theorem q141 : (Jvm.Cond.initialized "HairRope$Text") ∈ lw_all := lw_g (lw_at lw_m1 8 rfl) rfl
theorem q341 : (Jvm.Cond.instantiable "HairRope$Text" (8 : Nat)) ∈ lw_all := lw_g (lw_at lw_m1 208 rfl) rfl
theorem q343 : (Jvm.Cond.instanceMethod ({ cls := "HairRope$Text", name := "<init>", desc := "()V" } : Jvm.MethodName)) ∈ lw_all := lw_g (lw_at lw_m1 210 rfl) rfl
theorem q344 : (Jvm.Cond.code ({ cls := "HairRope$Text", name := "<init>", desc := "()V" } : Jvm.MethodName) prog_13_method_1_code (3 : Nat) (Option.none : Option Jvm.ClassFile.FieldType)) ∈ lw_all := lw_g (lw_at lw_m1 211 rfl) rfl
theorem q345 : (Jvm.Cond.methodLink "HairRope$Text" (3 : Nat) ({ cls := "java/lang/Object", name := "<init>", desc := "()V" } : Jvm.MethodName)) ∈ lw_all := lw_g (lw_at lw_m1 212 rfl) rfl
theorem q346 : (Jvm.Cond.classLink "HairRope$Text" (9 : Nat) "java/util/ArrayList") ∈ lw_all := lw_g (lw_at lw_m1 213 rfl) rfl
theorem q348 : (Jvm.Cond.methodLink "HairRope$Text" (11 : Nat) ({ cls := "java/util/ArrayList", name := "<init>", desc := "()V" } : Jvm.MethodName)) ∈ lw_all := lw_g (lw_at lw_m1 215 rfl) rfl
theorem q372 : (Jvm.Cond.classLink "HairRope$Text" (18 : Nat) "HairRope$Law") ∈ lw_all := lw_g (lw_at lw_m1 239 rfl) rfl
theorem q374 : (Jvm.Cond.classLink "HairRope$Text" (24 : Nat) "[[I") ∈ lw_all := lw_g (lw_at lw_m2 1 rfl) rfl
theorem q376 : (Jvm.Cond.fieldLink "HairRope$Text" (12 : Nat) "HairRope$Text" "houses" "Ljava/util/ArrayList;") ∈ lw_all := lw_g (lw_at lw_m2 3 rfl) rfl
theorem q380 : (Jvm.Cond.fieldLink "HairRope$Text" (20 : Nat) "HairRope$Text" "laws" "[LHairRope$Law;") ∈ lw_all := lw_g (lw_at lw_m2 7 rfl) rfl
theorem q383 : (Jvm.Cond.fieldLink "HairRope$Text" (26 : Nat) "HairRope$Text" "like" "[[I") ∈ lw_all := lw_g (lw_at lw_m2 10 rfl) rfl
theorem q388 : (Jvm.Cond.fieldLink "HairRope$Text" (29 : Nat) "HairRope$Text" "well" "I") ∈ lw_all := lw_g (lw_at lw_m2 15 rfl) rfl
theorem q391 : (Jvm.Cond.fieldLink "HairRope$Text" (33 : Nat) "HairRope$Text" "water" "I") ∈ lw_all := lw_g (lw_at lw_m2 18 rfl) rfl
theorem q399 : (Jvm.Cond.laysFinal "HairRope$Text" "HairRope$Text" "houses" "Ljava/util/ArrayList;") ∈ lw_all := lw_g (lw_at lw_m2 26 rfl) rfl
theorem q400 : (Jvm.Cond.soleField "HairRope$Text" "houses") ∈ lw_all := lw_g (lw_at lw_m2 27 rfl) rfl
theorem q401 : (Jvm.Cond.laysFinal "HairRope$Text" "HairRope$Text" "laws" "[LHairRope$Law;") ∈ lw_all := lw_g (lw_at lw_m2 28 rfl) rfl
theorem q402 : (Jvm.Cond.soleField "HairRope$Text" "laws") ∈ lw_all := lw_g (lw_at lw_m2 29 rfl) rfl
theorem q403 : (Jvm.Cond.laysFinal "HairRope$Text" "HairRope$Text" "like" "[[I") ∈ lw_all := lw_g (lw_at lw_m2 30 rfl) rfl
theorem q404 : (Jvm.Cond.soleField "HairRope$Text" "like") ∈ lw_all := lw_g (lw_at lw_m2 31 rfl) rfl
theorem q405 : (Jvm.Cond.lays "HairRope$Text" "HairRope$Text" "likes" "I") ∈ lw_all := lw_g (lw_at lw_m2 32 rfl) rfl
theorem q406 : (Jvm.Cond.soleField "HairRope$Text" "likes") ∈ lw_all := lw_g (lw_at lw_m2 33 rfl) rfl
theorem q407 : (Jvm.Cond.lays "HairRope$Text" "HairRope$Text" "well" "I") ∈ lw_all := lw_g (lw_at lw_m2 34 rfl) rfl
theorem q408 : (Jvm.Cond.soleField "HairRope$Text" "well") ∈ lw_all := lw_g (lw_at lw_m2 35 rfl) rfl
theorem q409 : (Jvm.Cond.lays "HairRope$Text" "HairRope$Text" "water" "I") ∈ lw_all := lw_g (lw_at lw_m2 36 rfl) rfl
theorem q410 : (Jvm.Cond.soleField "HairRope$Text" "water") ∈ lw_all := lw_g (lw_at lw_m2 37 rfl) rfl
theorem q411 : (Jvm.Cond.lays "HairRope$Text" "HairRope$Text" "blight" "I") ∈ lw_all := lw_g (lw_at lw_m2 38 rfl) rfl
theorem q412 : (Jvm.Cond.soleField "HairRope$Text" "blight") ∈ lw_all := lw_g (lw_at lw_m2 39 rfl) rfl
theorem q413 : (Jvm.Cond.lays "HairRope$Text" "HairRope$Text" "seed" "I") ∈ lw_all := lw_g (lw_at lw_m2 40 rfl) rfl
theorem q414 : (Jvm.Cond.soleField "HairRope$Text" "seed") ∈ lw_all := lw_g (lw_at lw_m2 41 rfl) rfl
theorem q415 : (Jvm.Cond.superclass "HairRope$Text" "java/lang/Object") ∈ lw_all := lw_g (lw_at lw_m2 42 rfl) rfl
theorem q1014 : (Jvm.Cond.instanceMethod ({ cls := "HairRope$Text", name := "has", desc := "(Ljava/lang/String;)Z" } : Jvm.MethodName)) ∈ lw_all := lw_g (lw_at lw_m4 161 rfl) rfl
theorem q1015 : (Jvm.Cond.selects "HairRope$Text" ({ cls := "HairRope$Text", name := "has", desc := "(Ljava/lang/String;)Z" } : Jvm.MethodName) ({ cls := "HairRope$Text", name := "has", desc := "(Ljava/lang/String;)Z" } : Jvm.MethodName)) ∈ lw_all := lw_g (lw_at lw_m4 162 rfl) rfl
theorem q1016 : (Jvm.Cond.code ({ cls := "HairRope$Text", name := "has", desc := "(Ljava/lang/String;)Z" } : Jvm.MethodName) prog_13_method_3_code (2 : Nat) (Option.some Jvm.ClassFile.FieldType.boolean)) ∈ lw_all := lw_g (lw_at lw_m4 163 rfl) rfl
theorem q1017 : (Jvm.Cond.methodLink "HairRope$Text" (56 : Nat) ({ cls := "HairRope$Text", name := "at", desc := "(Ljava/util/ArrayList;Ljava/lang/String;)I" } : Jvm.MethodName)) ∈ lw_all := lw_g (lw_at lw_m4 164 rfl) rfl
theorem q1018 : (Jvm.Cond.static ({ cls := "HairRope$Text", name := "at", desc := "(Ljava/util/ArrayList;Ljava/lang/String;)I" } : Jvm.MethodName)) ∈ lw_all := lw_g (lw_at lw_m4 165 rfl) rfl
theorem q1019 : (Jvm.Cond.code ({ cls := "HairRope$Text", name := "at", desc := "(Ljava/util/ArrayList;Ljava/lang/String;)I" } : Jvm.MethodName) prog_13_method_2_code (3 : Nat) (Option.some Jvm.ClassFile.FieldType.int)) ∈ lw_all := lw_g (lw_at lw_m4 166 rfl) rfl
theorem q1020 : (Jvm.Cond.methodLink "HairRope$Text" (36 : Nat) ({ cls := "java/util/ArrayList", name := "size", desc := "()I" } : Jvm.MethodName)) ∈ lw_all := lw_g (lw_at lw_m4 167 rfl) rfl
theorem q1021 : (Jvm.Cond.methodLink "HairRope$Text" (40 : Nat) ({ cls := "java/util/ArrayList", name := "get", desc := "(I)Ljava/lang/Object;" } : Jvm.MethodName)) ∈ lw_all := lw_g (lw_at lw_m4 168 rfl) rfl
theorem q1022 : (Jvm.Cond.classLink "HairRope$Text" (44 : Nat) "HairRope$House") ∈ lw_all := lw_g (lw_at lw_m4 169 rfl) rfl
theorem q1023 : (Jvm.Cond.methodLink "HairRope$Text" (50 : Nat) ({ cls := "java/lang/String", name := "equals", desc := "(Ljava/lang/Object;)Z" } : Jvm.MethodName)) ∈ lw_all := lw_g (lw_at lw_m4 170 rfl) rfl
theorem q1040 : (Jvm.Cond.fieldLink "HairRope$Text" (46 : Nat) "HairRope$House" "name" "Ljava/lang/String;") ∈ lw_all := lw_g (lw_at lw_m4 187 rfl) rfl
theorem q1090 : (Jvm.Cond.selects "HairRope$Text" ({ cls := "java/lang/Object", name := "getClass", desc := "()Ljava/lang/Class;" } : Jvm.MethodName) ({ cls := "java/lang/Object", name := "getClass", desc := "()Ljava/lang/Class;" } : Jvm.MethodName)) ∈ lw_all := lw_g (lw_at lw_m4 237 rfl) rfl
theorem q2233 : (Jvm.Cond.castable "HairRope$Text" "java/lang/Object") ∈ lw_tbl := lw_at lw_m9 180 rfl
theorem in_X4 : ∀ w ∈ wsX40, w ∈ lw_all := lw_in wsX40 [399, 401, 403, 405, 407, 409, 411, 413] (by decide +kernel) (by decide +kernel)

/-! HairRope$Village -/
def RX5 : String := "HairRope$Village"
def TX5 : u_T := fun k => match k with
  | 0 => ("HairRope$Village", "hair", "[I", true)
  | 1 => ("HairRope$Village", "plait", "[I", true)
  | 2 => ("HairRope$Village", "strong", "[I", true)
  | 3 => ("HairRope$Village", "given", "[I", true)
  | 4 => ("HairRope$Village", "rope", "[I", true)
  | 5 => ("HairRope$Village", "many", "I", false)
  | 6 => ("HairRope$Village", "year", "I", false)
  | 7 => ("HairRope$Village", "drawn", "I", false)
  | 8 => ("HairRope$Village", "seed", "I", false)
  | 9 => ("HairRope$Village", "more", "[I", true)
  | 10 => ("HairRope$Village", "less", "[I", true)
  | _ => ("HairRope$Village", "asked", "LHairRope$Asked;", true)
def tyX5 : Nat → FieldType := fun k => match k with
  | 0 => .array .int
  | 1 => .array .int
  | 2 => .array .int
  | 3 => .array .int
  | 4 => .array .int
  | 5 => .int
  | 6 => .int
  | 7 => .int
  | 8 => .int
  | 9 => .array .int
  | 10 => .array .int
  | _ => .object "HairRope$Asked"
abbrev wsX50 : List Cond := u_ws RX5 TX5 12
theorem nmX5 : ∀ a, a < 12 → ∀ b, b < 12 → a ≠ b → (TX5 a).2.1 ≠ (TX5 b).2.1 := by decide +kernel
theorem tyX5_ok : ∀ k, k < 12 → parseFieldDescriptor (TX5 k).2.2.1 = some (tyX5 k) := by decide +kernel
abbrev cX5_init : ByteArray := prog_16_method_1_code
def yX5_init : MethodName := ⟨RX5, "<init>", "()V"⟩
abbrev cX5_begins : ByteArray := prog_16_method_2_code
def yX5_begins : MethodName := ⟨RX5, "begins", "(LHairRope$Text;)V"⟩
abbrev cX5_placeOf : ByteArray := prog_16_method_6_code
def yX5_placeOf : MethodName := ⟨RX5, "placeOf", "(I)I"⟩
abbrev cX5_grows : ByteArray := prog_16_method_11_code
def yX5_grows : MethodName := ⟨RX5, "grows", "(LHairRope$Text;I)I"⟩
abbrev cX5_told : ByteArray := prog_16_method_10_code
def yX5_told : MethodName := ⟨RX5, "told", "(LHairRope$Text;IIII)I"⟩
abbrev cX5_strength : ByteArray := prog_16_method_7_code
def yX5_strength : MethodName := ⟨RX5, "strength", "(LHairRope$Text;I)I"⟩
abbrev cX5_has : ByteArray := prog_16_method_5_code
def yX5_has : MethodName := ⟨RX5, "has", "(I)Z"⟩
abbrev cX5_weakens : ByteArray := prog_16_method_12_code
def yX5_weakens : MethodName := ⟨RX5, "weakens", "(LHairRope$Text;I)I"⟩
abbrev cX5_costs : ByteArray := prog_16_method_13_code
def yX5_costs : MethodName := ⟨RX5, "costs", "(LHairRope$Text;I)I"⟩
abbrev cX5_joins : ByteArray := prog_16_method_14_code
def yX5_joins : MethodName := ⟨RX5, "joins", "(LHairRope$Text;III)I"⟩
abbrev cX5_becomes : ByteArray := prog_16_method_4_code
def yX5_becomes : MethodName := ⟨RX5, "becomes", "(LHairRope$Village;)V"⟩
abbrev cX5_copies : ByteArray := prog_16_method_3_code
def yX5_copies : MethodName := ⟨RX5, "copies", "([I[I)V"⟩
abbrev cX5_splices : ByteArray := prog_16_method_15_code
def yX5_splices : MethodName := ⟨RX5, "splices", "(LHairRope$Text;I)V"⟩
abbrev cX5_ropeLong : ByteArray := prog_16_method_9_code
def yX5_ropeLong : MethodName := ⟨RX5, "ropeLong", "()I"⟩
abbrev cX5_loses : ByteArray := prog_16_method_16_code
def yX5_loses : MethodName := ⟨RX5, "loses", "(I)V"⟩
abbrev cX5_breaksAt : ByteArray := prog_16_method_18_code
def yX5_breaksAt : MethodName := ⟨RX5, "breaksAt", "(LHairRope$Text;I)I"⟩
abbrev cX5_below : ByteArray := prog_16_method_17_code
def yX5_below : MethodName := ⟨RX5, "below", "(I)I"⟩
abbrev cX5_goesBy : ByteArray := prog_16_method_19_code
def yX5_goesBy : MethodName := ⟨RX5, "goesBy", "(LHairRope$Text;LHairRope$Sky;)V"⟩
abbrev cX5_longOf : ByteArray := prog_16_method_8_code
def yX5_longOf : MethodName := ⟨RX5, "longOf", "(I)I"⟩
theorem q145 : (Jvm.Cond.initialized "HairRope$Village") ∈ lw_all := lw_g (lw_at lw_m1 12 rfl) rfl
theorem q377 : (Jvm.Cond.fieldLink "HairRope$Village" (40 : Nat) "HairRope$Text" "houses" "Ljava/util/ArrayList;") ∈ lw_all := lw_g (lw_at lw_m2 4 rfl) rfl
theorem q381 : (Jvm.Cond.fieldLink "HairRope$Village" (107 : Nat) "HairRope$Text" "laws" "[LHairRope$Law;") ∈ lw_all := lw_g (lw_at lw_m2 8 rfl) rfl
theorem q386 : (Jvm.Cond.fieldLink "HairRope$Village" (127 : Nat) "HairRope$Text" "like" "[[I") ∈ lw_all := lw_g (lw_at lw_m2 13 rfl) rfl
theorem q396 : (Jvm.Cond.fieldLink "HairRope$Village" (70 : Nat) "HairRope$Text" "seed" "I") ∈ lw_all := lw_g (lw_at lw_m2 23 rfl) rfl
theorem q418 : (Jvm.Cond.instantiable "HairRope$Village" (12 : Nat)) ∈ lw_all := lw_g (lw_at lw_m2 45 rfl) rfl
theorem q420 : (Jvm.Cond.instanceMethod ({ cls := "HairRope$Village", name := "<init>", desc := "()V" } : Jvm.MethodName)) ∈ lw_all := lw_g (lw_at lw_m2 47 rfl) rfl
theorem q421 : (Jvm.Cond.code ({ cls := "HairRope$Village", name := "<init>", desc := "()V" } : Jvm.MethodName) prog_16_method_1_code (1 : Nat) (Option.none : Option Jvm.ClassFile.FieldType)) ∈ lw_all := lw_g (lw_at lw_m2 48 rfl) rfl
theorem q422 : (Jvm.Cond.methodLink "HairRope$Village" (3 : Nat) ({ cls := "java/lang/Object", name := "<init>", desc := "()V" } : Jvm.MethodName)) ∈ lw_all := lw_g (lw_at lw_m2 49 rfl) rfl
theorem q423 : (Jvm.Cond.classLink "HairRope$Village" (33 : Nat) "HairRope$Asked") ∈ lw_all := lw_g (lw_at lw_m2 50 rfl) rfl
theorem q425 : (Jvm.Cond.methodLinkNest "HairRope$Village" (35 : Nat) ({ cls := "HairRope$Asked", name := "<init>", desc := "()V" } : Jvm.MethodName) "HairRope") ∈ lw_tbl := lw_at lw_m2 52 rfl
theorem q431 : (Jvm.Cond.fieldLink "HairRope$Village" (90 : Nat) "HairRope$Asked" "v" "[I") ∈ lw_all := lw_g (lw_at lw_m2 58 rfl) rfl
theorem q439 : (Jvm.Cond.fieldLink "HairRope$Village" (9 : Nat) "HairRope$Village" "hair" "[I") ∈ lw_all := lw_g (lw_at lw_m2 66 rfl) rfl
theorem q441 : (Jvm.Cond.fieldLink "HairRope$Village" (15 : Nat) "HairRope$Village" "plait" "[I") ∈ lw_all := lw_g (lw_at lw_m2 68 rfl) rfl
theorem q443 : (Jvm.Cond.fieldLink "HairRope$Village" (18 : Nat) "HairRope$Village" "strong" "[I") ∈ lw_all := lw_g (lw_at lw_m2 70 rfl) rfl
theorem q445 : (Jvm.Cond.fieldLink "HairRope$Village" (21 : Nat) "HairRope$Village" "given" "[I") ∈ lw_all := lw_g (lw_at lw_m2 72 rfl) rfl
theorem q447 : (Jvm.Cond.fieldLink "HairRope$Village" (24 : Nat) "HairRope$Village" "rope" "[I") ∈ lw_all := lw_g (lw_at lw_m2 74 rfl) rfl
theorem q449 : (Jvm.Cond.fieldLink "HairRope$Village" (61 : Nat) "HairRope$Village" "many" "I") ∈ lw_all := lw_g (lw_at lw_m2 76 rfl) rfl
theorem q452 : (Jvm.Cond.fieldLink "HairRope$Village" (64 : Nat) "HairRope$Village" "year" "I") ∈ lw_all := lw_g (lw_at lw_m2 79 rfl) rfl
theorem q454 : (Jvm.Cond.fieldLink "HairRope$Village" (67 : Nat) "HairRope$Village" "drawn" "I") ∈ lw_all := lw_g (lw_at lw_m2 81 rfl) rfl
theorem q457 : (Jvm.Cond.fieldLink "HairRope$Village" (73 : Nat) "HairRope$Village" "seed" "I") ∈ lw_all := lw_g (lw_at lw_m2 84 rfl) rfl
theorem q459 : (Jvm.Cond.fieldLink "HairRope$Village" (27 : Nat) "HairRope$Village" "more" "[I") ∈ lw_all := lw_g (lw_at lw_m2 86 rfl) rfl
theorem q460 : (Jvm.Cond.fieldLink "HairRope$Village" (30 : Nat) "HairRope$Village" "less" "[I") ∈ lw_all := lw_g (lw_at lw_m2 87 rfl) rfl
theorem q461 : (Jvm.Cond.fieldLink "HairRope$Village" (36 : Nat) "HairRope$Village" "asked" "LHairRope$Asked;") ∈ lw_all := lw_g (lw_at lw_m2 88 rfl) rfl
theorem q462 : (Jvm.Cond.laysFinal "HairRope$Village" "HairRope$Village" "hair" "[I") ∈ lw_all := lw_g (lw_at lw_m2 89 rfl) rfl
theorem q463 : (Jvm.Cond.soleField "HairRope$Village" "hair") ∈ lw_all := lw_g (lw_at lw_m2 90 rfl) rfl
theorem q464 : (Jvm.Cond.laysFinal "HairRope$Village" "HairRope$Village" "plait" "[I") ∈ lw_all := lw_g (lw_at lw_m2 91 rfl) rfl
theorem q465 : (Jvm.Cond.soleField "HairRope$Village" "plait") ∈ lw_all := lw_g (lw_at lw_m2 92 rfl) rfl
theorem q466 : (Jvm.Cond.laysFinal "HairRope$Village" "HairRope$Village" "strong" "[I") ∈ lw_all := lw_g (lw_at lw_m2 93 rfl) rfl
theorem q467 : (Jvm.Cond.soleField "HairRope$Village" "strong") ∈ lw_all := lw_g (lw_at lw_m2 94 rfl) rfl
theorem q468 : (Jvm.Cond.laysFinal "HairRope$Village" "HairRope$Village" "given" "[I") ∈ lw_all := lw_g (lw_at lw_m2 95 rfl) rfl
theorem q469 : (Jvm.Cond.soleField "HairRope$Village" "given") ∈ lw_all := lw_g (lw_at lw_m2 96 rfl) rfl
theorem q470 : (Jvm.Cond.laysFinal "HairRope$Village" "HairRope$Village" "rope" "[I") ∈ lw_all := lw_g (lw_at lw_m2 97 rfl) rfl
theorem q471 : (Jvm.Cond.soleField "HairRope$Village" "rope") ∈ lw_all := lw_g (lw_at lw_m2 98 rfl) rfl
theorem q472 : (Jvm.Cond.lays "HairRope$Village" "HairRope$Village" "many" "I") ∈ lw_all := lw_g (lw_at lw_m2 99 rfl) rfl
theorem q473 : (Jvm.Cond.soleField "HairRope$Village" "many") ∈ lw_all := lw_g (lw_at lw_m2 100 rfl) rfl
theorem q474 : (Jvm.Cond.lays "HairRope$Village" "HairRope$Village" "year" "I") ∈ lw_all := lw_g (lw_at lw_m2 101 rfl) rfl
theorem q475 : (Jvm.Cond.soleField "HairRope$Village" "year") ∈ lw_all := lw_g (lw_at lw_m2 102 rfl) rfl
theorem q476 : (Jvm.Cond.lays "HairRope$Village" "HairRope$Village" "drawn" "I") ∈ lw_all := lw_g (lw_at lw_m2 103 rfl) rfl
theorem q477 : (Jvm.Cond.soleField "HairRope$Village" "drawn") ∈ lw_all := lw_g (lw_at lw_m2 104 rfl) rfl
theorem q478 : (Jvm.Cond.lays "HairRope$Village" "HairRope$Village" "seed" "I") ∈ lw_all := lw_g (lw_at lw_m2 105 rfl) rfl
theorem q479 : (Jvm.Cond.soleField "HairRope$Village" "seed") ∈ lw_all := lw_g (lw_at lw_m2 106 rfl) rfl
theorem q480 : (Jvm.Cond.laysFinal "HairRope$Village" "HairRope$Village" "more" "[I") ∈ lw_all := lw_g (lw_at lw_m2 107 rfl) rfl
theorem q481 : (Jvm.Cond.soleField "HairRope$Village" "more") ∈ lw_all := lw_g (lw_at lw_m2 108 rfl) rfl
theorem q482 : (Jvm.Cond.laysFinal "HairRope$Village" "HairRope$Village" "less" "[I") ∈ lw_all := lw_g (lw_at lw_m2 109 rfl) rfl
theorem q483 : (Jvm.Cond.soleField "HairRope$Village" "less") ∈ lw_all := lw_g (lw_at lw_m2 110 rfl) rfl
theorem q484 : (Jvm.Cond.laysFinal "HairRope$Village" "HairRope$Village" "asked" "LHairRope$Asked;") ∈ lw_all := lw_g (lw_at lw_m2 111 rfl) rfl
theorem q485 : (Jvm.Cond.soleField "HairRope$Village" "asked") ∈ lw_all := lw_g (lw_at lw_m2 112 rfl) rfl
theorem q486 : (Jvm.Cond.superclass "HairRope$Village" "java/lang/Object") ∈ lw_all := lw_g (lw_at lw_m2 113 rfl) rfl
theorem q507 : (Jvm.Cond.instanceMethod ({ cls := "HairRope$Village", name := "begins", desc := "(LHairRope$Text;)V" } : Jvm.MethodName)) ∈ lw_all := lw_g (lw_at lw_m2 134 rfl) rfl
theorem q508 : (Jvm.Cond.selects "HairRope$Village" ({ cls := "HairRope$Village", name := "begins", desc := "(LHairRope$Text;)V" } : Jvm.MethodName) ({ cls := "HairRope$Village", name := "begins", desc := "(LHairRope$Text;)V" } : Jvm.MethodName)) ∈ lw_all := lw_g (lw_at lw_m2 135 rfl) rfl
theorem q509 : (Jvm.Cond.code ({ cls := "HairRope$Village", name := "begins", desc := "(LHairRope$Text;)V" } : Jvm.MethodName) prog_16_method_2_code (3 : Nat) (Option.none : Option Jvm.ClassFile.FieldType)) ∈ lw_all := lw_g (lw_at lw_m2 136 rfl) rfl
theorem q510 : (Jvm.Cond.methodLink "HairRope$Village" (46 : Nat) ({ cls := "java/util/ArrayList", name := "size", desc := "()I" } : Jvm.MethodName)) ∈ lw_all := lw_g (lw_at lw_m2 137 rfl) rfl
theorem q514 : (Jvm.Cond.methodLink "HairRope$Village" (52 : Nat) ({ cls := "java/util/ArrayList", name := "get", desc := "(I)Ljava/lang/Object;" } : Jvm.MethodName)) ∈ lw_all := lw_g (lw_at lw_m2 141 rfl) rfl
theorem q528 : (Jvm.Cond.classLink "HairRope$Village" (56 : Nat) "HairRope$House") ∈ lw_all := lw_g (lw_at lw_m2 155 rfl) rfl
theorem q1041 : (Jvm.Cond.fieldLink "HairRope$Village" (58 : Nat) "HairRope$House" "hair" "I") ∈ lw_all := lw_g (lw_at lw_m4 188 rfl) rfl
theorem q1043 : (Jvm.Cond.fieldLink "HairRope$Village" (88 : Nat) "HairRope$House" "strong" "I") ∈ lw_all := lw_g (lw_at lw_m4 190 rfl) rfl
theorem q1093 : (Jvm.Cond.selects "HairRope$Village" ({ cls := "java/lang/Object", name := "getClass", desc := "()Ljava/lang/Class;" } : Jvm.MethodName) ({ cls := "java/lang/Object", name := "getClass", desc := "()Ljava/lang/Class;" } : Jvm.MethodName)) ∈ lw_all := lw_g (lw_at lw_m5 0 rfl) rfl
theorem q1135 : (Jvm.Cond.instanceMethod ({ cls := "HairRope$Village", name := "placeOf", desc := "(I)I" } : Jvm.MethodName)) ∈ lw_all := lw_g (lw_at lw_m5 42 rfl) rfl
theorem q1136 : (Jvm.Cond.selects "HairRope$Village" ({ cls := "HairRope$Village", name := "placeOf", desc := "(I)I" } : Jvm.MethodName) ({ cls := "HairRope$Village", name := "placeOf", desc := "(I)I" } : Jvm.MethodName)) ∈ lw_all := lw_g (lw_at lw_m5 43 rfl) rfl
theorem q1137 : (Jvm.Cond.code ({ cls := "HairRope$Village", name := "placeOf", desc := "(I)I" } : Jvm.MethodName) prog_16_method_6_code (3 : Nat) (Option.some Jvm.ClassFile.FieldType.int)) ∈ lw_all := lw_g (lw_at lw_m5 44 rfl) rfl
theorem q1139 : (Jvm.Cond.instanceMethod ({ cls := "HairRope$Village", name := "grows", desc := "(LHairRope$Text;I)I" } : Jvm.MethodName)) ∈ lw_all := lw_g (lw_at lw_m5 46 rfl) rfl
theorem q1140 : (Jvm.Cond.selects "HairRope$Village" ({ cls := "HairRope$Village", name := "grows", desc := "(LHairRope$Text;I)I" } : Jvm.MethodName) ({ cls := "HairRope$Village", name := "grows", desc := "(LHairRope$Text;I)I" } : Jvm.MethodName)) ∈ lw_all := lw_g (lw_at lw_m5 47 rfl) rfl
theorem q1141 : (Jvm.Cond.code ({ cls := "HairRope$Village", name := "grows", desc := "(LHairRope$Text;I)I" } : Jvm.MethodName) prog_16_method_11_code (3 : Nat) (Option.some Jvm.ClassFile.FieldType.int)) ∈ lw_all := lw_g (lw_at lw_m5 48 rfl) rfl
theorem q1142 : (Jvm.Cond.methodLink "HairRope$Village" (117 : Nat) ({ cls := "HairRope$Village", name := "told", desc := "(LHairRope$Text;IIII)I" } : Jvm.MethodName)) ∈ lw_all := lw_g (lw_at lw_m5 49 rfl) rfl
theorem q1143 : (Jvm.Cond.privateMethod ({ cls := "HairRope$Village", name := "told", desc := "(LHairRope$Text;IIII)I" } : Jvm.MethodName)) ∈ lw_tbl := lw_at lw_m5 50 rfl
theorem q1144 : (Jvm.Cond.instanceMethod ({ cls := "HairRope$Village", name := "told", desc := "(LHairRope$Text;IIII)I" } : Jvm.MethodName)) ∈ lw_all := lw_g (lw_at lw_m5 51 rfl) rfl
theorem q1145 : (Jvm.Cond.code ({ cls := "HairRope$Village", name := "told", desc := "(LHairRope$Text;IIII)I" } : Jvm.MethodName) prog_16_method_10_code (6 : Nat) (Option.some Jvm.ClassFile.FieldType.int)) ∈ lw_all := lw_g (lw_at lw_m5 52 rfl) rfl
theorem q1146 : (Jvm.Cond.methodLink "HairRope$Village" (93 : Nat) ({ cls := "HairRope$Village", name := "strength", desc := "(LHairRope$Text;I)I" } : Jvm.MethodName)) ∈ lw_all := lw_g (lw_at lw_m5 53 rfl) rfl
theorem q1147 : (Jvm.Cond.instanceMethod ({ cls := "HairRope$Village", name := "strength", desc := "(LHairRope$Text;I)I" } : Jvm.MethodName)) ∈ lw_all := lw_g (lw_at lw_m5 54 rfl) rfl
theorem q1148 : (Jvm.Cond.selects "HairRope$Village" ({ cls := "HairRope$Village", name := "strength", desc := "(LHairRope$Text;I)I" } : Jvm.MethodName) ({ cls := "HairRope$Village", name := "strength", desc := "(LHairRope$Text;I)I" } : Jvm.MethodName)) ∈ lw_all := lw_g (lw_at lw_m5 55 rfl) rfl
theorem q1149 : (Jvm.Cond.code ({ cls := "HairRope$Village", name := "strength", desc := "(LHairRope$Text;I)I" } : Jvm.MethodName) prog_16_method_7_code (3 : Nat) (Option.some Jvm.ClassFile.FieldType.int)) ∈ lw_all := lw_g (lw_at lw_m5 56 rfl) rfl
theorem q1150 : (Jvm.Cond.methodLink "HairRope$Village" (84 : Nat) ({ cls := "HairRope$Village", name := "has", desc := "(I)Z" } : Jvm.MethodName)) ∈ lw_all := lw_g (lw_at lw_m5 57 rfl) rfl
theorem q1151 : (Jvm.Cond.instanceMethod ({ cls := "HairRope$Village", name := "has", desc := "(I)Z" } : Jvm.MethodName)) ∈ lw_all := lw_g (lw_at lw_m5 58 rfl) rfl
theorem q1152 : (Jvm.Cond.selects "HairRope$Village" ({ cls := "HairRope$Village", name := "has", desc := "(I)Z" } : Jvm.MethodName) ({ cls := "HairRope$Village", name := "has", desc := "(I)Z" } : Jvm.MethodName)) ∈ lw_all := lw_g (lw_at lw_m5 59 rfl) rfl
theorem q1153 : (Jvm.Cond.code ({ cls := "HairRope$Village", name := "has", desc := "(I)Z" } : Jvm.MethodName) prog_16_method_5_code (2 : Nat) (Option.some Jvm.ClassFile.FieldType.boolean)) ∈ lw_all := lw_g (lw_at lw_m5 60 rfl) rfl
theorem q1154 : (Jvm.Cond.methodLink "HairRope$Village" (97 : Nat) ({ cls := "HairRope$Village", name := "placeOf", desc := "(I)I" } : Jvm.MethodName)) ∈ lw_all := lw_g (lw_at lw_m5 61 rfl) rfl
theorem q1155 : (Jvm.Cond.methodLink "HairRope$Village" (101 : Nat) ({ cls := "java/lang/Math", name := "max", desc := "(II)I" } : Jvm.MethodName)) ∈ lw_all := lw_g (lw_at lw_m5 62 rfl) rfl
theorem q1156 : (Jvm.Cond.methodLink "HairRope$Village" (111 : Nat) ({ cls := "HairRope$Law", name := "of", desc := "(LHairRope$Asked;)I" } : Jvm.MethodName)) ∈ lw_all := lw_g (lw_at lw_m5 63 rfl) rfl
theorem q1174 : (Jvm.Cond.methodLink "HairRope$Village" (121 : Nat) ({ cls := "java/lang/Math", name := "min", desc := "(II)I" } : Jvm.MethodName)) ∈ lw_all := lw_g (lw_at lw_m5 81 rfl) rfl
theorem q1176 : (Jvm.Cond.instanceMethod ({ cls := "HairRope$Village", name := "weakens", desc := "(LHairRope$Text;I)I" } : Jvm.MethodName)) ∈ lw_all := lw_g (lw_at lw_m5 83 rfl) rfl
theorem q1177 : (Jvm.Cond.selects "HairRope$Village" ({ cls := "HairRope$Village", name := "weakens", desc := "(LHairRope$Text;I)I" } : Jvm.MethodName) ({ cls := "HairRope$Village", name := "weakens", desc := "(LHairRope$Text;I)I" } : Jvm.MethodName)) ∈ lw_all := lw_g (lw_at lw_m5 84 rfl) rfl
theorem q1178 : (Jvm.Cond.code ({ cls := "HairRope$Village", name := "weakens", desc := "(LHairRope$Text;I)I" } : Jvm.MethodName) prog_16_method_12_code (3 : Nat) (Option.some Jvm.ClassFile.FieldType.int)) ∈ lw_all := lw_g (lw_at lw_m5 85 rfl) rfl
theorem q1180 : (Jvm.Cond.instanceMethod ({ cls := "HairRope$Village", name := "costs", desc := "(LHairRope$Text;I)I" } : Jvm.MethodName)) ∈ lw_all := lw_g (lw_at lw_m5 87 rfl) rfl
theorem q1181 : (Jvm.Cond.selects "HairRope$Village" ({ cls := "HairRope$Village", name := "costs", desc := "(LHairRope$Text;I)I" } : Jvm.MethodName) ({ cls := "HairRope$Village", name := "costs", desc := "(LHairRope$Text;I)I" } : Jvm.MethodName)) ∈ lw_all := lw_g (lw_at lw_m5 88 rfl) rfl
theorem q1182 : (Jvm.Cond.code ({ cls := "HairRope$Village", name := "costs", desc := "(LHairRope$Text;I)I" } : Jvm.MethodName) prog_16_method_13_code (3 : Nat) (Option.some Jvm.ClassFile.FieldType.int)) ∈ lw_all := lw_g (lw_at lw_m5 89 rfl) rfl
theorem q1196 : (Jvm.Cond.instanceMethod ({ cls := "HairRope$Village", name := "joins", desc := "(LHairRope$Text;III)I" } : Jvm.MethodName)) ∈ lw_all := lw_g (lw_at lw_m5 103 rfl) rfl
theorem q1197 : (Jvm.Cond.selects "HairRope$Village" ({ cls := "HairRope$Village", name := "joins", desc := "(LHairRope$Text;III)I" } : Jvm.MethodName) ({ cls := "HairRope$Village", name := "joins", desc := "(LHairRope$Text;III)I" } : Jvm.MethodName)) ∈ lw_all := lw_g (lw_at lw_m5 104 rfl) rfl
theorem q1198 : (Jvm.Cond.code ({ cls := "HairRope$Village", name := "joins", desc := "(LHairRope$Text;III)I" } : Jvm.MethodName) prog_16_method_14_code (5 : Nat) (Option.some Jvm.ClassFile.FieldType.int)) ∈ lw_all := lw_g (lw_at lw_m5 105 rfl) rfl
theorem q1217 : (Jvm.Cond.instanceMethod ({ cls := "HairRope$Village", name := "becomes", desc := "(LHairRope$Village;)V" } : Jvm.MethodName)) ∈ lw_all := lw_g (lw_at lw_m5 124 rfl) rfl
theorem q1218 : (Jvm.Cond.selects "HairRope$Village" ({ cls := "HairRope$Village", name := "becomes", desc := "(LHairRope$Village;)V" } : Jvm.MethodName) ({ cls := "HairRope$Village", name := "becomes", desc := "(LHairRope$Village;)V" } : Jvm.MethodName)) ∈ lw_all := lw_g (lw_at lw_m5 125 rfl) rfl
theorem q1219 : (Jvm.Cond.code ({ cls := "HairRope$Village", name := "becomes", desc := "(LHairRope$Village;)V" } : Jvm.MethodName) prog_16_method_4_code (2 : Nat) (Option.none : Option Jvm.ClassFile.FieldType)) ∈ lw_all := lw_g (lw_at lw_m5 126 rfl) rfl
theorem q1220 : (Jvm.Cond.methodLink "HairRope$Village" (80 : Nat) ({ cls := "HairRope$Village", name := "copies", desc := "([I[I)V" } : Jvm.MethodName)) ∈ lw_all := lw_g (lw_at lw_m5 127 rfl) rfl
theorem q1221 : (Jvm.Cond.static ({ cls := "HairRope$Village", name := "copies", desc := "([I[I)V" } : Jvm.MethodName)) ∈ lw_all := lw_g (lw_at lw_m5 128 rfl) rfl
theorem q1222 : (Jvm.Cond.code ({ cls := "HairRope$Village", name := "copies", desc := "([I[I)V" } : Jvm.MethodName) prog_16_method_3_code (2 : Nat) (Option.none : Option Jvm.ClassFile.FieldType)) ∈ lw_all := lw_g (lw_at lw_m5 129 rfl) rfl
theorem q1223 : (Jvm.Cond.methodLink "HairRope$Village" (74 : Nat) ({ cls := "java/lang/System", name := "arraycopy", desc := "(Ljava/lang/Object;ILjava/lang/Object;II)V" } : Jvm.MethodName)) ∈ lw_all := lw_g (lw_at lw_m5 130 rfl) rfl
theorem q1226 : (Jvm.Cond.instanceMethod ({ cls := "HairRope$Village", name := "splices", desc := "(LHairRope$Text;I)V" } : Jvm.MethodName)) ∈ lw_all := lw_g (lw_at lw_m5 133 rfl) rfl
theorem q1227 : (Jvm.Cond.selects "HairRope$Village" ({ cls := "HairRope$Village", name := "splices", desc := "(LHairRope$Text;I)V" } : Jvm.MethodName) ({ cls := "HairRope$Village", name := "splices", desc := "(LHairRope$Text;I)V" } : Jvm.MethodName)) ∈ lw_all := lw_g (lw_at lw_m5 134 rfl) rfl
theorem q1228 : (Jvm.Cond.code ({ cls := "HairRope$Village", name := "splices", desc := "(LHairRope$Text;I)V" } : Jvm.MethodName) prog_16_method_15_code (3 : Nat) (Option.none : Option Jvm.ClassFile.FieldType)) ∈ lw_all := lw_g (lw_at lw_m5 135 rfl) rfl
theorem q1230 : (Jvm.Cond.instanceMethod ({ cls := "HairRope$Village", name := "ropeLong", desc := "()I" } : Jvm.MethodName)) ∈ lw_all := lw_g (lw_at lw_m5 137 rfl) rfl
theorem q1231 : (Jvm.Cond.selects "HairRope$Village" ({ cls := "HairRope$Village", name := "ropeLong", desc := "()I" } : Jvm.MethodName) ({ cls := "HairRope$Village", name := "ropeLong", desc := "()I" } : Jvm.MethodName)) ∈ lw_all := lw_g (lw_at lw_m5 138 rfl) rfl
theorem q1232 : (Jvm.Cond.code ({ cls := "HairRope$Village", name := "ropeLong", desc := "()I" } : Jvm.MethodName) prog_16_method_9_code (3 : Nat) (Option.some Jvm.ClassFile.FieldType.int)) ∈ lw_all := lw_g (lw_at lw_m5 139 rfl) rfl
theorem q1238 : (Jvm.Cond.instanceMethod ({ cls := "HairRope$Village", name := "loses", desc := "(I)V" } : Jvm.MethodName)) ∈ lw_all := lw_g (lw_at lw_m5 145 rfl) rfl
theorem q1239 : (Jvm.Cond.selects "HairRope$Village" ({ cls := "HairRope$Village", name := "loses", desc := "(I)V" } : Jvm.MethodName) ({ cls := "HairRope$Village", name := "loses", desc := "(I)V" } : Jvm.MethodName)) ∈ lw_all := lw_g (lw_at lw_m5 146 rfl) rfl
theorem q1240 : (Jvm.Cond.code ({ cls := "HairRope$Village", name := "loses", desc := "(I)V" } : Jvm.MethodName) prog_16_method_16_code (2 : Nat) (Option.none : Option Jvm.ClassFile.FieldType)) ∈ lw_all := lw_g (lw_at lw_m5 147 rfl) rfl
theorem q1253 : (Jvm.Cond.instanceMethod ({ cls := "HairRope$Village", name := "breaksAt", desc := "(LHairRope$Text;I)I" } : Jvm.MethodName)) ∈ lw_all := lw_g (lw_at lw_m5 160 rfl) rfl
theorem q1254 : (Jvm.Cond.selects "HairRope$Village" ({ cls := "HairRope$Village", name := "breaksAt", desc := "(LHairRope$Text;I)I" } : Jvm.MethodName) ({ cls := "HairRope$Village", name := "breaksAt", desc := "(LHairRope$Text;I)I" } : Jvm.MethodName)) ∈ lw_all := lw_g (lw_at lw_m5 161 rfl) rfl
theorem q1255 : (Jvm.Cond.code ({ cls := "HairRope$Village", name := "breaksAt", desc := "(LHairRope$Text;I)I" } : Jvm.MethodName) prog_16_method_18_code (6 : Nat) (Option.some Jvm.ClassFile.FieldType.int)) ∈ lw_all := lw_g (lw_at lw_m5 162 rfl) rfl
theorem q1256 : (Jvm.Cond.methodLink "HairRope$Village" (124 : Nat) ({ cls := "HairRope$Village", name := "below", desc := "(I)I" } : Jvm.MethodName)) ∈ lw_all := lw_g (lw_at lw_m5 163 rfl) rfl
theorem q1257 : (Jvm.Cond.instanceMethod ({ cls := "HairRope$Village", name := "below", desc := "(I)I" } : Jvm.MethodName)) ∈ lw_all := lw_g (lw_at lw_m5 164 rfl) rfl
theorem q1258 : (Jvm.Cond.selects "HairRope$Village" ({ cls := "HairRope$Village", name := "below", desc := "(I)I" } : Jvm.MethodName) ({ cls := "HairRope$Village", name := "below", desc := "(I)I" } : Jvm.MethodName)) ∈ lw_all := lw_g (lw_at lw_m5 165 rfl) rfl
theorem q1259 : (Jvm.Cond.code ({ cls := "HairRope$Village", name := "below", desc := "(I)I" } : Jvm.MethodName) prog_16_method_17_code (4 : Nat) (Option.some Jvm.ClassFile.FieldType.int)) ∈ lw_all := lw_g (lw_at lw_m5 166 rfl) rfl
theorem q1260 : (Jvm.Cond.methodLink "HairRope$Village" (131 : Nat) ({ cls := "HairRope$Village", name := "joins", desc := "(LHairRope$Text;III)I" } : Jvm.MethodName)) ∈ lw_all := lw_g (lw_at lw_m5 167 rfl) rfl
theorem q1273 : (Jvm.Cond.instanceMethod ({ cls := "HairRope$Village", name := "goesBy", desc := "(LHairRope$Text;LHairRope$Sky;)V" } : Jvm.MethodName)) ∈ lw_all := lw_g (lw_at lw_m5 180 rfl) rfl
theorem q1274 : (Jvm.Cond.selects "HairRope$Village" ({ cls := "HairRope$Village", name := "goesBy", desc := "(LHairRope$Text;LHairRope$Sky;)V" } : Jvm.MethodName) ({ cls := "HairRope$Village", name := "goesBy", desc := "(LHairRope$Text;LHairRope$Sky;)V" } : Jvm.MethodName)) ∈ lw_all := lw_g (lw_at lw_m5 181 rfl) rfl
theorem q1275 : (Jvm.Cond.code ({ cls := "HairRope$Village", name := "goesBy", desc := "(LHairRope$Text;LHairRope$Sky;)V" } : Jvm.MethodName) prog_16_method_19_code (5 : Nat) (Option.none : Option Jvm.ClassFile.FieldType)) ∈ lw_all := lw_g (lw_at lw_m5 182 rfl) rfl
theorem q1276 : (Jvm.Cond.methodLink "HairRope$Village" (135 : Nat) ({ cls := "HairRope$Village", name := "grows", desc := "(LHairRope$Text;I)I" } : Jvm.MethodName)) ∈ lw_all := lw_g (lw_at lw_m5 183 rfl) rfl
theorem q1277 : (Jvm.Cond.methodLink "HairRope$Village" (138 : Nat) ({ cls := "HairRope$Village", name := "weakens", desc := "(LHairRope$Text;I)I" } : Jvm.MethodName)) ∈ lw_all := lw_g (lw_at lw_m5 184 rfl) rfl
theorem q1278 : (Jvm.Cond.methodLink "HairRope$Village" (141 : Nat) ({ cls := "HairRope$Sky", name := "blights", desc := "(LHairRope$Village;LHairRope$Text;I)Z" } : Jvm.MethodName)) ∈ lw_all := lw_g (lw_at lw_m5 185 rfl) rfl
theorem q1375 : (Jvm.Cond.instanceMethod ({ cls := "HairRope$Village", name := "longOf", desc := "(I)I" } : Jvm.MethodName)) ∈ lw_all := lw_g (lw_at lw_m6 42 rfl) rfl
theorem q1376 : (Jvm.Cond.selects "HairRope$Village" ({ cls := "HairRope$Village", name := "longOf", desc := "(I)I" } : Jvm.MethodName) ({ cls := "HairRope$Village", name := "longOf", desc := "(I)I" } : Jvm.MethodName)) ∈ lw_all := lw_g (lw_at lw_m6 43 rfl) rfl
theorem q1377 : (Jvm.Cond.code ({ cls := "HairRope$Village", name := "longOf", desc := "(I)I" } : Jvm.MethodName) prog_16_method_8_code (2 : Nat) (Option.some Jvm.ClassFile.FieldType.int)) ∈ lw_all := lw_g (lw_at lw_m6 44 rfl) rfl
theorem q2227 : (Jvm.Cond.castable "HairRope$Village" "java/lang/Object") ∈ lw_tbl := lw_at lw_m9 174 rfl
theorem in_X5 : ∀ w ∈ wsX50, w ∈ lw_all := lw_in wsX50 [462, 464, 466, 468, 470, 472, 474, 476, 478, 480, 482, 484] (by decide +kernel) (by decide +kernel)

/-! HairRope$Asked -/
def RX6 : String := "HairRope$Asked"
def TX6 : u_T := fun k => match k with
  | 0 => ("HairRope$Asked", "v", "[I", true)
  | _ => ("HairRope$Asked", "nought", "Z", false)
def tyX6 : Nat → FieldType := fun k => match k with
  | 0 => .array .int
  | _ => .boolean
abbrev wsX60 : List Cond := u_ws RX6 TX6 2
theorem nmX6 : ∀ a, a < 2 → ∀ b, b < 2 → a ≠ b → (TX6 a).2.1 ≠ (TX6 b).2.1 := by decide +kernel
theorem tyX6_ok : ∀ k, k < 2 → parseFieldDescriptor (TX6 k).2.2.1 = some (tyX6 k) := by decide +kernel
abbrev cX6_init : ByteArray := prog_2_method_1_code
def yX6_init : MethodName := ⟨RX6, "<init>", "()V"⟩
theorem q146 : (Jvm.Cond.initialized "HairRope$Asked") ∈ lw_all := lw_g (lw_at lw_m1 13 rfl) rfl
theorem q424 : (Jvm.Cond.instantiable "HairRope$Asked" (2 : Nat)) ∈ lw_all := lw_g (lw_at lw_m2 51 rfl) rfl
theorem q426 : (Jvm.Cond.instanceMethod ({ cls := "HairRope$Asked", name := "<init>", desc := "()V" } : Jvm.MethodName)) ∈ lw_all := lw_g (lw_at lw_m2 53 rfl) rfl
theorem q427 : (Jvm.Cond.code ({ cls := "HairRope$Asked", name := "<init>", desc := "()V" } : Jvm.MethodName) prog_2_method_1_code (1 : Nat) (Option.none : Option Jvm.ClassFile.FieldType)) ∈ lw_all := lw_g (lw_at lw_m2 54 rfl) rfl
theorem q428 : (Jvm.Cond.methodLink "HairRope$Asked" (1 : Nat) ({ cls := "java/lang/Object", name := "<init>", desc := "()V" } : Jvm.MethodName)) ∈ lw_all := lw_g (lw_at lw_m2 55 rfl) rfl
theorem q429 : (Jvm.Cond.fieldLink "HairRope$Asked" (7 : Nat) "HairRope$Asked" "v" "[I") ∈ lw_all := lw_g (lw_at lw_m2 56 rfl) rfl
theorem q434 : (Jvm.Cond.laysFinal "HairRope$Asked" "HairRope$Asked" "v" "[I") ∈ lw_all := lw_g (lw_at lw_m2 61 rfl) rfl
theorem q435 : (Jvm.Cond.soleField "HairRope$Asked" "v") ∈ lw_all := lw_g (lw_at lw_m2 62 rfl) rfl
theorem q436 : (Jvm.Cond.lays "HairRope$Asked" "HairRope$Asked" "nought" "Z") ∈ lw_all := lw_g (lw_at lw_m2 63 rfl) rfl
theorem q437 : (Jvm.Cond.soleField "HairRope$Asked" "nought") ∈ lw_all := lw_g (lw_at lw_m2 64 rfl) rfl
theorem q438 : (Jvm.Cond.superclass "HairRope$Asked" "java/lang/Object") ∈ lw_all := lw_g (lw_at lw_m2 65 rfl) rfl
theorem q1081 : (Jvm.Cond.selects "HairRope$Asked" ({ cls := "java/lang/Object", name := "getClass", desc := "()Ljava/lang/Class;" } : Jvm.MethodName) ({ cls := "java/lang/Object", name := "getClass", desc := "()Ljava/lang/Class;" } : Jvm.MethodName)) ∈ lw_all := lw_g (lw_at lw_m4 228 rfl) rfl
theorem q2235 : (Jvm.Cond.castable "HairRope$Asked" "java/lang/Object") ∈ lw_tbl := lw_at lw_m9 182 rfl
theorem in_X6 : ∀ w ∈ wsX60, w ∈ lw_all := lw_in wsX60 [434, 436] (by decide +kernel) (by decide +kernel)

/-! HairRope$Sky -/
def RX7 : String := "HairRope$Sky"
abbrev cX7_init : ByteArray := prog_11_method_1_code
def yX7_init : MethodName := ⟨RX7, "<init>", "()V"⟩
theorem q147 : (Jvm.Cond.initialized "HairRope$Sky") ∈ lw_all := lw_g (lw_at lw_m1 14 rfl) rfl
theorem q494 : (Jvm.Cond.instanceMethod ({ cls := "HairRope$Sky", name := "<init>", desc := "()V" } : Jvm.MethodName)) ∈ lw_all := lw_g (lw_at lw_m2 121 rfl) rfl
theorem q495 : (Jvm.Cond.code ({ cls := "HairRope$Sky", name := "<init>", desc := "()V" } : Jvm.MethodName) prog_11_method_1_code (1 : Nat) (Option.none : Option Jvm.ClassFile.FieldType)) ∈ lw_all := lw_g (lw_at lw_m2 122 rfl) rfl
theorem q496 : (Jvm.Cond.methodLink "HairRope$Sky" (1 : Nat) ({ cls := "java/lang/Object", name := "<init>", desc := "()V" } : Jvm.MethodName)) ∈ lw_all := lw_g (lw_at lw_m2 123 rfl) rfl
theorem q1279 : (Jvm.Cond.declares ({ cls := "HairRope$Sky", name := "blights", desc := "(LHairRope$Village;LHairRope$Text;I)Z" } : Jvm.MethodName)) ∈ lw_tbl := lw_at lw_m5 186 rfl
theorem q1280 : (Jvm.Cond.sameMethod "HairRope$Sky" "HairRope$Sky" "blights" "(LHairRope$Village;LHairRope$Text;I)Z") ∈ lw_all := lw_g (lw_at lw_m5 187 rfl) rfl

/-! HairRope$Drawn -/
def RX8 : String := "HairRope$Drawn"
abbrev cX8_init : ByteArray := prog_4_method_1_code
def yX8_init : MethodName := ⟨RX8, "<init>", "()V"⟩
abbrev cX8_blights : ByteArray := prog_4_method_2_code
def yX8_blights : MethodName := ⟨RX8, "blights", "(LHairRope$Village;LHairRope$Text;I)Z"⟩
theorem q148 : (Jvm.Cond.initialized "HairRope$Drawn") ∈ lw_all := lw_g (lw_at lw_m1 15 rfl) rfl
theorem q394 : (Jvm.Cond.fieldLink "HairRope$Drawn" (22 : Nat) "HairRope$Text" "blight" "I") ∈ lw_all := lw_g (lw_at lw_m2 21 rfl) rfl
theorem q451 : (Jvm.Cond.fieldLink "HairRope$Drawn" (13 : Nat) "HairRope$Village" "year" "I") ∈ lw_all := lw_g (lw_at lw_m2 78 rfl) rfl
theorem q456 : (Jvm.Cond.fieldLink "HairRope$Drawn" (7 : Nat) "HairRope$Village" "seed" "I") ∈ lw_all := lw_g (lw_at lw_m2 83 rfl) rfl
theorem q489 : (Jvm.Cond.instantiable "HairRope$Drawn" (0 : Nat)) ∈ lw_all := lw_g (lw_at lw_m2 116 rfl) rfl
theorem q491 : (Jvm.Cond.instanceMethod ({ cls := "HairRope$Drawn", name := "<init>", desc := "()V" } : Jvm.MethodName)) ∈ lw_all := lw_g (lw_at lw_m2 118 rfl) rfl
theorem q492 : (Jvm.Cond.code ({ cls := "HairRope$Drawn", name := "<init>", desc := "()V" } : Jvm.MethodName) prog_4_method_1_code (1 : Nat) (Option.none : Option Jvm.ClassFile.FieldType)) ∈ lw_all := lw_g (lw_at lw_m2 119 rfl) rfl
theorem q493 : (Jvm.Cond.methodLinkNest "HairRope$Drawn" (1 : Nat) ({ cls := "HairRope$Sky", name := "<init>", desc := "()V" } : Jvm.MethodName) "HairRope") ∈ lw_tbl := lw_at lw_m2 120 rfl
theorem q497 : (Jvm.Cond.superclass "HairRope$Drawn" "HairRope$Sky") ∈ lw_all := lw_g (lw_at lw_m2 124 rfl) rfl
theorem q1083 : (Jvm.Cond.selects "HairRope$Drawn" ({ cls := "java/lang/Object", name := "getClass", desc := "()Ljava/lang/Class;" } : Jvm.MethodName) ({ cls := "java/lang/Object", name := "getClass", desc := "()Ljava/lang/Class;" } : Jvm.MethodName)) ∈ lw_all := lw_g (lw_at lw_m4 230 rfl) rfl
theorem q1284 : (Jvm.Cond.selects "HairRope$Drawn" ({ cls := "HairRope$Sky", name := "blights", desc := "(LHairRope$Village;LHairRope$Text;I)Z" } : Jvm.MethodName) ({ cls := "HairRope$Drawn", name := "blights", desc := "(LHairRope$Village;LHairRope$Text;I)Z" } : Jvm.MethodName)) ∈ lw_all := lw_g (lw_at lw_m5 191 rfl) rfl
theorem q1285 : (Jvm.Cond.instanceMethod ({ cls := "HairRope$Drawn", name := "blights", desc := "(LHairRope$Village;LHairRope$Text;I)Z" } : Jvm.MethodName)) ∈ lw_all := lw_g (lw_at lw_m5 192 rfl) rfl
theorem q1286 : (Jvm.Cond.code ({ cls := "HairRope$Drawn", name := "blights", desc := "(LHairRope$Village;LHairRope$Text;I)Z" } : Jvm.MethodName) prog_4_method_2_code (4 : Nat) (Option.some Jvm.ClassFile.FieldType.boolean)) ∈ lw_all := lw_g (lw_at lw_m5 193 rfl) rfl
theorem q1287 : (Jvm.Cond.methodLinkNest "HairRope$Drawn" (16 : Nat) ({ cls := "HairRope", name := "lot", desc := "(III)I" } : Jvm.MethodName) "HairRope") ∈ lw_tbl := lw_at lw_m5 194 rfl
theorem q2236 : (Jvm.Cond.castable "HairRope$Drawn" "java/lang/Object") ∈ lw_tbl := lw_at lw_m9 183 rfl

/-! HairRope$Clear -/
def RX9 : String := "HairRope$Clear"
abbrev cX9_init : ByteArray := prog_3_method_1_code
def yX9_init : MethodName := ⟨RX9, "<init>", "()V"⟩
abbrev cX9_blights : ByteArray := prog_3_method_2_code
def yX9_blights : MethodName := ⟨RX9, "blights", "(LHairRope$Village;LHairRope$Text;I)Z"⟩
theorem q149 : (Jvm.Cond.initialized "HairRope$Clear") ∈ lw_all := lw_g (lw_at lw_m1 16 rfl) rfl
theorem q499 : (Jvm.Cond.instantiable "HairRope$Clear" (0 : Nat)) ∈ lw_all := lw_g (lw_at lw_m2 126 rfl) rfl
theorem q501 : (Jvm.Cond.instanceMethod ({ cls := "HairRope$Clear", name := "<init>", desc := "()V" } : Jvm.MethodName)) ∈ lw_all := lw_g (lw_at lw_m2 128 rfl) rfl
theorem q502 : (Jvm.Cond.code ({ cls := "HairRope$Clear", name := "<init>", desc := "()V" } : Jvm.MethodName) prog_3_method_1_code (1 : Nat) (Option.none : Option Jvm.ClassFile.FieldType)) ∈ lw_all := lw_g (lw_at lw_m2 129 rfl) rfl
theorem q503 : (Jvm.Cond.methodLinkNest "HairRope$Clear" (1 : Nat) ({ cls := "HairRope$Sky", name := "<init>", desc := "()V" } : Jvm.MethodName) "HairRope") ∈ lw_tbl := lw_at lw_m2 130 rfl
theorem q504 : (Jvm.Cond.superclass "HairRope$Clear" "HairRope$Sky") ∈ lw_all := lw_g (lw_at lw_m2 131 rfl) rfl
theorem q1082 : (Jvm.Cond.selects "HairRope$Clear" ({ cls := "java/lang/Object", name := "getClass", desc := "()Ljava/lang/Class;" } : Jvm.MethodName) ({ cls := "java/lang/Object", name := "getClass", desc := "()Ljava/lang/Class;" } : Jvm.MethodName)) ∈ lw_all := lw_g (lw_at lw_m4 229 rfl) rfl
theorem q1281 : (Jvm.Cond.selects "HairRope$Clear" ({ cls := "HairRope$Sky", name := "blights", desc := "(LHairRope$Village;LHairRope$Text;I)Z" } : Jvm.MethodName) ({ cls := "HairRope$Clear", name := "blights", desc := "(LHairRope$Village;LHairRope$Text;I)Z" } : Jvm.MethodName)) ∈ lw_all := lw_g (lw_at lw_m5 188 rfl) rfl
theorem q1282 : (Jvm.Cond.instanceMethod ({ cls := "HairRope$Clear", name := "blights", desc := "(LHairRope$Village;LHairRope$Text;I)Z" } : Jvm.MethodName)) ∈ lw_all := lw_g (lw_at lw_m5 189 rfl) rfl
theorem q1283 : (Jvm.Cond.code ({ cls := "HairRope$Clear", name := "blights", desc := "(LHairRope$Village;LHairRope$Text;I)Z" } : Jvm.MethodName) prog_3_method_2_code (4 : Nat) (Option.some Jvm.ClassFile.FieldType.boolean)) ∈ lw_all := lw_g (lw_at lw_m5 190 rfl) rfl
theorem q2237 : (Jvm.Cond.castable "HairRope$Clear" "java/lang/Object") ∈ lw_tbl := lw_at lw_m9 184 rfl

theorem q133 : (Jvm.Cond.initialized "HairRopeLaw") ∈ lw_all := lw_g (lw_at lw_m1 0 rfl) rfl
theorem q169 : (Jvm.Cond.classLink "HairRopeLaw" (7 : Nat) "HairRope") ∈ lw_all := lw_g (lw_at lw_m1 36 rfl) rfl
theorem q171 : (Jvm.Cond.methodLink "HairRopeLaw" (9 : Nat) ({ cls := "HairRope", name := "<init>", desc := "()V" } : Jvm.MethodName)) ∈ lw_all := lw_g (lw_at lw_m1 38 rfl) rfl
theorem q612 : (Jvm.Cond.methodLink "HairRopeLaw" (13 : Nat) ({ cls := "HairRope", name := "feed", desc := "(IIIII)I" } : Jvm.MethodName)) ∈ lw_all := lw_g (lw_at lw_m2 239 rfl) rfl
theorem q620 : (Jvm.Cond.methodLink "HairRopeLaw" (18 : Nat) ({ cls := "HairRope", name := "back", desc := "(I)I" } : Jvm.MethodName)) ∈ lw_all := lw_g (lw_at lw_m3 7 rfl) rfl
theorem q624 : (Jvm.Cond.methodLink "HairRopeLaw" (23 : Nat) ({ cls := "HairRope", name := "read", desc := "()I" } : Jvm.MethodName)) ∈ lw_all := lw_g (lw_at lw_m3 11 rfl) rfl
theorem q1112 : (Jvm.Cond.methodLink "HairRopeLaw" (28 : Nat) ({ cls := "HairRope", name := "place", desc := "()I" } : Jvm.MethodName)) ∈ lw_all := lw_g (lw_at lw_m5 19 rfl) rfl
theorem q1116 : (Jvm.Cond.methodLink "HairRopeLaw" (32 : Nat) ({ cls := "HairRope", name := "house", desc := "(II)I" } : Jvm.MethodName)) ∈ lw_all := lw_g (lw_at lw_m5 23 rfl) rfl
theorem q1183 : (Jvm.Cond.methodLink "HairRopeLaw" (37 : Nat) ({ cls := "HairRope", name := "likes", desc := "(II)I" } : Jvm.MethodName)) ∈ lw_all := lw_g (lw_at lw_m5 90 rfl) rfl
theorem q1191 : (Jvm.Cond.methodLink "HairRopeLaw" (41 : Nat) ({ cls := "HairRope", name := "joins", desc := "(II)I" } : Jvm.MethodName)) ∈ lw_all := lw_g (lw_at lw_m5 98 rfl) rfl
theorem q1199 : (Jvm.Cond.methodLink "HairRopeLaw" (45 : Nat) ({ cls := "HairRope", name := "at", desc := "(I)I" } : Jvm.MethodName)) ∈ lw_all := lw_g (lw_at lw_m5 106 rfl) rfl
theorem q1207 : (Jvm.Cond.methodLink "HairRopeLaw" (49 : Nat) ({ cls := "HairRope", name := "splice", desc := "(I)I" } : Jvm.MethodName)) ∈ lw_all := lw_g (lw_at lw_m5 114 rfl) rfl
theorem q1233 : (Jvm.Cond.methodLink "HairRopeLaw" (53 : Nat) ({ cls := "HairRope", name := "unsplice", desc := "()I" } : Jvm.MethodName)) ∈ lw_all := lw_g (lw_at lw_m5 140 rfl) rfl
theorem q1241 : (Jvm.Cond.methodLink "HairRopeLaw" (57 : Nat) ({ cls := "HairRope", name := "haul", desc := "(I)I" } : Jvm.MethodName)) ∈ lw_all := lw_g (lw_at lw_m5 148 rfl) rfl
theorem q1261 : (Jvm.Cond.methodLink "HairRopeLaw" (61 : Nat) ({ cls := "HairRope", name := "years", desc := "(I)I" } : Jvm.MethodName)) ∈ lw_all := lw_g (lw_at lw_m5 168 rfl) rfl
theorem q1294 : (Jvm.Cond.methodLink "HairRopeLaw" (65 : Nat) ({ cls := "HairRope", name := "undo", desc := "()Z" } : Jvm.MethodName)) ∈ lw_all := lw_g (lw_at lw_m5 201 rfl) rfl
theorem q1298 : (Jvm.Cond.methodLink "HairRopeLaw" (70 : Nat) ({ cls := "HairRope", name := "most", desc := "()I" } : Jvm.MethodName)) ∈ lw_all := lw_g (lw_at lw_m5 205 rfl) rfl
theorem q1306 : (Jvm.Cond.methodLink "HairRopeLaw" (118 : Nat) ({ cls := "HairRope", name := "lasts", desc := "(I)I" } : Jvm.MethodName)) ∈ lw_all := lw_g (lw_at lw_m5 213 rfl) rfl
theorem q1310 : (Jvm.Cond.methodLink "HairRopeLaw" (122 : Nat) ({ cls := "HairRope", name := "harvest", desc := "(III)I" } : Jvm.MethodName)) ∈ lw_all := lw_g (lw_at lw_m5 217 rfl) rfl
theorem q1318 : (Jvm.Cond.methodLink "HairRopeLaw" (127 : Nat) ({ cls := "HairRope", name := "swap", desc := "()I" } : Jvm.MethodName)) ∈ lw_all := lw_g (lw_at lw_m5 225 rfl) rfl
theorem q1323 : (Jvm.Cond.methodLink "HairRopeLaw" (131 : Nat) ({ cls := "HairRope", name := "quarrel", desc := "(I)I" } : Jvm.MethodName)) ∈ lw_all := lw_g (lw_at lw_m5 230 rfl) rfl
theorem q1332 : (Jvm.Cond.methodLink "HairRopeLaw" (74 : Nat) ({ cls := "HairRope", name := "weakest", desc := "(I)I" } : Jvm.MethodName)) ∈ lw_all := lw_g (lw_at lw_m5 239 rfl) rfl
theorem q1337 : (Jvm.Cond.methodLink "HairRopeLaw" (78 : Nat) ({ cls := "HairRope", name := "below", desc := "(I)I" } : Jvm.MethodName)) ∈ lw_all := lw_g (lw_at lw_m6 4 rfl) rfl
theorem q1342 : (Jvm.Cond.methodLink "HairRopeLaw" (114 : Nat) ({ cls := "HairRope", name := "share", desc := "(I)I" } : Jvm.MethodName)) ∈ lw_all := lw_g (lw_at lw_m6 9 rfl) rfl
theorem q1346 : (Jvm.Cond.methodLink "HairRopeLaw" (135 : Nat) ({ cls := "HairRope", name := "greyest", desc := "(I)I" } : Jvm.MethodName)) ∈ lw_all := lw_g (lw_at lw_m6 13 rfl) rfl
theorem q1350 : (Jvm.Cond.methodLink "HairRopeLaw" (82 : Nat) ({ cls := "HairRope", name := "orders", desc := "(I)I" } : Jvm.MethodName)) ∈ lw_all := lw_g (lw_at lw_m6 17 rfl) rfl
theorem q1387 : (Jvm.Cond.methodLink "HairRopeLaw" (86 : Nat) ({ cls := "HairRope", name := "peak", desc := "()I" } : Jvm.MethodName)) ∈ lw_all := lw_g (lw_at lw_m6 54 rfl) rfl
theorem q1391 : (Jvm.Cond.methodLink "HairRopeLaw" (90 : Nat) ({ cls := "HairRope", name := "fewest", desc := "(II)I" } : Jvm.MethodName)) ∈ lw_all := lw_g (lw_at lw_m6 58 rfl) rfl
theorem q1410 : (Jvm.Cond.methodLink "HairRopeLaw" (94 : Nat) ({ cls := "HairRope", name := "needed", desc := "(I)I" } : Jvm.MethodName)) ∈ lw_all := lw_g (lw_at lw_m6 77 rfl) rfl
theorem q1414 : (Jvm.Cond.methodLink "HairRopeLaw" (98 : Nat) ({ cls := "HairRope", name := "soon", desc := "(I)I" } : Jvm.MethodName)) ∈ lw_all := lw_g (lw_at lw_m6 81 rfl) rfl
theorem q1418 : (Jvm.Cond.methodLink "HairRopeLaw" (102 : Nat) ({ cls := "HairRope", name := "peace", desc := "(II)I" } : Jvm.MethodName)) ∈ lw_all := lw_g (lw_at lw_m6 85 rfl) rfl
theorem q1437 : (Jvm.Cond.methodLink "HairRopeLaw" (106 : Nat) ({ cls := "HairRope", name := "rests", desc := "(I)I" } : Jvm.MethodName)) ∈ lw_all := lw_g (lw_at lw_m6 104 rfl) rfl
theorem q1457 : (Jvm.Cond.methodLink "HairRopeLaw" (110 : Nat) ({ cls := "HairRope", name := "pivots", desc := "()I" } : Jvm.MethodName)) ∈ lw_all := lw_g (lw_at lw_m6 124 rfl) rfl
theorem q1461 : (Jvm.Cond.methodLink "HairRopeLaw" (139 : Nat) ({ cls := "HairRope", name := "then", desc := "(III)I" } : Jvm.MethodName)) ∈ lw_all := lw_g (lw_at lw_m6 128 rfl) rfl
theorem q1465 : (Jvm.Cond.methodLink "HairRopeLaw" (143 : Nat) ({ cls := "HairRope", name := "year", desc := "(IIII)I" } : Jvm.MethodName)) ∈ lw_all := lw_g (lw_at lw_m6 132 rfl) rfl
theorem q1469 : (Jvm.Cond.methodLink "HairRopeLaw" (148 : Nat) ({ cls := "HairRope", name := "tell", desc := "(IIZ)I" } : Jvm.MethodName)) ∈ lw_all := lw_g (lw_at lw_m6 136 rfl) rfl
theorem q1473 : (Jvm.Cond.methodLink "HairRopeLaw" (153 : Nat) ({ cls := "HairRope", name := "forget", desc := "()I" } : Jvm.MethodName)) ∈ lw_all := lw_g (lw_at lw_m6 140 rfl) rfl
theorem q1477 : (Jvm.Cond.methodLink "HairRopeLaw" (157 : Nat) ({ cls := "HairRope", name := "rows", desc := "(III)I" } : Jvm.MethodName)) ∈ lw_all := lw_g (lw_at lw_m6 144 rfl) rfl
theorem q1493 : (Jvm.Cond.methodLink "HairRopeLaw" (161 : Nat) ({ cls := "HairRope", name := "feel", desc := "(III)I" } : Jvm.MethodName)) ∈ lw_all := lw_g (lw_at lw_m6 160 rfl) rfl
theorem q1497 : (Jvm.Cond.methodLink "HairRopeLaw" (165 : Nat) ({ cls := "HairRope", name := "hold", desc := "(I)Z" } : Jvm.MethodName)) ∈ lw_all := lw_g (lw_at lw_m6 164 rfl) rfl
theorem q1501 : (Jvm.Cond.methodLink "HairRopeLaw" (170 : Nat) ({ cls := "HairRope", name := "restore", desc := "(I)Z" } : Jvm.MethodName)) ∈ lw_all := lw_g (lw_at lw_m6 168 rfl) rfl
theorem q1505 : (Jvm.Cond.methodLink "HairRopeLaw" (174 : Nat) ({ cls := "HairRope", name := "count", desc := "(I)I" } : Jvm.MethodName)) ∈ lw_all := lw_g (lw_at lw_m6 172 rfl) rfl
theorem q1509 : (Jvm.Cond.classLink "HairRopeLaw" (10 : Nat) "HairRopeModel") ∈ lw_all := lw_g (lw_at lw_m6 176 rfl) rfl
theorem q1511 : (Jvm.Cond.methodLink "HairRopeLaw" (12 : Nat) ({ cls := "HairRopeModel", name := "<init>", desc := "()V" } : Jvm.MethodName)) ∈ lw_all := lw_g (lw_at lw_m6 178 rfl) rfl
theorem q1748 : (Jvm.Cond.methodLink "HairRopeLaw" (17 : Nat) ({ cls := "HairRopeModel", name := "feed", desc := "(IIIII)I" } : Jvm.MethodName)) ∈ lw_all := lw_g (lw_at lw_m7 175 rfl) rfl
theorem q1756 : (Jvm.Cond.methodLink "HairRopeLaw" (22 : Nat) ({ cls := "HairRopeModel", name := "back", desc := "(I)I" } : Jvm.MethodName)) ∈ lw_all := lw_g (lw_at lw_m7 183 rfl) rfl
theorem q1760 : (Jvm.Cond.methodLink "HairRopeLaw" (27 : Nat) ({ cls := "HairRopeModel", name := "read", desc := "()I" } : Jvm.MethodName)) ∈ lw_all := lw_g (lw_at lw_m7 187 rfl) rfl
theorem q1858 : (Jvm.Cond.methodLink "HairRopeLaw" (31 : Nat) ({ cls := "HairRopeModel", name := "place", desc := "()I" } : Jvm.MethodName)) ∈ lw_all := lw_g (lw_at lw_m8 45 rfl) rfl
theorem q1862 : (Jvm.Cond.methodLink "HairRopeLaw" (36 : Nat) ({ cls := "HairRopeModel", name := "house", desc := "(II)I" } : Jvm.MethodName)) ∈ lw_all := lw_g (lw_at lw_m8 49 rfl) rfl
theorem q1920 : (Jvm.Cond.methodLink "HairRopeLaw" (40 : Nat) ({ cls := "HairRopeModel", name := "likes", desc := "(II)I" } : Jvm.MethodName)) ∈ lw_all := lw_g (lw_at lw_m8 107 rfl) rfl
theorem q1932 : (Jvm.Cond.methodLink "HairRopeLaw" (44 : Nat) ({ cls := "HairRopeModel", name := "joins", desc := "(II)I" } : Jvm.MethodName)) ∈ lw_all := lw_g (lw_at lw_m8 119 rfl) rfl
theorem q1944 : (Jvm.Cond.methodLink "HairRopeLaw" (48 : Nat) ({ cls := "HairRopeModel", name := "at", desc := "(I)I" } : Jvm.MethodName)) ∈ lw_all := lw_g (lw_at lw_m8 131 rfl) rfl
theorem q1948 : (Jvm.Cond.methodLink "HairRopeLaw" (52 : Nat) ({ cls := "HairRopeModel", name := "splice", desc := "(I)I" } : Jvm.MethodName)) ∈ lw_all := lw_g (lw_at lw_m8 135 rfl) rfl
theorem q1960 : (Jvm.Cond.methodLink "HairRopeLaw" (56 : Nat) ({ cls := "HairRopeModel", name := "unsplice", desc := "()I" } : Jvm.MethodName)) ∈ lw_all := lw_g (lw_at lw_m8 147 rfl) rfl
theorem q1968 : (Jvm.Cond.methodLink "HairRopeLaw" (60 : Nat) ({ cls := "HairRopeModel", name := "haul", desc := "(I)I" } : Jvm.MethodName)) ∈ lw_all := lw_g (lw_at lw_m8 155 rfl) rfl
theorem q1987 : (Jvm.Cond.methodLink "HairRopeLaw" (64 : Nat) ({ cls := "HairRopeModel", name := "years", desc := "(I)I" } : Jvm.MethodName)) ∈ lw_all := lw_g (lw_at lw_m8 174 rfl) rfl
theorem q2014 : (Jvm.Cond.methodLink "HairRopeLaw" (69 : Nat) ({ cls := "HairRopeModel", name := "undo", desc := "()Z" } : Jvm.MethodName)) ∈ lw_all := lw_g (lw_at lw_m8 201 rfl) rfl
theorem q2018 : (Jvm.Cond.methodLink "HairRopeLaw" (73 : Nat) ({ cls := "HairRopeModel", name := "most", desc := "()I" } : Jvm.MethodName)) ∈ lw_all := lw_g (lw_at lw_m8 205 rfl) rfl
theorem q2030 : (Jvm.Cond.methodLink "HairRopeLaw" (77 : Nat) ({ cls := "HairRopeModel", name := "weakest", desc := "(I)I" } : Jvm.MethodName)) ∈ lw_all := lw_g (lw_at lw_m8 217 rfl) rfl
theorem q2034 : (Jvm.Cond.methodLink "HairRopeLaw" (81 : Nat) ({ cls := "HairRopeModel", name := "below", desc := "(I)I" } : Jvm.MethodName)) ∈ lw_all := lw_g (lw_at lw_m8 221 rfl) rfl
theorem q2038 : (Jvm.Cond.methodLink "HairRopeLaw" (121 : Nat) ({ cls := "HairRopeModel", name := "lasts", desc := "(I)I" } : Jvm.MethodName)) ∈ lw_all := lw_g (lw_at lw_m8 225 rfl) rfl
theorem q2046 : (Jvm.Cond.methodLink "HairRopeLaw" (134 : Nat) ({ cls := "HairRopeModel", name := "quarrel", desc := "(I)I" } : Jvm.MethodName)) ∈ lw_all := lw_g (lw_at lw_m8 233 rfl) rfl
theorem q2050 : (Jvm.Cond.methodLink "HairRopeLaw" (138 : Nat) ({ cls := "HairRopeModel", name := "greyest", desc := "(I)I" } : Jvm.MethodName)) ∈ lw_all := lw_g (lw_at lw_m8 237 rfl) rfl
theorem q2054 : (Jvm.Cond.methodLink "HairRopeLaw" (117 : Nat) ({ cls := "HairRopeModel", name := "share", desc := "(I)I" } : Jvm.MethodName)) ∈ lw_all := lw_g (lw_at lw_m9 1 rfl) rfl
theorem q2058 : (Jvm.Cond.methodLink "HairRopeLaw" (130 : Nat) ({ cls := "HairRopeModel", name := "swap", desc := "()I" } : Jvm.MethodName)) ∈ lw_all := lw_g (lw_at lw_m9 5 rfl) rfl
theorem q2062 : (Jvm.Cond.methodLink "HairRopeLaw" (85 : Nat) ({ cls := "HairRopeModel", name := "orders", desc := "(I)I" } : Jvm.MethodName)) ∈ lw_all := lw_g (lw_at lw_m9 9 rfl) rfl
theorem q2086 : (Jvm.Cond.methodLink "HairRopeLaw" (89 : Nat) ({ cls := "HairRopeModel", name := "peak", desc := "()I" } : Jvm.MethodName)) ∈ lw_all := lw_g (lw_at lw_m9 33 rfl) rfl
theorem q2094 : (Jvm.Cond.methodLink "HairRopeLaw" (93 : Nat) ({ cls := "HairRopeModel", name := "fewest", desc := "(II)I" } : Jvm.MethodName)) ∈ lw_all := lw_g (lw_at lw_m9 41 rfl) rfl
theorem q2102 : (Jvm.Cond.methodLink "HairRopeLaw" (97 : Nat) ({ cls := "HairRopeModel", name := "needed", desc := "(I)I" } : Jvm.MethodName)) ∈ lw_all := lw_g (lw_at lw_m9 49 rfl) rfl
theorem q2106 : (Jvm.Cond.methodLink "HairRopeLaw" (101 : Nat) ({ cls := "HairRopeModel", name := "soon", desc := "(I)I" } : Jvm.MethodName)) ∈ lw_all := lw_g (lw_at lw_m9 53 rfl) rfl
theorem q2110 : (Jvm.Cond.methodLink "HairRopeLaw" (105 : Nat) ({ cls := "HairRopeModel", name := "peace", desc := "(II)I" } : Jvm.MethodName)) ∈ lw_all := lw_g (lw_at lw_m9 57 rfl) rfl
theorem q2126 : (Jvm.Cond.methodLink "HairRopeLaw" (109 : Nat) ({ cls := "HairRopeModel", name := "rests", desc := "(I)I" } : Jvm.MethodName)) ∈ lw_all := lw_g (lw_at lw_m9 73 rfl) rfl
theorem q2153 : (Jvm.Cond.methodLink "HairRopeLaw" (113 : Nat) ({ cls := "HairRopeModel", name := "pivots", desc := "()I" } : Jvm.MethodName)) ∈ lw_all := lw_g (lw_at lw_m9 100 rfl) rfl
theorem q2157 : (Jvm.Cond.methodLink "HairRopeLaw" (126 : Nat) ({ cls := "HairRopeModel", name := "harvest", desc := "(III)I" } : Jvm.MethodName)) ∈ lw_all := lw_g (lw_at lw_m9 104 rfl) rfl
theorem q2165 : (Jvm.Cond.methodLink "HairRopeLaw" (142 : Nat) ({ cls := "HairRopeModel", name := "then", desc := "(III)I" } : Jvm.MethodName)) ∈ lw_all := lw_g (lw_at lw_m9 112 rfl) rfl
theorem q2169 : (Jvm.Cond.methodLink "HairRopeLaw" (147 : Nat) ({ cls := "HairRopeModel", name := "year", desc := "(IIII)I" } : Jvm.MethodName)) ∈ lw_all := lw_g (lw_at lw_m9 116 rfl) rfl
theorem q2176 : (Jvm.Cond.methodLink "HairRopeLaw" (152 : Nat) ({ cls := "HairRopeModel", name := "tell", desc := "(IIZ)I" } : Jvm.MethodName)) ∈ lw_all := lw_g (lw_at lw_m9 123 rfl) rfl
theorem q2180 : (Jvm.Cond.methodLink "HairRopeLaw" (156 : Nat) ({ cls := "HairRopeModel", name := "forget", desc := "()I" } : Jvm.MethodName)) ∈ lw_all := lw_g (lw_at lw_m9 127 rfl) rfl
theorem q2184 : (Jvm.Cond.methodLink "HairRopeLaw" (160 : Nat) ({ cls := "HairRopeModel", name := "rows", desc := "(III)I" } : Jvm.MethodName)) ∈ lw_all := lw_g (lw_at lw_m9 131 rfl) rfl
theorem q2199 : (Jvm.Cond.methodLink "HairRopeLaw" (164 : Nat) ({ cls := "HairRopeModel", name := "feel", desc := "(III)I" } : Jvm.MethodName)) ∈ lw_all := lw_g (lw_at lw_m9 146 rfl) rfl
theorem q2203 : (Jvm.Cond.methodLink "HairRopeLaw" (169 : Nat) ({ cls := "HairRopeModel", name := "hold", desc := "(I)Z" } : Jvm.MethodName)) ∈ lw_all := lw_g (lw_at lw_m9 150 rfl) rfl
theorem q2207 : (Jvm.Cond.methodLink "HairRopeLaw" (173 : Nat) ({ cls := "HairRopeModel", name := "restore", desc := "(I)Z" } : Jvm.MethodName)) ∈ lw_all := lw_g (lw_at lw_m9 154 rfl) rfl
theorem q2211 : (Jvm.Cond.methodLink "HairRopeLaw" (177 : Nat) ({ cls := "HairRopeModel", name := "count", desc := "(I)I" } : Jvm.MethodName)) ∈ lw_all := lw_g (lw_at lw_m9 158 rfl) rfl

theorem q911 : (Jvm.Cond.sameMethod "[B" "java/lang/Object" "clone" "()Ljava/lang/Object;") ∈ lw_all := lw_g (lw_at lw_m4 58 rfl) rfl
theorem q914 : (Jvm.Cond.selects "[B" ({ cls := "[B", name := "clone", desc := "()Ljava/lang/Object;" } : Jvm.MethodName) ({ cls := "java/lang/Object", name := "clone", desc := "()Ljava/lang/Object;" } : Jvm.MethodName)) ∈ lw_all := lw_g (lw_at lw_m4 61 rfl) rfl
theorem q915 : (Jvm.Cond.castable "[B" "java/lang/Cloneable") ∈ lw_tbl := lw_at lw_m4 62 rfl
theorem q2251 : (Jvm.Cond.castable "[B" "java/lang/Object") ∈ lw_tbl := lw_at lw_m9 198 rfl

theorem q2256 : (Jvm.Cond.castable "[I" "java/lang/Object") ∈ lw_tbl := lw_at lw_m9 203 rfl

theorem q2261 : (Jvm.Cond.castable "[J" "java/lang/Object") ∈ lw_tbl := lw_at lw_m9 208 rfl

theorem q2254 : (Jvm.Cond.castable "[LHairRope$Law;" "java/lang/Object") ∈ lw_tbl := lw_at lw_m9 201 rfl

theorem q2259 : (Jvm.Cond.castable "[LHairRope$Sum;" "java/lang/Object") ∈ lw_tbl := lw_at lw_m9 206 rfl

theorem q2257 : (Jvm.Cond.castable "[LHairRope$Village;" "java/lang/Object") ∈ lw_tbl := lw_at lw_m9 204 rfl

theorem q2248 : (Jvm.Cond.sameMethod "[Ljava/lang/Object;" "java/lang/Object" "getClass" "()Ljava/lang/Class;") ∈ lw_all := lw_g (lw_at lw_m9 195 rfl) rfl
theorem q2249 : (Jvm.Cond.selects "[Ljava/lang/Object;" ({ cls := "java/lang/Object", name := "getClass", desc := "()Ljava/lang/Class;" } : Jvm.MethodName) ({ cls := "java/lang/Object", name := "getClass", desc := "()Ljava/lang/Class;" } : Jvm.MethodName)) ∈ lw_all := lw_g (lw_at lw_m9 196 rfl) rfl
theorem q2260 : (Jvm.Cond.castable "[Ljava/lang/Object;" "java/lang/Object") ∈ lw_tbl := lw_at lw_m9 207 rfl

theorem q2252 : (Jvm.Cond.castable "[Ljava/lang/String;" "java/lang/Object") ∈ lw_tbl := lw_at lw_m9 199 rfl

theorem q2253 : (Jvm.Cond.castable "[S" "java/lang/Object") ∈ lw_tbl := lw_at lw_m9 200 rfl

theorem q2258 : (Jvm.Cond.castable "[Z" "java/lang/Object") ∈ lw_tbl := lw_at lw_m9 205 rfl

theorem q2255 : (Jvm.Cond.castable "[[I" "java/lang/Object") ∈ lw_tbl := lw_at lw_m9 202 rfl

theorem q167 : (Jvm.Cond.initialized "java/lang/System") ∈ lw_all := lw_g (lw_at lw_m1 34 rfl) rfl
theorem q921 : (Jvm.Cond.static ({ cls := "java/lang/System", name := "arraycopy", desc := "(Ljava/lang/Object;ILjava/lang/Object;II)V" } : Jvm.MethodName)) ∈ lw_all := lw_g (lw_at lw_m4 68 rfl) rfl
theorem q922 : (Jvm.Cond.native ({ cls := "java/lang/System", name := "arraycopy", desc := "(Ljava/lang/Object;ILjava/lang/Object;II)V" } : Jvm.MethodName)) ∈ lw_all := lw_g (lw_at lw_m4 69 rfl) rfl

theorem q250 : (Jvm.Cond.arrayClass Jvm.ClassFile.FieldType.byte) ∈ lw_all := lw_g (lw_at lw_m1 117 rfl) rfl
theorem q258 : (Jvm.Cond.arrayOver (Jvm.ClassFile.FieldType.object "java/lang/String")) ∈ lw_tbl := lw_at lw_m1 125 rfl
theorem q311 : (Jvm.Cond.arrayClass Jvm.ClassFile.FieldType.short) ∈ lw_all := lw_g (lw_at lw_m1 178 rfl) rfl
theorem q373 : (Jvm.Cond.arrayOver (Jvm.ClassFile.FieldType.object "HairRope$Law")) ∈ lw_tbl := lw_at lw_m2 0 rfl
theorem q375 : (Jvm.Cond.arrayOver (Jvm.ClassFile.FieldType.array Jvm.ClassFile.FieldType.int)) ∈ lw_tbl := lw_at lw_m2 2 rfl
theorem q416 : (Jvm.Cond.arrayClass Jvm.ClassFile.FieldType.int) ∈ lw_all := lw_g (lw_at lw_m2 43 rfl) rfl
theorem q487 : (Jvm.Cond.arrayOver (Jvm.ClassFile.FieldType.object "HairRope$Village")) ∈ lw_tbl := lw_at lw_m2 114 rfl
theorem q611 : (Jvm.Cond.arrayClass Jvm.ClassFile.FieldType.boolean) ∈ lw_all := lw_g (lw_at lw_m2 238 rfl) rfl
theorem q743 : (Jvm.Cond.arrayOver (Jvm.ClassFile.FieldType.object "HairRope$Sum")) ∈ lw_tbl := lw_at lw_m3 130 rfl
theorem q1103 : (Jvm.Cond.arrayOver (Jvm.ClassFile.FieldType.object "java/lang/Object")) ∈ lw_tbl := lw_at lw_m5 10 rfl
theorem q1747 : (Jvm.Cond.arrayClass Jvm.ClassFile.FieldType.long) ∈ lw_all := lw_g (lw_at lw_m7 174 rfl) rfl

