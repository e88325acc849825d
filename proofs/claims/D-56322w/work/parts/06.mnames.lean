/-! DECODE ROWS BY BYTES: one lemma an opcode; a method's code is cut into short pieces once, and a row reads its own piece alone. -/
set_option maxRecDepth 100000
/-- the code has just these bytes from pc on -/
def DkAt (code : ByteArray) (pc : Nat) (bs : List UInt8) : Prop := ∀ (j : Nat) (b : UInt8), bs[j]? = some b → code.data.toList[pc + j]? = some b
/-- the piece W has the bytes bs from its place j on -/
def dkIn (W : List UInt8) (j : Nat) (bs : List UInt8) : Bool := decide ((W.drop j).take bs.length = bs)
theorem dk_seg {l W T : List UInt8} {o o2 : Nat} (h : l.drop o = W ++ T) (n : Nat) (hn : W.length = n) (ho : o + n = o2) : l.drop o2 = T := by
  subst ho
  rw [← List.drop_drop, h, List.drop_left' hn]
theorem dk_at {code : ByteArray} {W T bs : List UInt8} {o pc : Nat} (h : code.data.toList.drop o = W ++ T) (j : Nat) (hp : o + j = pc) (hw : dkIn W j bs = true) : DkAt code pc bs := by
  subst hp
  intro i b e
  have h1 := of_decide_eq_true hw
  have h2 : i < bs.length := (List.getElem?_eq_some_iff.mp e).1
  have h3 : W[j + i]? = some b := by
    rw [← h1, List.getElem?_take, if_pos h2, List.getElem?_drop] at e
    exact e
  have h4 : j + i < W.length := (List.getElem?_eq_some_iff.mp h3).1
  have h5 : (code.data.toList.drop o)[j + i]? = some b := by
    rw [h, List.getElem?_append_left h4]
    exact h3
  rw [List.getElem?_drop, ← Nat.add_assoc] at h5
  exact h5
theorem dk_u1 {A : ByteArray} {p : Nat} {b : UInt8} (h : A.data.toList[p]? = some b) : (Reader.u1 : Reader DecodeError Nat) A p = .ok (b.toNat, p + 1) := by
  obtain ⟨h1, h2⟩ := List.getElem?_eq_some_iff.mp h
  have h3 : p < A.size := by simpa using h1
  have h4 : A[p]'h3 = b := h2
  have e : (Reader.u1 : Reader DecodeError Nat) A p = (if h : p < A.size then .ok (A[p].toNat, p + 1) else .error (HasTruncated.truncated p)) := by
    show (do if h : p < A.size then do set (p + 1); Pure.pure A[p].toNat else MonadExcept.throw (HasTruncated.truncated p) : Reader DecodeError Nat) A p = _
    by_cases hi : p < A.size
    · rw [dif_pos hi, dif_pos hi]; rfl
    · rw [dif_neg hi, dif_neg hi]; rfl
  rw [e, dif_pos h3, h4]
theorem dk_bind {α β : Type} {r : Reader DecodeError α} {f : α → Reader DecodeError β} {A : ByteArray} {p s : Nat} {a : α} (h : r A p = .ok (a, s)) : (r >>= f) A p = f a A s := by
  show (do let (a, s) ← r A p; f a A s : Except DecodeError (β × Nat)) = _
  rw [h]
  rfl
theorem dk_map {α β : Type} {r : Reader DecodeError α} {g : α → β} {A : ByteArray} {p s : Nat} {a : α} (h : r A p = .ok (a, s)) : (g <$> r) A p = .ok (g a, s) := by
  show (do let (a, s) ← r A p; .ok (g a, s) : Except DecodeError (β × Nat)) = _
  rw [h]
  rfl
theorem dk_u2 {A : ByteArray} {p : Nat} {a b : UInt8} (h : A.data.toList[p]? = some a) (h2 : A.data.toList[p + 1]? = some b) : (Reader.u2 : Reader DecodeError Nat) A p = .ok (a.toNat * 256 + b.toNat, p + 2) := by
  show (Reader.u1 >>= fun hi => Reader.u1 >>= fun lo => Pure.pure (hi * 256 + lo) : Reader DecodeError Nat) A p = _
  rw [dk_bind (dk_u1 h), dk_bind (dk_u1 h2)]
  rfl
theorem dk_of {code : ByteArray} {pc n : Nat} {i : Instr} (h : Decoder.instr pc code pc = .ok (i, pc + n)) : decode code pc = .ok (i, n) := by
  have e : decode code pc = (match Decoder.instr pc code pc with | .error x => .error x | .ok (j, s) => .ok (j, s - pc)) := by
    show (do let (j, s) ← Decoder.instr pc code pc; Pure.pure (j, s - pc) : Except DecodeError (Instr × Nat)) = _
    cases Decoder.instr pc code pc <;> rfl
  rw [e, h]
  show Except.ok (i, pc + n - pc) = _
  rw [Nat.add_sub_cancel_left]
theorem dk_1 {code : ByteArray} {pc : Nat} (h : DkAt code pc [1]) : decode code pc = .ok (.aconst_null, 1) := dk_of ((dk_bind (dk_u1 (h 0 _ rfl))).trans rfl)
theorem dk_2 {code : ByteArray} {pc : Nat} (h : DkAt code pc [2]) : decode code pc = .ok (.iconst (-1), 1) := dk_of ((dk_bind (dk_u1 (h 0 _ rfl))).trans rfl)
theorem dk_3 {code : ByteArray} {pc : Nat} (h : DkAt code pc [3]) : decode code pc = .ok (.iconst 0, 1) := dk_of ((dk_bind (dk_u1 (h 0 _ rfl))).trans rfl)
theorem dk_4 {code : ByteArray} {pc : Nat} (h : DkAt code pc [4]) : decode code pc = .ok (.iconst 1, 1) := dk_of ((dk_bind (dk_u1 (h 0 _ rfl))).trans rfl)
theorem dk_5 {code : ByteArray} {pc : Nat} (h : DkAt code pc [5]) : decode code pc = .ok (.iconst 2, 1) := dk_of ((dk_bind (dk_u1 (h 0 _ rfl))).trans rfl)
theorem dk_6 {code : ByteArray} {pc : Nat} (h : DkAt code pc [6]) : decode code pc = .ok (.iconst 3, 1) := dk_of ((dk_bind (dk_u1 (h 0 _ rfl))).trans rfl)
theorem dk_7 {code : ByteArray} {pc : Nat} (h : DkAt code pc [7]) : decode code pc = .ok (.iconst 4, 1) := dk_of ((dk_bind (dk_u1 (h 0 _ rfl))).trans rfl)
theorem dk_8 {code : ByteArray} {pc : Nat} (h : DkAt code pc [8]) : decode code pc = .ok (.iconst 5, 1) := dk_of ((dk_bind (dk_u1 (h 0 _ rfl))).trans rfl)
theorem dk_9 {code : ByteArray} {pc : Nat} (h : DkAt code pc [9]) : decode code pc = .ok (.lconst 0, 1) := dk_of ((dk_bind (dk_u1 (h 0 _ rfl))).trans rfl)
theorem dk_10 {code : ByteArray} {pc : Nat} (h : DkAt code pc [10]) : decode code pc = .ok (.lconst 1, 1) := dk_of ((dk_bind (dk_u1 (h 0 _ rfl))).trans rfl)
theorem dk_11 {code : ByteArray} {pc : Nat} (h : DkAt code pc [11]) : decode code pc = .ok (.fconst 0, 1) := dk_of ((dk_bind (dk_u1 (h 0 _ rfl))).trans rfl)
theorem dk_16 {code : ByteArray} {pc : Nat} (a : UInt8) (h : DkAt code pc [16, a]) : decode code pc = .ok (.bipush (Reader.signed 8 a.toNat), 2) := dk_of ((dk_bind (dk_u1 (h 0 _ rfl))).trans ((dk_bind (dk_map (dk_u1 (h 1 _ rfl)))).trans rfl))
theorem dk_17 {code : ByteArray} {pc : Nat} (a b : UInt8) (h : DkAt code pc [17, a, b]) : decode code pc = .ok (.sipush (Reader.signed 16 (a.toNat * 256 + b.toNat)), 3) := dk_of ((dk_bind (dk_u1 (h 0 _ rfl))).trans ((dk_bind (dk_map (dk_u2 (h 1 _ rfl) (h 2 _ rfl)))).trans rfl))
theorem dk_18 {code : ByteArray} {pc : Nat} (a : UInt8) (h : DkAt code pc [18, a]) : decode code pc = .ok (.ldc a.toNat, 2) := dk_of ((dk_bind (dk_u1 (h 0 _ rfl))).trans ((dk_bind (dk_u1 (h 1 _ rfl))).trans rfl))
theorem dk_19 {code : ByteArray} {pc : Nat} (a b : UInt8) (h : DkAt code pc [19, a, b]) : decode code pc = .ok (.ldc_w (a.toNat * 256 + b.toNat), 3) := dk_of ((dk_bind (dk_u1 (h 0 _ rfl))).trans ((dk_bind (dk_u2 (h 1 _ rfl) (h 2 _ rfl))).trans rfl))
theorem dk_20 {code : ByteArray} {pc : Nat} (a b : UInt8) (h : DkAt code pc [20, a, b]) : decode code pc = .ok (.ldc2_w (a.toNat * 256 + b.toNat), 3) := dk_of ((dk_bind (dk_u1 (h 0 _ rfl))).trans ((dk_bind (dk_u2 (h 1 _ rfl) (h 2 _ rfl))).trans rfl))
theorem dk_21 {code : ByteArray} {pc : Nat} (a : UInt8) (h : DkAt code pc [21, a]) : decode code pc = .ok (.iload a.toNat, 2) := dk_of ((dk_bind (dk_u1 (h 0 _ rfl))).trans ((dk_bind (dk_u1 (h 1 _ rfl))).trans rfl))
theorem dk_22 {code : ByteArray} {pc : Nat} (a : UInt8) (h : DkAt code pc [22, a]) : decode code pc = .ok (.lload a.toNat, 2) := dk_of ((dk_bind (dk_u1 (h 0 _ rfl))).trans ((dk_bind (dk_u1 (h 1 _ rfl))).trans rfl))
theorem dk_23 {code : ByteArray} {pc : Nat} (a : UInt8) (h : DkAt code pc [23, a]) : decode code pc = .ok (.fload a.toNat, 2) := dk_of ((dk_bind (dk_u1 (h 0 _ rfl))).trans ((dk_bind (dk_u1 (h 1 _ rfl))).trans rfl))
theorem dk_24 {code : ByteArray} {pc : Nat} (a : UInt8) (h : DkAt code pc [24, a]) : decode code pc = .ok (.dload a.toNat, 2) := dk_of ((dk_bind (dk_u1 (h 0 _ rfl))).trans ((dk_bind (dk_u1 (h 1 _ rfl))).trans rfl))
theorem dk_25 {code : ByteArray} {pc : Nat} (a : UInt8) (h : DkAt code pc [25, a]) : decode code pc = .ok (.aload a.toNat, 2) := dk_of ((dk_bind (dk_u1 (h 0 _ rfl))).trans ((dk_bind (dk_u1 (h 1 _ rfl))).trans rfl))
theorem dk_26 {code : ByteArray} {pc : Nat} (h : DkAt code pc [26]) : decode code pc = .ok (.iload_n 0, 1) := dk_of ((dk_bind (dk_u1 (h 0 _ rfl))).trans rfl)
theorem dk_27 {code : ByteArray} {pc : Nat} (h : DkAt code pc [27]) : decode code pc = .ok (.iload_n 1, 1) := dk_of ((dk_bind (dk_u1 (h 0 _ rfl))).trans rfl)
theorem dk_28 {code : ByteArray} {pc : Nat} (h : DkAt code pc [28]) : decode code pc = .ok (.iload_n 2, 1) := dk_of ((dk_bind (dk_u1 (h 0 _ rfl))).trans rfl)
theorem dk_29 {code : ByteArray} {pc : Nat} (h : DkAt code pc [29]) : decode code pc = .ok (.iload_n 3, 1) := dk_of ((dk_bind (dk_u1 (h 0 _ rfl))).trans rfl)
theorem dk_42 {code : ByteArray} {pc : Nat} (h : DkAt code pc [42]) : decode code pc = .ok (.aload_n 0, 1) := dk_of ((dk_bind (dk_u1 (h 0 _ rfl))).trans rfl)
theorem dk_43 {code : ByteArray} {pc : Nat} (h : DkAt code pc [43]) : decode code pc = .ok (.aload_n 1, 1) := dk_of ((dk_bind (dk_u1 (h 0 _ rfl))).trans rfl)
theorem dk_44 {code : ByteArray} {pc : Nat} (h : DkAt code pc [44]) : decode code pc = .ok (.aload_n 2, 1) := dk_of ((dk_bind (dk_u1 (h 0 _ rfl))).trans rfl)
theorem dk_45 {code : ByteArray} {pc : Nat} (h : DkAt code pc [45]) : decode code pc = .ok (.aload_n 3, 1) := dk_of ((dk_bind (dk_u1 (h 0 _ rfl))).trans rfl)
theorem dk_46 {code : ByteArray} {pc : Nat} (h : DkAt code pc [46]) : decode code pc = .ok (.iaload, 1) := dk_of ((dk_bind (dk_u1 (h 0 _ rfl))).trans rfl)
theorem dk_47 {code : ByteArray} {pc : Nat} (h : DkAt code pc [47]) : decode code pc = .ok (.laload, 1) := dk_of ((dk_bind (dk_u1 (h 0 _ rfl))).trans rfl)
theorem dk_49 {code : ByteArray} {pc : Nat} (h : DkAt code pc [49]) : decode code pc = .ok (.daload, 1) := dk_of ((dk_bind (dk_u1 (h 0 _ rfl))).trans rfl)
theorem dk_50 {code : ByteArray} {pc : Nat} (h : DkAt code pc [50]) : decode code pc = .ok (.aaload, 1) := dk_of ((dk_bind (dk_u1 (h 0 _ rfl))).trans rfl)
theorem dk_51 {code : ByteArray} {pc : Nat} (h : DkAt code pc [51]) : decode code pc = .ok (.baload, 1) := dk_of ((dk_bind (dk_u1 (h 0 _ rfl))).trans rfl)
theorem dk_52 {code : ByteArray} {pc : Nat} (h : DkAt code pc [52]) : decode code pc = .ok (.caload, 1) := dk_of ((dk_bind (dk_u1 (h 0 _ rfl))).trans rfl)
theorem dk_53 {code : ByteArray} {pc : Nat} (h : DkAt code pc [53]) : decode code pc = .ok (.saload, 1) := dk_of ((dk_bind (dk_u1 (h 0 _ rfl))).trans rfl)
theorem dk_54 {code : ByteArray} {pc : Nat} (a : UInt8) (h : DkAt code pc [54, a]) : decode code pc = .ok (.istore a.toNat, 2) := dk_of ((dk_bind (dk_u1 (h 0 _ rfl))).trans ((dk_bind (dk_u1 (h 1 _ rfl))).trans rfl))
theorem dk_55 {code : ByteArray} {pc : Nat} (a : UInt8) (h : DkAt code pc [55, a]) : decode code pc = .ok (.lstore a.toNat, 2) := dk_of ((dk_bind (dk_u1 (h 0 _ rfl))).trans ((dk_bind (dk_u1 (h 1 _ rfl))).trans rfl))
theorem dk_56 {code : ByteArray} {pc : Nat} (a : UInt8) (h : DkAt code pc [56, a]) : decode code pc = .ok (.fstore a.toNat, 2) := dk_of ((dk_bind (dk_u1 (h 0 _ rfl))).trans ((dk_bind (dk_u1 (h 1 _ rfl))).trans rfl))
theorem dk_57 {code : ByteArray} {pc : Nat} (a : UInt8) (h : DkAt code pc [57, a]) : decode code pc = .ok (.dstore a.toNat, 2) := dk_of ((dk_bind (dk_u1 (h 0 _ rfl))).trans ((dk_bind (dk_u1 (h 1 _ rfl))).trans rfl))
theorem dk_58 {code : ByteArray} {pc : Nat} (a : UInt8) (h : DkAt code pc [58, a]) : decode code pc = .ok (.astore a.toNat, 2) := dk_of ((dk_bind (dk_u1 (h 0 _ rfl))).trans ((dk_bind (dk_u1 (h 1 _ rfl))).trans rfl))
theorem dk_59 {code : ByteArray} {pc : Nat} (h : DkAt code pc [59]) : decode code pc = .ok (.istore_n 0, 1) := dk_of ((dk_bind (dk_u1 (h 0 _ rfl))).trans rfl)
theorem dk_60 {code : ByteArray} {pc : Nat} (h : DkAt code pc [60]) : decode code pc = .ok (.istore_n 1, 1) := dk_of ((dk_bind (dk_u1 (h 0 _ rfl))).trans rfl)
theorem dk_61 {code : ByteArray} {pc : Nat} (h : DkAt code pc [61]) : decode code pc = .ok (.istore_n 2, 1) := dk_of ((dk_bind (dk_u1 (h 0 _ rfl))).trans rfl)
theorem dk_62 {code : ByteArray} {pc : Nat} (h : DkAt code pc [62]) : decode code pc = .ok (.istore_n 3, 1) := dk_of ((dk_bind (dk_u1 (h 0 _ rfl))).trans rfl)
theorem dk_75 {code : ByteArray} {pc : Nat} (h : DkAt code pc [75]) : decode code pc = .ok (.astore_n 0, 1) := dk_of ((dk_bind (dk_u1 (h 0 _ rfl))).trans rfl)
theorem dk_76 {code : ByteArray} {pc : Nat} (h : DkAt code pc [76]) : decode code pc = .ok (.astore_n 1, 1) := dk_of ((dk_bind (dk_u1 (h 0 _ rfl))).trans rfl)
theorem dk_77 {code : ByteArray} {pc : Nat} (h : DkAt code pc [77]) : decode code pc = .ok (.astore_n 2, 1) := dk_of ((dk_bind (dk_u1 (h 0 _ rfl))).trans rfl)
theorem dk_78 {code : ByteArray} {pc : Nat} (h : DkAt code pc [78]) : decode code pc = .ok (.astore_n 3, 1) := dk_of ((dk_bind (dk_u1 (h 0 _ rfl))).trans rfl)
theorem dk_79 {code : ByteArray} {pc : Nat} (h : DkAt code pc [79]) : decode code pc = .ok (.iastore, 1) := dk_of ((dk_bind (dk_u1 (h 0 _ rfl))).trans rfl)
theorem dk_80 {code : ByteArray} {pc : Nat} (h : DkAt code pc [80]) : decode code pc = .ok (.lastore, 1) := dk_of ((dk_bind (dk_u1 (h 0 _ rfl))).trans rfl)
theorem dk_82 {code : ByteArray} {pc : Nat} (h : DkAt code pc [82]) : decode code pc = .ok (.dastore, 1) := dk_of ((dk_bind (dk_u1 (h 0 _ rfl))).trans rfl)
theorem dk_83 {code : ByteArray} {pc : Nat} (h : DkAt code pc [83]) : decode code pc = .ok (.aastore, 1) := dk_of ((dk_bind (dk_u1 (h 0 _ rfl))).trans rfl)
theorem dk_84 {code : ByteArray} {pc : Nat} (h : DkAt code pc [84]) : decode code pc = .ok (.bastore, 1) := dk_of ((dk_bind (dk_u1 (h 0 _ rfl))).trans rfl)
theorem dk_85 {code : ByteArray} {pc : Nat} (h : DkAt code pc [85]) : decode code pc = .ok (.castore, 1) := dk_of ((dk_bind (dk_u1 (h 0 _ rfl))).trans rfl)
theorem dk_87 {code : ByteArray} {pc : Nat} (h : DkAt code pc [87]) : decode code pc = .ok (.pop, 1) := dk_of ((dk_bind (dk_u1 (h 0 _ rfl))).trans rfl)
theorem dk_89 {code : ByteArray} {pc : Nat} (h : DkAt code pc [89]) : decode code pc = .ok (.dup, 1) := dk_of ((dk_bind (dk_u1 (h 0 _ rfl))).trans rfl)
theorem dk_90 {code : ByteArray} {pc : Nat} (h : DkAt code pc [90]) : decode code pc = .ok (.dup_x1, 1) := dk_of ((dk_bind (dk_u1 (h 0 _ rfl))).trans rfl)
theorem dk_92 {code : ByteArray} {pc : Nat} (h : DkAt code pc [92]) : decode code pc = .ok (.dup2, 1) := dk_of ((dk_bind (dk_u1 (h 0 _ rfl))).trans rfl)
theorem dk_96 {code : ByteArray} {pc : Nat} (h : DkAt code pc [96]) : decode code pc = .ok (.iadd, 1) := dk_of ((dk_bind (dk_u1 (h 0 _ rfl))).trans rfl)
theorem dk_97 {code : ByteArray} {pc : Nat} (h : DkAt code pc [97]) : decode code pc = .ok (.ladd, 1) := dk_of ((dk_bind (dk_u1 (h 0 _ rfl))).trans rfl)
theorem dk_100 {code : ByteArray} {pc : Nat} (h : DkAt code pc [100]) : decode code pc = .ok (.isub, 1) := dk_of ((dk_bind (dk_u1 (h 0 _ rfl))).trans rfl)
theorem dk_104 {code : ByteArray} {pc : Nat} (h : DkAt code pc [104]) : decode code pc = .ok (.imul, 1) := dk_of ((dk_bind (dk_u1 (h 0 _ rfl))).trans rfl)
theorem dk_105 {code : ByteArray} {pc : Nat} (h : DkAt code pc [105]) : decode code pc = .ok (.lmul, 1) := dk_of ((dk_bind (dk_u1 (h 0 _ rfl))).trans rfl)
theorem dk_108 {code : ByteArray} {pc : Nat} (h : DkAt code pc [108]) : decode code pc = .ok (.idiv, 1) := dk_of ((dk_bind (dk_u1 (h 0 _ rfl))).trans rfl)
theorem dk_110 {code : ByteArray} {pc : Nat} (h : DkAt code pc [110]) : decode code pc = .ok (.fdiv, 1) := dk_of ((dk_bind (dk_u1 (h 0 _ rfl))).trans rfl)
theorem dk_111 {code : ByteArray} {pc : Nat} (h : DkAt code pc [111]) : decode code pc = .ok (.ddiv, 1) := dk_of ((dk_bind (dk_u1 (h 0 _ rfl))).trans rfl)
theorem dk_112 {code : ByteArray} {pc : Nat} (h : DkAt code pc [112]) : decode code pc = .ok (.irem, 1) := dk_of ((dk_bind (dk_u1 (h 0 _ rfl))).trans rfl)
theorem dk_116 {code : ByteArray} {pc : Nat} (h : DkAt code pc [116]) : decode code pc = .ok (.ineg, 1) := dk_of ((dk_bind (dk_u1 (h 0 _ rfl))).trans rfl)
theorem dk_120 {code : ByteArray} {pc : Nat} (h : DkAt code pc [120]) : decode code pc = .ok (.ishl, 1) := dk_of ((dk_bind (dk_u1 (h 0 _ rfl))).trans rfl)
theorem dk_122 {code : ByteArray} {pc : Nat} (h : DkAt code pc [122]) : decode code pc = .ok (.ishr, 1) := dk_of ((dk_bind (dk_u1 (h 0 _ rfl))).trans rfl)
theorem dk_124 {code : ByteArray} {pc : Nat} (h : DkAt code pc [124]) : decode code pc = .ok (.iushr, 1) := dk_of ((dk_bind (dk_u1 (h 0 _ rfl))).trans rfl)
theorem dk_126 {code : ByteArray} {pc : Nat} (h : DkAt code pc [126]) : decode code pc = .ok (.iand, 1) := dk_of ((dk_bind (dk_u1 (h 0 _ rfl))).trans rfl)
theorem dk_128 {code : ByteArray} {pc : Nat} (h : DkAt code pc [128]) : decode code pc = .ok (.ior, 1) := dk_of ((dk_bind (dk_u1 (h 0 _ rfl))).trans rfl)
theorem dk_130 {code : ByteArray} {pc : Nat} (h : DkAt code pc [130]) : decode code pc = .ok (.ixor, 1) := dk_of ((dk_bind (dk_u1 (h 0 _ rfl))).trans rfl)
theorem dk_132 {code : ByteArray} {pc : Nat} (a b : UInt8) (h : DkAt code pc [132, a, b]) : decode code pc = .ok (.iinc a.toNat (Reader.signed 8 b.toNat), 3) := dk_of ((dk_bind (dk_u1 (h 0 _ rfl))).trans ((dk_bind (dk_u1 (h 1 _ rfl))).trans ((dk_bind (dk_map (dk_u1 (h 2 _ rfl)))).trans rfl)))
theorem dk_133 {code : ByteArray} {pc : Nat} (h : DkAt code pc [133]) : decode code pc = .ok (.i2l, 1) := dk_of ((dk_bind (dk_u1 (h 0 _ rfl))).trans rfl)
theorem dk_134 {code : ByteArray} {pc : Nat} (h : DkAt code pc [134]) : decode code pc = .ok (.i2f, 1) := dk_of ((dk_bind (dk_u1 (h 0 _ rfl))).trans rfl)
theorem dk_135 {code : ByteArray} {pc : Nat} (h : DkAt code pc [135]) : decode code pc = .ok (.i2d, 1) := dk_of ((dk_bind (dk_u1 (h 0 _ rfl))).trans rfl)
theorem dk_141 {code : ByteArray} {pc : Nat} (h : DkAt code pc [141]) : decode code pc = .ok (.f2d, 1) := dk_of ((dk_bind (dk_u1 (h 0 _ rfl))).trans rfl)
theorem dk_145 {code : ByteArray} {pc : Nat} (h : DkAt code pc [145]) : decode code pc = .ok (.i2b, 1) := dk_of ((dk_bind (dk_u1 (h 0 _ rfl))).trans rfl)
theorem dk_146 {code : ByteArray} {pc : Nat} (h : DkAt code pc [146]) : decode code pc = .ok (.i2c, 1) := dk_of ((dk_bind (dk_u1 (h 0 _ rfl))).trans rfl)
theorem dk_148 {code : ByteArray} {pc : Nat} (h : DkAt code pc [148]) : decode code pc = .ok (.lcmp, 1) := dk_of ((dk_bind (dk_u1 (h 0 _ rfl))).trans rfl)
theorem dk_149 {code : ByteArray} {pc : Nat} (h : DkAt code pc [149]) : decode code pc = .ok (.fcmp .l, 1) := dk_of ((dk_bind (dk_u1 (h 0 _ rfl))).trans rfl)
theorem dk_151 {code : ByteArray} {pc : Nat} (h : DkAt code pc [151]) : decode code pc = .ok (.dcmp .l, 1) := dk_of ((dk_bind (dk_u1 (h 0 _ rfl))).trans rfl)
theorem dk_153 {code : ByteArray} {pc : Nat} (a b : UInt8) (h : DkAt code pc [153, a, b]) : decode code pc = .ok (.ifCond .eq (Reader.signed 16 (a.toNat * 256 + b.toNat)), 3) := dk_of ((dk_bind (dk_u1 (h 0 _ rfl))).trans ((dk_bind (dk_map (dk_u2 (h 1 _ rfl) (h 2 _ rfl)))).trans rfl))
theorem dk_154 {code : ByteArray} {pc : Nat} (a b : UInt8) (h : DkAt code pc [154, a, b]) : decode code pc = .ok (.ifCond .ne (Reader.signed 16 (a.toNat * 256 + b.toNat)), 3) := dk_of ((dk_bind (dk_u1 (h 0 _ rfl))).trans ((dk_bind (dk_map (dk_u2 (h 1 _ rfl) (h 2 _ rfl)))).trans rfl))
theorem dk_155 {code : ByteArray} {pc : Nat} (a b : UInt8) (h : DkAt code pc [155, a, b]) : decode code pc = .ok (.ifCond .lt (Reader.signed 16 (a.toNat * 256 + b.toNat)), 3) := dk_of ((dk_bind (dk_u1 (h 0 _ rfl))).trans ((dk_bind (dk_map (dk_u2 (h 1 _ rfl) (h 2 _ rfl)))).trans rfl))
theorem dk_156 {code : ByteArray} {pc : Nat} (a b : UInt8) (h : DkAt code pc [156, a, b]) : decode code pc = .ok (.ifCond .ge (Reader.signed 16 (a.toNat * 256 + b.toNat)), 3) := dk_of ((dk_bind (dk_u1 (h 0 _ rfl))).trans ((dk_bind (dk_map (dk_u2 (h 1 _ rfl) (h 2 _ rfl)))).trans rfl))
theorem dk_157 {code : ByteArray} {pc : Nat} (a b : UInt8) (h : DkAt code pc [157, a, b]) : decode code pc = .ok (.ifCond .gt (Reader.signed 16 (a.toNat * 256 + b.toNat)), 3) := dk_of ((dk_bind (dk_u1 (h 0 _ rfl))).trans ((dk_bind (dk_map (dk_u2 (h 1 _ rfl) (h 2 _ rfl)))).trans rfl))
theorem dk_158 {code : ByteArray} {pc : Nat} (a b : UInt8) (h : DkAt code pc [158, a, b]) : decode code pc = .ok (.ifCond .le (Reader.signed 16 (a.toNat * 256 + b.toNat)), 3) := dk_of ((dk_bind (dk_u1 (h 0 _ rfl))).trans ((dk_bind (dk_map (dk_u2 (h 1 _ rfl) (h 2 _ rfl)))).trans rfl))
theorem dk_159 {code : ByteArray} {pc : Nat} (a b : UInt8) (h : DkAt code pc [159, a, b]) : decode code pc = .ok (.if_icmp .eq (Reader.signed 16 (a.toNat * 256 + b.toNat)), 3) := dk_of ((dk_bind (dk_u1 (h 0 _ rfl))).trans ((dk_bind (dk_map (dk_u2 (h 1 _ rfl) (h 2 _ rfl)))).trans rfl))
theorem dk_160 {code : ByteArray} {pc : Nat} (a b : UInt8) (h : DkAt code pc [160, a, b]) : decode code pc = .ok (.if_icmp .ne (Reader.signed 16 (a.toNat * 256 + b.toNat)), 3) := dk_of ((dk_bind (dk_u1 (h 0 _ rfl))).trans ((dk_bind (dk_map (dk_u2 (h 1 _ rfl) (h 2 _ rfl)))).trans rfl))
theorem dk_161 {code : ByteArray} {pc : Nat} (a b : UInt8) (h : DkAt code pc [161, a, b]) : decode code pc = .ok (.if_icmp .lt (Reader.signed 16 (a.toNat * 256 + b.toNat)), 3) := dk_of ((dk_bind (dk_u1 (h 0 _ rfl))).trans ((dk_bind (dk_map (dk_u2 (h 1 _ rfl) (h 2 _ rfl)))).trans rfl))
theorem dk_162 {code : ByteArray} {pc : Nat} (a b : UInt8) (h : DkAt code pc [162, a, b]) : decode code pc = .ok (.if_icmp .ge (Reader.signed 16 (a.toNat * 256 + b.toNat)), 3) := dk_of ((dk_bind (dk_u1 (h 0 _ rfl))).trans ((dk_bind (dk_map (dk_u2 (h 1 _ rfl) (h 2 _ rfl)))).trans rfl))
theorem dk_163 {code : ByteArray} {pc : Nat} (a b : UInt8) (h : DkAt code pc [163, a, b]) : decode code pc = .ok (.if_icmp .gt (Reader.signed 16 (a.toNat * 256 + b.toNat)), 3) := dk_of ((dk_bind (dk_u1 (h 0 _ rfl))).trans ((dk_bind (dk_map (dk_u2 (h 1 _ rfl) (h 2 _ rfl)))).trans rfl))
theorem dk_164 {code : ByteArray} {pc : Nat} (a b : UInt8) (h : DkAt code pc [164, a, b]) : decode code pc = .ok (.if_icmp .le (Reader.signed 16 (a.toNat * 256 + b.toNat)), 3) := dk_of ((dk_bind (dk_u1 (h 0 _ rfl))).trans ((dk_bind (dk_map (dk_u2 (h 1 _ rfl) (h 2 _ rfl)))).trans rfl))
theorem dk_165 {code : ByteArray} {pc : Nat} (a b : UInt8) (h : DkAt code pc [165, a, b]) : decode code pc = .ok (.if_acmp .eq (Reader.signed 16 (a.toNat * 256 + b.toNat)), 3) := dk_of ((dk_bind (dk_u1 (h 0 _ rfl))).trans ((dk_bind (dk_map (dk_u2 (h 1 _ rfl) (h 2 _ rfl)))).trans rfl))
theorem dk_166 {code : ByteArray} {pc : Nat} (a b : UInt8) (h : DkAt code pc [166, a, b]) : decode code pc = .ok (.if_acmp .ne (Reader.signed 16 (a.toNat * 256 + b.toNat)), 3) := dk_of ((dk_bind (dk_u1 (h 0 _ rfl))).trans ((dk_bind (dk_map (dk_u2 (h 1 _ rfl) (h 2 _ rfl)))).trans rfl))
theorem dk_167 {code : ByteArray} {pc : Nat} (a b : UInt8) (h : DkAt code pc [167, a, b]) : decode code pc = .ok (.goto (Reader.signed 16 (a.toNat * 256 + b.toNat)), 3) := dk_of ((dk_bind (dk_u1 (h 0 _ rfl))).trans ((dk_bind (dk_map (dk_u2 (h 1 _ rfl) (h 2 _ rfl)))).trans rfl))
theorem dk_172 {code : ByteArray} {pc : Nat} (h : DkAt code pc [172]) : decode code pc = .ok (.ireturn, 1) := dk_of ((dk_bind (dk_u1 (h 0 _ rfl))).trans rfl)
theorem dk_173 {code : ByteArray} {pc : Nat} (h : DkAt code pc [173]) : decode code pc = .ok (.lreturn, 1) := dk_of ((dk_bind (dk_u1 (h 0 _ rfl))).trans rfl)
theorem dk_174 {code : ByteArray} {pc : Nat} (h : DkAt code pc [174]) : decode code pc = .ok (.freturn, 1) := dk_of ((dk_bind (dk_u1 (h 0 _ rfl))).trans rfl)
theorem dk_175 {code : ByteArray} {pc : Nat} (h : DkAt code pc [175]) : decode code pc = .ok (.dreturn, 1) := dk_of ((dk_bind (dk_u1 (h 0 _ rfl))).trans rfl)
theorem dk_176 {code : ByteArray} {pc : Nat} (h : DkAt code pc [176]) : decode code pc = .ok (.areturn, 1) := dk_of ((dk_bind (dk_u1 (h 0 _ rfl))).trans rfl)
theorem dk_177 {code : ByteArray} {pc : Nat} (h : DkAt code pc [177]) : decode code pc = .ok (.return_, 1) := dk_of ((dk_bind (dk_u1 (h 0 _ rfl))).trans rfl)
theorem dk_178 {code : ByteArray} {pc : Nat} (a b : UInt8) (h : DkAt code pc [178, a, b]) : decode code pc = .ok (.getstatic (a.toNat * 256 + b.toNat), 3) := dk_of ((dk_bind (dk_u1 (h 0 _ rfl))).trans ((dk_bind (dk_u2 (h 1 _ rfl) (h 2 _ rfl))).trans rfl))
theorem dk_180 {code : ByteArray} {pc : Nat} (a b : UInt8) (h : DkAt code pc [180, a, b]) : decode code pc = .ok (.getfield (a.toNat * 256 + b.toNat), 3) := dk_of ((dk_bind (dk_u1 (h 0 _ rfl))).trans ((dk_bind (dk_u2 (h 1 _ rfl) (h 2 _ rfl))).trans rfl))
theorem dk_181 {code : ByteArray} {pc : Nat} (a b : UInt8) (h : DkAt code pc [181, a, b]) : decode code pc = .ok (.putfield (a.toNat * 256 + b.toNat), 3) := dk_of ((dk_bind (dk_u1 (h 0 _ rfl))).trans ((dk_bind (dk_u2 (h 1 _ rfl) (h 2 _ rfl))).trans rfl))
theorem dk_182 {code : ByteArray} {pc : Nat} (a b : UInt8) (h : DkAt code pc [182, a, b]) : decode code pc = .ok (.invokevirtual (a.toNat * 256 + b.toNat), 3) := dk_of ((dk_bind (dk_u1 (h 0 _ rfl))).trans ((dk_bind (dk_u2 (h 1 _ rfl) (h 2 _ rfl))).trans rfl))
theorem dk_183 {code : ByteArray} {pc : Nat} (a b : UInt8) (h : DkAt code pc [183, a, b]) : decode code pc = .ok (.invokespecial (a.toNat * 256 + b.toNat), 3) := dk_of ((dk_bind (dk_u1 (h 0 _ rfl))).trans ((dk_bind (dk_u2 (h 1 _ rfl) (h 2 _ rfl))).trans rfl))
theorem dk_184 {code : ByteArray} {pc : Nat} (a b : UInt8) (h : DkAt code pc [184, a, b]) : decode code pc = .ok (.invokestatic (a.toNat * 256 + b.toNat), 3) := dk_of ((dk_bind (dk_u1 (h 0 _ rfl))).trans ((dk_bind (dk_u2 (h 1 _ rfl) (h 2 _ rfl))).trans rfl))
theorem dk_187 {code : ByteArray} {pc : Nat} (a b : UInt8) (h : DkAt code pc [187, a, b]) : decode code pc = .ok (.new (a.toNat * 256 + b.toNat), 3) := dk_of ((dk_bind (dk_u1 (h 0 _ rfl))).trans ((dk_bind (dk_u2 (h 1 _ rfl) (h 2 _ rfl))).trans rfl))
theorem dk_188_4 {code : ByteArray} {pc : Nat} (h : DkAt code pc [188, 4]) : decode code pc = .ok (.newarray .boolean, 2) := dk_of ((dk_bind (dk_u1 (h 0 _ rfl))).trans ((dk_bind (dk_u1 (h 1 _ rfl))).trans rfl))
theorem dk_188_5 {code : ByteArray} {pc : Nat} (h : DkAt code pc [188, 5]) : decode code pc = .ok (.newarray .char, 2) := dk_of ((dk_bind (dk_u1 (h 0 _ rfl))).trans ((dk_bind (dk_u1 (h 1 _ rfl))).trans rfl))
theorem dk_188_7 {code : ByteArray} {pc : Nat} (h : DkAt code pc [188, 7]) : decode code pc = .ok (.newarray .double, 2) := dk_of ((dk_bind (dk_u1 (h 0 _ rfl))).trans ((dk_bind (dk_u1 (h 1 _ rfl))).trans rfl))
theorem dk_188_8 {code : ByteArray} {pc : Nat} (h : DkAt code pc [188, 8]) : decode code pc = .ok (.newarray .byte, 2) := dk_of ((dk_bind (dk_u1 (h 0 _ rfl))).trans ((dk_bind (dk_u1 (h 1 _ rfl))).trans rfl))
theorem dk_188_10 {code : ByteArray} {pc : Nat} (h : DkAt code pc [188, 10]) : decode code pc = .ok (.newarray .int, 2) := dk_of ((dk_bind (dk_u1 (h 0 _ rfl))).trans ((dk_bind (dk_u1 (h 1 _ rfl))).trans rfl))
theorem dk_188_11 {code : ByteArray} {pc : Nat} (h : DkAt code pc [188, 11]) : decode code pc = .ok (.newarray .long, 2) := dk_of ((dk_bind (dk_u1 (h 0 _ rfl))).trans ((dk_bind (dk_u1 (h 1 _ rfl))).trans rfl))
theorem dk_189 {code : ByteArray} {pc : Nat} (a b : UInt8) (h : DkAt code pc [189, a, b]) : decode code pc = .ok (.anewarray (a.toNat * 256 + b.toNat), 3) := dk_of ((dk_bind (dk_u1 (h 0 _ rfl))).trans ((dk_bind (dk_u2 (h 1 _ rfl) (h 2 _ rfl))).trans rfl))
theorem dk_190 {code : ByteArray} {pc : Nat} (h : DkAt code pc [190]) : decode code pc = .ok (.arraylength, 1) := dk_of ((dk_bind (dk_u1 (h 0 _ rfl))).trans rfl)
theorem dk_191 {code : ByteArray} {pc : Nat} (h : DkAt code pc [191]) : decode code pc = .ok (.athrow, 1) := dk_of ((dk_bind (dk_u1 (h 0 _ rfl))).trans rfl)
theorem dk_192 {code : ByteArray} {pc : Nat} (a b : UInt8) (h : DkAt code pc [192, a, b]) : decode code pc = .ok (.checkcast (a.toNat * 256 + b.toNat), 3) := dk_of ((dk_bind (dk_u1 (h 0 _ rfl))).trans ((dk_bind (dk_u2 (h 1 _ rfl) (h 2 _ rfl))).trans rfl))
theorem dk_193 {code : ByteArray} {pc : Nat} (a b : UInt8) (h : DkAt code pc [193, a, b]) : decode code pc = .ok (.instanceof (a.toNat * 256 + b.toNat), 3) := dk_of ((dk_bind (dk_u1 (h 0 _ rfl))).trans ((dk_bind (dk_u2 (h 1 _ rfl) (h 2 _ rfl))).trans rfl))
theorem dk_198 {code : ByteArray} {pc : Nat} (a b : UInt8) (h : DkAt code pc [198, a, b]) : decode code pc = .ok (.ifnull (Reader.signed 16 (a.toNat * 256 + b.toNat)), 3) := dk_of ((dk_bind (dk_u1 (h 0 _ rfl))).trans ((dk_bind (dk_map (dk_u2 (h 1 _ rfl) (h 2 _ rfl)))).trans rfl))
theorem dk_199 {code : ByteArray} {pc : Nat} (a b : UInt8) (h : DkAt code pc [199, a, b]) : decode code pc = .ok (.ifnonnull (Reader.signed 16 (a.toNat * 256 + b.toNat)), 3) := dk_of ((dk_bind (dk_u1 (h 0 _ rfl))).trans ((dk_bind (dk_map (dk_u2 (h 1 _ rfl) (h 2 _ rfl)))).trans rfl))
set_option maxRecDepth 100000
set_option linter.unusedVariables false
abbrev cX4_init : ByteArray := prog_22_method_1_code
def yX4_init : MethodName := ⟨RX4, "<init>", "()V"⟩
def dkwX4_init_11 : List UInt8 := [180, 0, 7, 16, 38, 16, 112, 79, 177]
abbrev dktX4_init_11 : List UInt8 := dkwX4_init_11 ++ []
def dkwX4_init_10 : List UInt8 := [16, 108, 79, 42, 180, 0, 7, 16, 36, 16, 103, 79, 42, 180, 0, 7, 16, 37, 16, 106, 79, 42]
abbrev dktX4_init_10 : List UInt8 := dkwX4_init_10 ++ dktX4_init_11
def dkwX4_init_9 : List UInt8 := [42, 180, 0, 7, 16, 33, 16, 100, 79, 42, 180, 0, 7, 16, 34, 16, 112, 79, 42, 180, 0, 7, 16, 35]
abbrev dktX4_init_9 : List UInt8 := dkwX4_init_9 ++ dktX4_init_10
def dkwX4_init_8 : List UInt8 := [180, 0, 7, 16, 30, 7, 79, 42, 180, 0, 7, 16, 31, 6, 79, 42, 180, 0, 7, 16, 32, 16, 115, 79]
abbrev dktX4_init_8 : List UInt8 := dkwX4_init_8 ++ dktX4_init_9
def dkwX4_init_7 : List UInt8 := [180, 0, 7, 16, 27, 5, 79, 42, 180, 0, 7, 16, 28, 5, 79, 42, 180, 0, 7, 16, 29, 7, 79, 42]
abbrev dktX4_init_7 : List UInt8 := dkwX4_init_7 ++ dktX4_init_8
def dkwX4_init_6 : List UInt8 := [188, 10, 181, 0, 63, 42, 17, 3, 232, 188, 4, 181, 0, 66, 42, 16, 93, 188, 10, 181, 0, 70, 42]
abbrev dktX4_init_6 : List UInt8 := dkwX4_init_6 ++ dktX4_init_7
def dkwX4_init_5 : List UInt8 := [181, 0, 54, 42, 17, 3, 232, 188, 10, 181, 0, 57, 42, 16, 64, 188, 10, 181, 0, 60, 42, 16, 64]
abbrev dktX4_init_5 : List UInt8 := dkwX4_init_5 ++ dktX4_init_6
def dkwX4_init_4 : List UInt8 := [181, 0, 45, 42, 16, 24, 188, 10, 181, 0, 48, 42, 16, 8, 188, 10, 181, 0, 51, 42, 16, 8, 188, 10]
abbrev dktX4_init_4 : List UInt8 := dkwX4_init_4 ++ dktX4_init_5
def dkwX4_init_3 : List UInt8 := [181, 0, 36, 42, 16, 24, 188, 10, 181, 0, 39, 42, 16, 24, 188, 10, 181, 0, 42, 42, 16, 24, 188, 10]
abbrev dktX4_init_3 : List UInt8 := dkwX4_init_3 ++ dktX4_init_4
def dkwX4_init_2 : List UInt8 := [181, 0, 25, 42, 16, 80, 188, 5, 181, 0, 29, 42, 16, 24, 188, 10, 181, 0, 33, 42, 16, 24, 188, 10]
abbrev dktX4_init_2 : List UInt8 := dkwX4_init_2 ++ dktX4_init_3
def dkwX4_init_1 : List UInt8 := [188, 10, 181, 0, 16, 42, 16, 44, 188, 10, 181, 0, 19, 42, 16, 60, 188, 10, 181, 0, 22, 42, 2]
abbrev dktX4_init_1 : List UInt8 := dkwX4_init_1 ++ dktX4_init_2
def dkwX4_init_0 : List UInt8 := [42, 183, 0, 1, 42, 16, 44, 188, 10, 181, 0, 7, 42, 17, 1, 96, 188, 10, 181, 0, 13, 42, 16, 44]
abbrev dktX4_init_0 : List UInt8 := dkwX4_init_0 ++ dktX4_init_1
theorem dksX4_init_0 : cX4_init.data.toList.drop 0 = dktX4_init_0 := by decide +kernel
theorem dX4_init_0 : decode cX4_init 0 = .ok (.aload_n 0, 1) := dk_42 (dk_at dksX4_init_0 0 rfl rfl)
theorem dX4_init_1 : decode cX4_init 1 = .ok (.invokespecial 1, 3) := dk_183 0 1 (dk_at dksX4_init_0 1 rfl rfl)
abbrev cX4_thrown : ByteArray := prog_22_method_2_code
def yX4_thrown : MethodName := ⟨RX4, "thrown", "()I"⟩
theorem dX4_thrown_0 : decode cX4_thrown 0 = .ok (.aload_n 0, 1) := by decide +kernel
theorem dX4_thrown_1 : decode cX4_thrown 1 = .ok (.getfield 73, 3) := by decide +kernel
theorem dX4_thrown_4 : decode cX4_thrown 4 = .ok (.ireturn, 1) := by decide +kernel
abbrev cX4_put : ByteArray := prog_22_method_19_code
def yX4_put : MethodName := ⟨RX4, "put", "(C)I"⟩
def dkwX4_put_4 : List UInt8 := [3, 92, 46, 4, 96, 79, 42, 180, 0, 7, 3, 46, 172]
abbrev dktX4_put_4 : List UInt8 := dkwX4_put_4 ++ []
def dkwX4_put_3 : List UInt8 := [180, 0, 7, 182, 0, 134, 42, 180, 0, 7, 4, 42, 180, 0, 7, 3, 46, 96, 27, 79, 42, 180, 0, 7]
abbrev dktX4_put_3 : List UInt8 := dkwX4_put_3 ++ dktX4_put_4
def dkwX4_put_2 : List UInt8 := [153, 0, 21, 42, 182, 0, 130, 16, 8, 160, 0, 12, 42, 5, 4, 16, 8, 182, 0, 126, 172, 42, 42]
abbrev dktX4_put_2 : List UInt8 := dkwX4_put_2 ++ dktX4_put_3
def dkwX4_put_1 : List UInt8 := [180, 0, 7, 3, 46, 16, 24, 160, 0, 12, 42, 5, 4, 16, 24, 182, 0, 126, 172, 27, 184, 0, 111]
abbrev dktX4_put_1 : List UInt8 := dkwX4_put_1 ++ dktX4_put_2
def dkwX4_put_0 : List UInt8 := [42, 27, 184, 0, 120, 153, 0, 7, 3, 167, 0, 4, 4, 182, 0, 123, 153, 0, 5, 3, 172, 42]
abbrev dktX4_put_0 : List UInt8 := dkwX4_put_0 ++ dktX4_put_1
theorem dksX4_put_0 : cX4_put.data.toList.drop 0 = dktX4_put_0 := by decide +kernel
theorem dksX4_put_1 : cX4_put.data.toList.drop 22 = dktX4_put_1 := dk_seg dksX4_put_0 22 rfl rfl
theorem dksX4_put_2 : cX4_put.data.toList.drop 45 = dktX4_put_2 := dk_seg dksX4_put_1 23 rfl rfl
theorem dksX4_put_3 : cX4_put.data.toList.drop 68 = dktX4_put_3 := dk_seg dksX4_put_2 23 rfl rfl
theorem dksX4_put_4 : cX4_put.data.toList.drop 92 = dktX4_put_4 := dk_seg dksX4_put_3 24 rfl rfl
theorem dX4_put_0 : decode cX4_put 0 = .ok (.aload_n 0, 1) := dk_42 (dk_at dksX4_put_0 0 rfl rfl)
theorem dX4_put_1 : decode cX4_put 1 = .ok (.iload_n 1, 1) := dk_27 (dk_at dksX4_put_0 1 rfl rfl)
theorem dX4_put_2 : decode cX4_put 2 = .ok (.invokestatic 120, 3) := dk_184 0 120 (dk_at dksX4_put_0 2 rfl rfl)
theorem dX4_put_5 : decode cX4_put 5 = .ok (.ifCond .eq 7, 3) := dk_153 0 7 (dk_at dksX4_put_0 5 rfl rfl)
theorem dX4_put_8 : decode cX4_put 8 = .ok (.iconst 0, 1) := dk_3 (dk_at dksX4_put_0 8 rfl rfl)
theorem dX4_put_9 : decode cX4_put 9 = .ok (.goto 4, 3) := dk_167 0 4 (dk_at dksX4_put_0 9 rfl rfl)
theorem dX4_put_12 : decode cX4_put 12 = .ok (.iconst 1, 1) := dk_4 (dk_at dksX4_put_0 12 rfl rfl)
theorem dX4_put_13 : decode cX4_put 13 = .ok (.invokevirtual 123, 3) := dk_182 0 123 (dk_at dksX4_put_0 13 rfl rfl)
theorem dX4_put_16 : decode cX4_put 16 = .ok (.ifCond .eq 5, 3) := dk_153 0 5 (dk_at dksX4_put_0 16 rfl rfl)
theorem dX4_put_19 : decode cX4_put 19 = .ok (.iconst 0, 1) := dk_3 (dk_at dksX4_put_0 19 rfl rfl)
theorem dX4_put_20 : decode cX4_put 20 = .ok (.ireturn, 1) := dk_172 (dk_at dksX4_put_0 20 rfl rfl)
theorem dX4_put_21 : decode cX4_put 21 = .ok (.aload_n 0, 1) := dk_42 (dk_at dksX4_put_0 21 rfl rfl)
theorem dX4_put_22 : decode cX4_put 22 = .ok (.getfield 7, 3) := dk_180 0 7 (dk_at dksX4_put_1 0 rfl rfl)
theorem dX4_put_25 : decode cX4_put 25 = .ok (.iconst 0, 1) := dk_3 (dk_at dksX4_put_1 3 rfl rfl)
theorem dX4_put_26 : decode cX4_put 26 = .ok (.iaload, 1) := dk_46 (dk_at dksX4_put_1 4 rfl rfl)
theorem dX4_put_27 : decode cX4_put 27 = .ok (.bipush 24, 2) := dk_16 24 (dk_at dksX4_put_1 5 rfl rfl)
theorem dX4_put_29 : decode cX4_put 29 = .ok (.if_icmp .ne 12, 3) := dk_160 0 12 (dk_at dksX4_put_1 7 rfl rfl)
theorem dX4_put_32 : decode cX4_put 32 = .ok (.aload_n 0, 1) := dk_42 (dk_at dksX4_put_1 10 rfl rfl)
theorem dX4_put_33 : decode cX4_put 33 = .ok (.iconst 2, 1) := dk_5 (dk_at dksX4_put_1 11 rfl rfl)
theorem dX4_put_34 : decode cX4_put 34 = .ok (.iconst 1, 1) := dk_4 (dk_at dksX4_put_1 12 rfl rfl)
theorem dX4_put_35 : decode cX4_put 35 = .ok (.bipush 24, 2) := dk_16 24 (dk_at dksX4_put_1 13 rfl rfl)
theorem dX4_put_37 : decode cX4_put 37 = .ok (.invokevirtual 126, 3) := dk_182 0 126 (dk_at dksX4_put_1 15 rfl rfl)
theorem dX4_put_40 : decode cX4_put 40 = .ok (.ireturn, 1) := dk_172 (dk_at dksX4_put_1 18 rfl rfl)
theorem dX4_put_41 : decode cX4_put 41 = .ok (.iload_n 1, 1) := dk_27 (dk_at dksX4_put_1 19 rfl rfl)
theorem dX4_put_42 : decode cX4_put 42 = .ok (.invokestatic 111, 3) := dk_184 0 111 (dk_at dksX4_put_1 20 rfl rfl)
theorem dX4_put_45 : decode cX4_put 45 = .ok (.ifCond .eq 21, 3) := dk_153 0 21 (dk_at dksX4_put_2 0 rfl rfl)
theorem dX4_put_48 : decode cX4_put 48 = .ok (.aload_n 0, 1) := dk_42 (dk_at dksX4_put_2 3 rfl rfl)
theorem dX4_put_49 : decode cX4_put 49 = .ok (.invokevirtual 130, 3) := dk_182 0 130 (dk_at dksX4_put_2 4 rfl rfl)
theorem dX4_put_52 : decode cX4_put 52 = .ok (.bipush 8, 2) := dk_16 8 (dk_at dksX4_put_2 7 rfl rfl)
theorem dX4_put_54 : decode cX4_put 54 = .ok (.if_icmp .ne 12, 3) := dk_160 0 12 (dk_at dksX4_put_2 9 rfl rfl)
theorem dX4_put_57 : decode cX4_put 57 = .ok (.aload_n 0, 1) := dk_42 (dk_at dksX4_put_2 12 rfl rfl)
theorem dX4_put_58 : decode cX4_put 58 = .ok (.iconst 2, 1) := dk_5 (dk_at dksX4_put_2 13 rfl rfl)
theorem dX4_put_59 : decode cX4_put 59 = .ok (.iconst 1, 1) := dk_4 (dk_at dksX4_put_2 14 rfl rfl)
theorem dX4_put_60 : decode cX4_put 60 = .ok (.bipush 8, 2) := dk_16 8 (dk_at dksX4_put_2 15 rfl rfl)
theorem dX4_put_62 : decode cX4_put 62 = .ok (.invokevirtual 126, 3) := dk_182 0 126 (dk_at dksX4_put_2 17 rfl rfl)
theorem dX4_put_65 : decode cX4_put 65 = .ok (.ireturn, 1) := dk_172 (dk_at dksX4_put_2 20 rfl rfl)
theorem dX4_put_66 : decode cX4_put 66 = .ok (.aload_n 0, 1) := dk_42 (dk_at dksX4_put_2 21 rfl rfl)
theorem dX4_put_67 : decode cX4_put 67 = .ok (.aload_n 0, 1) := dk_42 (dk_at dksX4_put_2 22 rfl rfl)
theorem dX4_put_68 : decode cX4_put 68 = .ok (.getfield 7, 3) := dk_180 0 7 (dk_at dksX4_put_3 0 rfl rfl)
theorem dX4_put_71 : decode cX4_put 71 = .ok (.invokevirtual 134, 3) := dk_182 0 134 (dk_at dksX4_put_3 3 rfl rfl)
theorem dX4_put_74 : decode cX4_put 74 = .ok (.aload_n 0, 1) := dk_42 (dk_at dksX4_put_3 6 rfl rfl)
theorem dX4_put_75 : decode cX4_put 75 = .ok (.getfield 7, 3) := dk_180 0 7 (dk_at dksX4_put_3 7 rfl rfl)
theorem dX4_put_78 : decode cX4_put 78 = .ok (.iconst 1, 1) := dk_4 (dk_at dksX4_put_3 10 rfl rfl)
theorem dX4_put_79 : decode cX4_put 79 = .ok (.aload_n 0, 1) := dk_42 (dk_at dksX4_put_3 11 rfl rfl)
theorem dX4_put_80 : decode cX4_put 80 = .ok (.getfield 7, 3) := dk_180 0 7 (dk_at dksX4_put_3 12 rfl rfl)
theorem dX4_put_83 : decode cX4_put 83 = .ok (.iconst 0, 1) := dk_3 (dk_at dksX4_put_3 15 rfl rfl)
theorem dX4_put_84 : decode cX4_put 84 = .ok (.iaload, 1) := dk_46 (dk_at dksX4_put_3 16 rfl rfl)
theorem dX4_put_85 : decode cX4_put 85 = .ok (.iadd, 1) := dk_96 (dk_at dksX4_put_3 17 rfl rfl)
theorem dX4_put_86 : decode cX4_put 86 = .ok (.iload_n 1, 1) := dk_27 (dk_at dksX4_put_3 18 rfl rfl)
theorem dX4_put_87 : decode cX4_put 87 = .ok (.iastore, 1) := dk_79 (dk_at dksX4_put_3 19 rfl rfl)
theorem dX4_put_88 : decode cX4_put 88 = .ok (.aload_n 0, 1) := dk_42 (dk_at dksX4_put_3 20 rfl rfl)
theorem dX4_put_89 : decode cX4_put 89 = .ok (.getfield 7, 3) := dk_180 0 7 (dk_at dksX4_put_3 21 rfl rfl)
theorem dX4_put_92 : decode cX4_put 92 = .ok (.iconst 0, 1) := dk_3 (dk_at dksX4_put_4 0 rfl rfl)
theorem dX4_put_93 : decode cX4_put 93 = .ok (.dup2, 1) := dk_92 (dk_at dksX4_put_4 1 rfl rfl)
theorem dX4_put_94 : decode cX4_put 94 = .ok (.iaload, 1) := dk_46 (dk_at dksX4_put_4 2 rfl rfl)
theorem dX4_put_95 : decode cX4_put 95 = .ok (.iconst 1, 1) := dk_4 (dk_at dksX4_put_4 3 rfl rfl)
theorem dX4_put_96 : decode cX4_put 96 = .ok (.iadd, 1) := dk_96 (dk_at dksX4_put_4 4 rfl rfl)
theorem dX4_put_97 : decode cX4_put 97 = .ok (.iastore, 1) := dk_79 (dk_at dksX4_put_4 5 rfl rfl)
theorem dX4_put_98 : decode cX4_put 98 = .ok (.aload_n 0, 1) := dk_42 (dk_at dksX4_put_4 6 rfl rfl)
theorem dX4_put_99 : decode cX4_put 99 = .ok (.getfield 7, 3) := dk_180 0 7 (dk_at dksX4_put_4 7 rfl rfl)
theorem dX4_put_102 : decode cX4_put 102 = .ok (.iconst 0, 1) := dk_3 (dk_at dksX4_put_4 10 rfl rfl)
theorem dX4_put_103 : decode cX4_put 103 = .ok (.iaload, 1) := dk_46 (dk_at dksX4_put_4 11 rfl rfl)
theorem dX4_put_104 : decode cX4_put 104 = .ok (.ireturn, 1) := dk_172 (dk_at dksX4_put_4 12 rfl rfl)
abbrev cX4_isCharacter : ByteArray := prog_22_method_15_code
def yX4_isCharacter : MethodName := ⟨RX4, "isCharacter", "(I)Z"⟩
def dkwX4_isCharacter_1 : List UInt8 := [167, 0, 4, 3, 172]
abbrev dktX4_isCharacter_1 : List UInt8 := dkwX4_isCharacter_1 ++ []
def dkwX4_isCharacter_0 : List UInt8 := [26, 184, 0, 111, 154, 0, 17, 26, 184, 0, 99, 156, 0, 10, 26, 184, 0, 114, 153, 0, 7, 4]
abbrev dktX4_isCharacter_0 : List UInt8 := dkwX4_isCharacter_0 ++ dktX4_isCharacter_1
theorem dksX4_isCharacter_0 : cX4_isCharacter.data.toList.drop 0 = dktX4_isCharacter_0 := by decide +kernel
theorem dksX4_isCharacter_1 : cX4_isCharacter.data.toList.drop 22 = dktX4_isCharacter_1 := dk_seg dksX4_isCharacter_0 22 rfl rfl
theorem dX4_isCharacter_0 : decode cX4_isCharacter 0 = .ok (.iload_n 0, 1) := dk_26 (dk_at dksX4_isCharacter_0 0 rfl rfl)
theorem dX4_isCharacter_1 : decode cX4_isCharacter 1 = .ok (.invokestatic 111, 3) := dk_184 0 111 (dk_at dksX4_isCharacter_0 1 rfl rfl)
theorem dX4_isCharacter_4 : decode cX4_isCharacter 4 = .ok (.ifCond .ne 17, 3) := dk_154 0 17 (dk_at dksX4_isCharacter_0 4 rfl rfl)
theorem dX4_isCharacter_7 : decode cX4_isCharacter 7 = .ok (.iload_n 0, 1) := dk_26 (dk_at dksX4_isCharacter_0 7 rfl rfl)
theorem dX4_isCharacter_8 : decode cX4_isCharacter 8 = .ok (.invokestatic 99, 3) := dk_184 0 99 (dk_at dksX4_isCharacter_0 8 rfl rfl)
theorem dX4_isCharacter_11 : decode cX4_isCharacter 11 = .ok (.ifCond .ge 10, 3) := dk_156 0 10 (dk_at dksX4_isCharacter_0 11 rfl rfl)
theorem dX4_isCharacter_14 : decode cX4_isCharacter 14 = .ok (.iload_n 0, 1) := dk_26 (dk_at dksX4_isCharacter_0 14 rfl rfl)
theorem dX4_isCharacter_15 : decode cX4_isCharacter 15 = .ok (.invokestatic 114, 3) := dk_184 0 114 (dk_at dksX4_isCharacter_0 15 rfl rfl)
theorem dX4_isCharacter_18 : decode cX4_isCharacter 18 = .ok (.ifCond .eq 7, 3) := dk_153 0 7 (dk_at dksX4_isCharacter_0 18 rfl rfl)
theorem dX4_isCharacter_21 : decode cX4_isCharacter 21 = .ok (.iconst 1, 1) := dk_4 (dk_at dksX4_isCharacter_0 21 rfl rfl)
theorem dX4_isCharacter_22 : decode cX4_isCharacter 22 = .ok (.goto 4, 3) := dk_167 0 4 (dk_at dksX4_isCharacter_1 0 rfl rfl)
theorem dX4_isCharacter_25 : decode cX4_isCharacter 25 = .ok (.iconst 0, 1) := dk_3 (dk_at dksX4_isCharacter_1 3 rfl rfl)
theorem dX4_isCharacter_26 : decode cX4_isCharacter 26 = .ok (.ireturn, 1) := dk_172 (dk_at dksX4_isCharacter_1 4 rfl rfl)
abbrev cX4_isOperand : ByteArray := prog_22_method_13_code
def yX4_isOperand : MethodName := ⟨RX4, "isOperand", "(I)Z"⟩
def dkwX4_isOperand_0 : List UInt8 := [26, 16, 48, 16, 57, 184, 0, 103, 154, 0, 10, 26, 184, 0, 107, 153, 0, 7, 4, 167, 0, 4, 3, 172]
abbrev dktX4_isOperand_0 : List UInt8 := dkwX4_isOperand_0 ++ []
theorem dksX4_isOperand_0 : cX4_isOperand.data.toList.drop 0 = dktX4_isOperand_0 := by decide +kernel
theorem dX4_isOperand_0 : decode cX4_isOperand 0 = .ok (.iload_n 0, 1) := dk_26 (dk_at dksX4_isOperand_0 0 rfl rfl)
theorem dX4_isOperand_1 : decode cX4_isOperand 1 = .ok (.bipush 48, 2) := dk_16 48 (dk_at dksX4_isOperand_0 1 rfl rfl)
theorem dX4_isOperand_3 : decode cX4_isOperand 3 = .ok (.bipush 57, 2) := dk_16 57 (dk_at dksX4_isOperand_0 3 rfl rfl)
theorem dX4_isOperand_5 : decode cX4_isOperand 5 = .ok (.invokestatic 103, 3) := dk_184 0 103 (dk_at dksX4_isOperand_0 5 rfl rfl)
theorem dX4_isOperand_8 : decode cX4_isOperand 8 = .ok (.ifCond .ne 10, 3) := dk_154 0 10 (dk_at dksX4_isOperand_0 8 rfl rfl)
theorem dX4_isOperand_11 : decode cX4_isOperand 11 = .ok (.iload_n 0, 1) := dk_26 (dk_at dksX4_isOperand_0 11 rfl rfl)
theorem dX4_isOperand_12 : decode cX4_isOperand 12 = .ok (.invokestatic 107, 3) := dk_184 0 107 (dk_at dksX4_isOperand_0 12 rfl rfl)
theorem dX4_isOperand_15 : decode cX4_isOperand 15 = .ok (.ifCond .eq 7, 3) := dk_153 0 7 (dk_at dksX4_isOperand_0 15 rfl rfl)
theorem dX4_isOperand_18 : decode cX4_isOperand 18 = .ok (.iconst 1, 1) := dk_4 (dk_at dksX4_isOperand_0 18 rfl rfl)
theorem dX4_isOperand_19 : decode cX4_isOperand 19 = .ok (.goto 4, 3) := dk_167 0 4 (dk_at dksX4_isOperand_0 19 rfl rfl)
theorem dX4_isOperand_22 : decode cX4_isOperand 22 = .ok (.iconst 0, 1) := dk_3 (dk_at dksX4_isOperand_0 22 rfl rfl)
theorem dX4_isOperand_23 : decode cX4_isOperand 23 = .ok (.ireturn, 1) := dk_172 (dk_at dksX4_isOperand_0 23 rfl rfl)
abbrev cX4_in : ByteArray := prog_22_method_5_code
def yX4_in : MethodName := ⟨RX4, "in", "(III)Z"⟩
def dkwX4_in_0 : List UInt8 := [26, 27, 161, 0, 12, 26, 28, 163, 0, 7, 4, 167, 0, 4, 3, 172]
abbrev dktX4_in_0 : List UInt8 := dkwX4_in_0 ++ []
theorem dksX4_in_0 : cX4_in.data.toList.drop 0 = dktX4_in_0 := by decide +kernel
theorem dX4_in_0 : decode cX4_in 0 = .ok (.iload_n 0, 1) := dk_26 (dk_at dksX4_in_0 0 rfl rfl)
theorem dX4_in_1 : decode cX4_in 1 = .ok (.iload_n 1, 1) := dk_27 (dk_at dksX4_in_0 1 rfl rfl)
theorem dX4_in_2 : decode cX4_in 2 = .ok (.if_icmp .lt 12, 3) := dk_161 0 12 (dk_at dksX4_in_0 2 rfl rfl)
theorem dX4_in_5 : decode cX4_in 5 = .ok (.iload_n 0, 1) := dk_26 (dk_at dksX4_in_0 5 rfl rfl)
theorem dX4_in_6 : decode cX4_in 6 = .ok (.iload_n 2, 1) := dk_28 (dk_at dksX4_in_0 6 rfl rfl)
theorem dX4_in_7 : decode cX4_in 7 = .ok (.if_icmp .gt 7, 3) := dk_163 0 7 (dk_at dksX4_in_0 7 rfl rfl)
theorem dX4_in_10 : decode cX4_in 10 = .ok (.iconst 1, 1) := dk_4 (dk_at dksX4_in_0 10 rfl rfl)
theorem dX4_in_11 : decode cX4_in 11 = .ok (.goto 4, 3) := dk_167 0 4 (dk_at dksX4_in_0 11 rfl rfl)
theorem dX4_in_14 : decode cX4_in 14 = .ok (.iconst 0, 1) := dk_3 (dk_at dksX4_in_0 14 rfl rfl)
theorem dX4_in_15 : decode cX4_in 15 = .ok (.ireturn, 1) := dk_172 (dk_at dksX4_in_0 15 rfl rfl)
abbrev cX4_isSky : ByteArray := prog_22_method_12_code
def yX4_isSky : MethodName := ⟨RX4, "isSky", "(I)Z"⟩
def dkwX4_isSky_0 : List UInt8 := [26, 16, 65, 16, 69, 184, 0, 103, 172]
abbrev dktX4_isSky_0 : List UInt8 := dkwX4_isSky_0 ++ []
theorem dksX4_isSky_0 : cX4_isSky.data.toList.drop 0 = dktX4_isSky_0 := by decide +kernel
theorem dX4_isSky_0 : decode cX4_isSky 0 = .ok (.iload_n 0, 1) := dk_26 (dk_at dksX4_isSky_0 0 rfl rfl)
theorem dX4_isSky_1 : decode cX4_isSky 1 = .ok (.bipush 65, 2) := dk_16 65 (dk_at dksX4_isSky_0 1 rfl rfl)
theorem dX4_isSky_3 : decode cX4_isSky 3 = .ok (.bipush 69, 2) := dk_16 69 (dk_at dksX4_isSky_0 3 rfl rfl)
theorem dX4_isSky_5 : decode cX4_isSky 5 = .ok (.invokestatic 103, 3) := dk_184 0 103 (dk_at dksX4_isSky_0 5 rfl rfl)
theorem dX4_isSky_8 : decode cX4_isSky 8 = .ok (.ireturn, 1) := dk_172 (dk_at dksX4_isSky_0 8 rfl rfl)
abbrev cX4_signOf : ByteArray := prog_22_method_9_code
def yX4_signOf : MethodName := ⟨RX4, "signOf", "(I)I"⟩
def dkwX4_signOf_2 : List UInt8 := [3, 172, 4, 172, 5, 172, 6, 172, 7, 172, 8, 172, 16, 6, 172, 2, 172]
abbrev dktX4_signOf_2 : List UInt8 := dkwX4_signOf_2 ++ []
def dkwX4_signOf_1 : List UInt8 := [171, 0, 0, 0, 0, 0, 82, 0, 0, 0, 7, 0, 0, 0, 37, 0, 0, 0, 73, 0, 0, 0, 38, 0, 0, 0, 77, 0, 0, 0, 42, 0, 0, 0, 71, 0, 0, 0, 43, 0, 0, 0, 67, 0, 0, 0, 45, 0, 0, 0, 69, 0, 0, 0, 94, 0, 0, 0, 75, 0, 0, 0, 126, 0, 0, 0, 79]
abbrev dktX4_signOf_1 : List UInt8 := dkwX4_signOf_1 ++ dktX4_signOf_2
def dkwX4_signOf_0 : List UInt8 := [26]
abbrev dktX4_signOf_0 : List UInt8 := dkwX4_signOf_0 ++ dktX4_signOf_1
theorem dksX4_signOf_0 : cX4_signOf.data.toList.drop 0 = dktX4_signOf_0 := by decide +kernel
theorem dksX4_signOf_1 : cX4_signOf.data.toList.drop 1 = dktX4_signOf_1 := dk_seg dksX4_signOf_0 1 rfl rfl
theorem dksX4_signOf_2 : cX4_signOf.data.toList.drop 68 = dktX4_signOf_2 := dk_seg dksX4_signOf_1 67 rfl rfl
theorem dX4_signOf_0 : decode cX4_signOf 0 = .ok (.iload_n 0, 1) := dk_26 (dk_at dksX4_signOf_0 0 rfl rfl)
theorem dX4_signOf_1 : decode cX4_signOf 1 = .ok (.lookupswitch 82 #[(37, 73), (38, 77), (42, 71), (43, 67), (45, 69), (94, 75), (126, 79)], 67) := by decide +kernel
theorem dX4_signOf_68 : decode cX4_signOf 68 = .ok (.iconst 0, 1) := dk_3 (dk_at dksX4_signOf_2 0 rfl rfl)
theorem dX4_signOf_69 : decode cX4_signOf 69 = .ok (.ireturn, 1) := dk_172 (dk_at dksX4_signOf_2 1 rfl rfl)
theorem dX4_signOf_70 : decode cX4_signOf 70 = .ok (.iconst 1, 1) := dk_4 (dk_at dksX4_signOf_2 2 rfl rfl)
theorem dX4_signOf_71 : decode cX4_signOf 71 = .ok (.ireturn, 1) := dk_172 (dk_at dksX4_signOf_2 3 rfl rfl)
theorem dX4_signOf_72 : decode cX4_signOf 72 = .ok (.iconst 2, 1) := dk_5 (dk_at dksX4_signOf_2 4 rfl rfl)
theorem dX4_signOf_73 : decode cX4_signOf 73 = .ok (.ireturn, 1) := dk_172 (dk_at dksX4_signOf_2 5 rfl rfl)
theorem dX4_signOf_74 : decode cX4_signOf 74 = .ok (.iconst 3, 1) := dk_6 (dk_at dksX4_signOf_2 6 rfl rfl)
theorem dX4_signOf_75 : decode cX4_signOf 75 = .ok (.ireturn, 1) := dk_172 (dk_at dksX4_signOf_2 7 rfl rfl)
theorem dX4_signOf_76 : decode cX4_signOf 76 = .ok (.iconst 4, 1) := dk_7 (dk_at dksX4_signOf_2 8 rfl rfl)
theorem dX4_signOf_77 : decode cX4_signOf 77 = .ok (.ireturn, 1) := dk_172 (dk_at dksX4_signOf_2 9 rfl rfl)
theorem dX4_signOf_78 : decode cX4_signOf 78 = .ok (.iconst 5, 1) := dk_8 (dk_at dksX4_signOf_2 10 rfl rfl)
theorem dX4_signOf_79 : decode cX4_signOf 79 = .ok (.ireturn, 1) := dk_172 (dk_at dksX4_signOf_2 11 rfl rfl)
theorem dX4_signOf_80 : decode cX4_signOf 80 = .ok (.bipush 6, 2) := dk_16 6 (dk_at dksX4_signOf_2 12 rfl rfl)
theorem dX4_signOf_82 : decode cX4_signOf 82 = .ok (.ireturn, 1) := dk_172 (dk_at dksX4_signOf_2 14 rfl rfl)
theorem dX4_signOf_83 : decode cX4_signOf 83 = .ok (.iconst (-1), 1) := dk_2 (dk_at dksX4_signOf_2 15 rfl rfl)
theorem dX4_signOf_84 : decode cX4_signOf 84 = .ok (.ireturn, 1) := dk_172 (dk_at dksX4_signOf_2 16 rfl rfl)
abbrev cX4_isSun : ByteArray := prog_22_method_14_code
def yX4_isSun : MethodName := ⟨RX4, "isSun", "(I)Z"⟩
def dkwX4_isSun_0 : List UInt8 := [26, 16, 40, 159, 0, 9, 26, 16, 41, 160, 0, 7, 4, 167, 0, 4, 3, 172]
abbrev dktX4_isSun_0 : List UInt8 := dkwX4_isSun_0 ++ []
theorem dksX4_isSun_0 : cX4_isSun.data.toList.drop 0 = dktX4_isSun_0 := by decide +kernel
theorem dX4_isSun_0 : decode cX4_isSun 0 = .ok (.iload_n 0, 1) := dk_26 (dk_at dksX4_isSun_0 0 rfl rfl)
theorem dX4_isSun_1 : decode cX4_isSun 1 = .ok (.bipush 40, 2) := dk_16 40 (dk_at dksX4_isSun_0 1 rfl rfl)
theorem dX4_isSun_3 : decode cX4_isSun 3 = .ok (.if_icmp .eq 9, 3) := dk_159 0 9 (dk_at dksX4_isSun_0 3 rfl rfl)
theorem dX4_isSun_6 : decode cX4_isSun 6 = .ok (.iload_n 0, 1) := dk_26 (dk_at dksX4_isSun_0 6 rfl rfl)
theorem dX4_isSun_7 : decode cX4_isSun 7 = .ok (.bipush 41, 2) := dk_16 41 (dk_at dksX4_isSun_0 7 rfl rfl)
theorem dX4_isSun_9 : decode cX4_isSun 9 = .ok (.if_icmp .ne 7, 3) := dk_160 0 7 (dk_at dksX4_isSun_0 9 rfl rfl)
theorem dX4_isSun_12 : decode cX4_isSun 12 = .ok (.iconst 1, 1) := dk_4 (dk_at dksX4_isSun_0 12 rfl rfl)
theorem dX4_isSun_13 : decode cX4_isSun 13 = .ok (.goto 4, 3) := dk_167 0 4 (dk_at dksX4_isSun_0 13 rfl rfl)
theorem dX4_isSun_16 : decode cX4_isSun 16 = .ok (.iconst 0, 1) := dk_3 (dk_at dksX4_isSun_0 16 rfl rfl)
theorem dX4_isSun_17 : decode cX4_isSun 17 = .ok (.ireturn, 1) := dk_172 (dk_at dksX4_isSun_0 17 rfl rfl)
abbrev cX4_fails : ByteArray := prog_22_method_3_code
def yX4_fails : MethodName := ⟨RX4, "fails", "(I)Z"⟩
def dkwX4_fails_0 : List UInt8 := [42, 27, 181, 0, 73, 42, 3, 181, 0, 76, 27, 158, 0, 7, 4, 167, 0, 4, 3, 172]
abbrev dktX4_fails_0 : List UInt8 := dkwX4_fails_0 ++ []
theorem dksX4_fails_0 : cX4_fails.data.toList.drop 0 = dktX4_fails_0 := by decide +kernel
theorem dX4_fails_0 : decode cX4_fails 0 = .ok (.aload_n 0, 1) := dk_42 (dk_at dksX4_fails_0 0 rfl rfl)
theorem dX4_fails_1 : decode cX4_fails 1 = .ok (.iload_n 1, 1) := dk_27 (dk_at dksX4_fails_0 1 rfl rfl)
theorem dX4_fails_2 : decode cX4_fails 2 = .ok (.putfield 73, 3) := dk_181 0 73 (dk_at dksX4_fails_0 2 rfl rfl)
theorem dX4_fails_5 : decode cX4_fails 5 = .ok (.aload_n 0, 1) := dk_42 (dk_at dksX4_fails_0 5 rfl rfl)
theorem dX4_fails_6 : decode cX4_fails 6 = .ok (.iconst 0, 1) := dk_3 (dk_at dksX4_fails_0 6 rfl rfl)
theorem dX4_fails_7 : decode cX4_fails 7 = .ok (.putfield 76, 3) := dk_181 0 76 (dk_at dksX4_fails_0 7 rfl rfl)
theorem dX4_fails_10 : decode cX4_fails 10 = .ok (.iload_n 1, 1) := dk_27 (dk_at dksX4_fails_0 10 rfl rfl)
theorem dX4_fails_11 : decode cX4_fails 11 = .ok (.ifCond .le 7, 3) := dk_158 0 7 (dk_at dksX4_fails_0 11 rfl rfl)
theorem dX4_fails_14 : decode cX4_fails 14 = .ok (.iconst 1, 1) := dk_4 (dk_at dksX4_fails_0 14 rfl rfl)
theorem dX4_fails_15 : decode cX4_fails 15 = .ok (.goto 4, 3) := dk_167 0 4 (dk_at dksX4_fails_0 15 rfl rfl)
theorem dX4_fails_18 : decode cX4_fails 18 = .ok (.iconst 0, 1) := dk_3 (dk_at dksX4_fails_0 18 rfl rfl)
theorem dX4_fails_19 : decode cX4_fails 19 = .ok (.ireturn, 1) := dk_172 (dk_at dksX4_fails_0 19 rfl rfl)
abbrev cX4_denies : ByteArray := prog_22_method_4_code
def yX4_denies : MethodName := ⟨RX4, "denies", "(III)I"⟩
def dkwX4_denies_1 : List UInt8 := [181, 0, 86, 3, 172]
abbrev dktX4_denies_1 : List UInt8 := dkwX4_denies_1 ++ []
def dkwX4_denies_0 : List UInt8 := [42, 27, 181, 0, 73, 42, 4, 181, 0, 76, 42, 28, 181, 0, 80, 42, 29, 181, 0, 83, 42, 3]
abbrev dktX4_denies_0 : List UInt8 := dkwX4_denies_0 ++ dktX4_denies_1
theorem dksX4_denies_0 : cX4_denies.data.toList.drop 0 = dktX4_denies_0 := by decide +kernel
theorem dksX4_denies_1 : cX4_denies.data.toList.drop 22 = dktX4_denies_1 := dk_seg dksX4_denies_0 22 rfl rfl
theorem dX4_denies_0 : decode cX4_denies 0 = .ok (.aload_n 0, 1) := dk_42 (dk_at dksX4_denies_0 0 rfl rfl)
theorem dX4_denies_1 : decode cX4_denies 1 = .ok (.iload_n 1, 1) := dk_27 (dk_at dksX4_denies_0 1 rfl rfl)
theorem dX4_denies_2 : decode cX4_denies 2 = .ok (.putfield 73, 3) := dk_181 0 73 (dk_at dksX4_denies_0 2 rfl rfl)
theorem dX4_denies_5 : decode cX4_denies 5 = .ok (.aload_n 0, 1) := dk_42 (dk_at dksX4_denies_0 5 rfl rfl)
theorem dX4_denies_6 : decode cX4_denies 6 = .ok (.iconst 1, 1) := dk_4 (dk_at dksX4_denies_0 6 rfl rfl)
theorem dX4_denies_7 : decode cX4_denies 7 = .ok (.putfield 76, 3) := dk_181 0 76 (dk_at dksX4_denies_0 7 rfl rfl)
theorem dX4_denies_10 : decode cX4_denies 10 = .ok (.aload_n 0, 1) := dk_42 (dk_at dksX4_denies_0 10 rfl rfl)
theorem dX4_denies_11 : decode cX4_denies 11 = .ok (.iload_n 2, 1) := dk_28 (dk_at dksX4_denies_0 11 rfl rfl)
theorem dX4_denies_12 : decode cX4_denies 12 = .ok (.putfield 80, 3) := dk_181 0 80 (dk_at dksX4_denies_0 12 rfl rfl)
theorem dX4_denies_15 : decode cX4_denies 15 = .ok (.aload_n 0, 1) := dk_42 (dk_at dksX4_denies_0 15 rfl rfl)
theorem dX4_denies_16 : decode cX4_denies 16 = .ok (.iload_n 3, 1) := dk_29 (dk_at dksX4_denies_0 16 rfl rfl)
theorem dX4_denies_17 : decode cX4_denies 17 = .ok (.putfield 83, 3) := dk_181 0 83 (dk_at dksX4_denies_0 17 rfl rfl)
theorem dX4_denies_20 : decode cX4_denies 20 = .ok (.aload_n 0, 1) := dk_42 (dk_at dksX4_denies_0 20 rfl rfl)
theorem dX4_denies_21 : decode cX4_denies 21 = .ok (.iconst 0, 1) := dk_3 (dk_at dksX4_denies_0 21 rfl rfl)
theorem dX4_denies_22 : decode cX4_denies 22 = .ok (.putfield 86, 3) := dk_181 0 86 (dk_at dksX4_denies_1 0 rfl rfl)
theorem dX4_denies_25 : decode cX4_denies 25 = .ok (.iconst 0, 1) := dk_3 (dk_at dksX4_denies_1 3 rfl rfl)
theorem dX4_denies_26 : decode cX4_denies 26 = .ok (.ireturn, 1) := dk_172 (dk_at dksX4_denies_1 4 rfl rfl)
abbrev cX4_operandMany : ByteArray := prog_22_method_18_code
def yX4_operandMany : MethodName := ⟨RX4, "operandMany", "()I"⟩
def dkwX4_operandMany_1 : List UInt8 := [153, 0, 7, 4, 167, 0, 4, 3, 96, 60, 132, 2, 1, 167, 255, 224, 27, 172]
abbrev dktX4_operandMany_1 : List UInt8 := dkwX4_operandMany_1 ++ []
def dkwX4_operandMany_0 : List UInt8 := [3, 60, 3, 61, 28, 42, 180, 0, 7, 3, 46, 162, 0, 28, 27, 42, 28, 182, 0, 117, 184, 0, 111]
abbrev dktX4_operandMany_0 : List UInt8 := dkwX4_operandMany_0 ++ dktX4_operandMany_1
theorem dksX4_operandMany_0 : cX4_operandMany.data.toList.drop 0 = dktX4_operandMany_0 := by decide +kernel
theorem dksX4_operandMany_1 : cX4_operandMany.data.toList.drop 23 = dktX4_operandMany_1 := dk_seg dksX4_operandMany_0 23 rfl rfl
theorem dX4_operandMany_0 : decode cX4_operandMany 0 = .ok (.iconst 0, 1) := dk_3 (dk_at dksX4_operandMany_0 0 rfl rfl)
theorem dX4_operandMany_1 : decode cX4_operandMany 1 = .ok (.istore_n 1, 1) := dk_60 (dk_at dksX4_operandMany_0 1 rfl rfl)
theorem dX4_operandMany_2 : decode cX4_operandMany 2 = .ok (.iconst 0, 1) := dk_3 (dk_at dksX4_operandMany_0 2 rfl rfl)
theorem dX4_operandMany_3 : decode cX4_operandMany 3 = .ok (.istore_n 2, 1) := dk_61 (dk_at dksX4_operandMany_0 3 rfl rfl)
theorem dX4_operandMany_4 : decode cX4_operandMany 4 = .ok (.iload_n 2, 1) := dk_28 (dk_at dksX4_operandMany_0 4 rfl rfl)
theorem dX4_operandMany_5 : decode cX4_operandMany 5 = .ok (.aload_n 0, 1) := dk_42 (dk_at dksX4_operandMany_0 5 rfl rfl)
theorem dX4_operandMany_6 : decode cX4_operandMany 6 = .ok (.getfield 7, 3) := dk_180 0 7 (dk_at dksX4_operandMany_0 6 rfl rfl)
theorem dX4_operandMany_9 : decode cX4_operandMany 9 = .ok (.iconst 0, 1) := dk_3 (dk_at dksX4_operandMany_0 9 rfl rfl)
theorem dX4_operandMany_10 : decode cX4_operandMany 10 = .ok (.iaload, 1) := dk_46 (dk_at dksX4_operandMany_0 10 rfl rfl)
theorem dX4_operandMany_11 : decode cX4_operandMany 11 = .ok (.if_icmp .ge 28, 3) := dk_162 0 28 (dk_at dksX4_operandMany_0 11 rfl rfl)
theorem dX4_operandMany_14 : decode cX4_operandMany 14 = .ok (.iload_n 1, 1) := dk_27 (dk_at dksX4_operandMany_0 14 rfl rfl)
theorem dX4_operandMany_15 : decode cX4_operandMany 15 = .ok (.aload_n 0, 1) := dk_42 (dk_at dksX4_operandMany_0 15 rfl rfl)
theorem dX4_operandMany_16 : decode cX4_operandMany 16 = .ok (.iload_n 2, 1) := dk_28 (dk_at dksX4_operandMany_0 16 rfl rfl)
theorem dX4_operandMany_17 : decode cX4_operandMany 17 = .ok (.invokevirtual 117, 3) := dk_182 0 117 (dk_at dksX4_operandMany_0 17 rfl rfl)
theorem dX4_operandMany_20 : decode cX4_operandMany 20 = .ok (.invokestatic 111, 3) := dk_184 0 111 (dk_at dksX4_operandMany_0 20 rfl rfl)
theorem dX4_operandMany_23 : decode cX4_operandMany 23 = .ok (.ifCond .eq 7, 3) := dk_153 0 7 (dk_at dksX4_operandMany_1 0 rfl rfl)
theorem dX4_operandMany_26 : decode cX4_operandMany 26 = .ok (.iconst 1, 1) := dk_4 (dk_at dksX4_operandMany_1 3 rfl rfl)
theorem dX4_operandMany_27 : decode cX4_operandMany 27 = .ok (.goto 4, 3) := dk_167 0 4 (dk_at dksX4_operandMany_1 4 rfl rfl)
theorem dX4_operandMany_30 : decode cX4_operandMany 30 = .ok (.iconst 0, 1) := dk_3 (dk_at dksX4_operandMany_1 7 rfl rfl)
theorem dX4_operandMany_31 : decode cX4_operandMany 31 = .ok (.iadd, 1) := dk_96 (dk_at dksX4_operandMany_1 8 rfl rfl)
theorem dX4_operandMany_32 : decode cX4_operandMany 32 = .ok (.istore_n 1, 1) := dk_60 (dk_at dksX4_operandMany_1 9 rfl rfl)
theorem dX4_operandMany_33 : decode cX4_operandMany 33 = .ok (.iinc 2 1, 3) := dk_132 2 1 (dk_at dksX4_operandMany_1 10 rfl rfl)
theorem dX4_operandMany_36 : decode cX4_operandMany 36 = .ok (.goto (-32), 3) := dk_167 255 224 (dk_at dksX4_operandMany_1 13 rfl rfl)
theorem dX4_operandMany_39 : decode cX4_operandMany 39 = .ok (.iload_n 1, 1) := dk_27 (dk_at dksX4_operandMany_1 16 rfl rfl)
theorem dX4_operandMany_40 : decode cX4_operandMany 40 = .ok (.ireturn, 1) := dk_172 (dk_at dksX4_operandMany_1 17 rfl rfl)
abbrev cX4_draft : ByteArray := prog_22_method_17_code
def yX4_draft : MethodName := ⟨RX4, "draft", "(I)I"⟩
def dkwX4_draft_0 : List UInt8 := [42, 180, 0, 7, 4, 27, 96, 46, 172]
abbrev dktX4_draft_0 : List UInt8 := dkwX4_draft_0 ++ []
theorem dksX4_draft_0 : cX4_draft.data.toList.drop 0 = dktX4_draft_0 := by decide +kernel
theorem dX4_draft_0 : decode cX4_draft 0 = .ok (.aload_n 0, 1) := dk_42 (dk_at dksX4_draft_0 0 rfl rfl)
theorem dX4_draft_1 : decode cX4_draft 1 = .ok (.getfield 7, 3) := dk_180 0 7 (dk_at dksX4_draft_0 1 rfl rfl)
theorem dX4_draft_4 : decode cX4_draft 4 = .ok (.iconst 1, 1) := dk_4 (dk_at dksX4_draft_0 4 rfl rfl)
theorem dX4_draft_5 : decode cX4_draft 5 = .ok (.iload_n 1, 1) := dk_27 (dk_at dksX4_draft_0 5 rfl rfl)
theorem dX4_draft_6 : decode cX4_draft 6 = .ok (.iadd, 1) := dk_96 (dk_at dksX4_draft_0 6 rfl rfl)
theorem dX4_draft_7 : decode cX4_draft 7 = .ok (.iaload, 1) := dk_46 (dk_at dksX4_draft_0 7 rfl rfl)
theorem dX4_draft_8 : decode cX4_draft 8 = .ok (.ireturn, 1) := dk_172 (dk_at dksX4_draft_0 8 rfl rfl)
abbrev cX4_keeps : ByteArray := prog_22_method_8_code
def yX4_keeps : MethodName := ⟨RX4, "keeps", "([I)V"⟩
def dkwX4_keeps_3 : List UInt8 := [42, 180, 0, 92, 104, 184, 0, 95, 42, 89, 180, 0, 92, 4, 96, 181, 0, 92, 177]
abbrev dktX4_keeps_3 : List UInt8 := dkwX4_keeps_3 ++ []
def dkwX4_keeps_2 : List UInt8 := [132, 2, 1, 167, 255, 231, 42, 89, 180, 0, 92, 4, 100, 181, 0, 92, 43, 3, 42, 180, 0, 13, 16, 44]
abbrev dktX4_keeps_2 : List UInt8 := dkwX4_keeps_2 ++ dktX4_keeps_3
def dkwX4_keeps_1 : List UInt8 := [28, 17, 1, 52, 162, 0, 24, 42, 180, 0, 13, 28, 42, 180, 0, 13, 28, 16, 44, 96, 46, 79]
abbrev dktX4_keeps_1 : List UInt8 := dkwX4_keeps_1 ++ dktX4_keeps_2
def dkwX4_keeps_0 : List UInt8 := [42, 3, 181, 0, 73, 42, 180, 0, 89, 153, 0, 4, 177, 42, 180, 0, 92, 16, 8, 160, 0, 43, 3, 61]
abbrev dktX4_keeps_0 : List UInt8 := dkwX4_keeps_0 ++ dktX4_keeps_1
theorem dksX4_keeps_0 : cX4_keeps.data.toList.drop 0 = dktX4_keeps_0 := by decide +kernel
theorem dksX4_keeps_1 : cX4_keeps.data.toList.drop 24 = dktX4_keeps_1 := dk_seg dksX4_keeps_0 24 rfl rfl
theorem dksX4_keeps_2 : cX4_keeps.data.toList.drop 46 = dktX4_keeps_2 := dk_seg dksX4_keeps_1 22 rfl rfl
theorem dksX4_keeps_3 : cX4_keeps.data.toList.drop 70 = dktX4_keeps_3 := dk_seg dksX4_keeps_2 24 rfl rfl
theorem dX4_keeps_0 : decode cX4_keeps 0 = .ok (.aload_n 0, 1) := dk_42 (dk_at dksX4_keeps_0 0 rfl rfl)
theorem dX4_keeps_1 : decode cX4_keeps 1 = .ok (.iconst 0, 1) := dk_3 (dk_at dksX4_keeps_0 1 rfl rfl)
theorem dX4_keeps_2 : decode cX4_keeps 2 = .ok (.putfield 73, 3) := dk_181 0 73 (dk_at dksX4_keeps_0 2 rfl rfl)
theorem dX4_keeps_5 : decode cX4_keeps 5 = .ok (.aload_n 0, 1) := dk_42 (dk_at dksX4_keeps_0 5 rfl rfl)
theorem dX4_keeps_6 : decode cX4_keeps 6 = .ok (.getfield 89, 3) := dk_180 0 89 (dk_at dksX4_keeps_0 6 rfl rfl)
theorem dX4_keeps_9 : decode cX4_keeps 9 = .ok (.ifCond .eq 4, 3) := dk_153 0 4 (dk_at dksX4_keeps_0 9 rfl rfl)
theorem dX4_keeps_12 : decode cX4_keeps 12 = .ok (.return_, 1) := dk_177 (dk_at dksX4_keeps_0 12 rfl rfl)
theorem dX4_keeps_13 : decode cX4_keeps 13 = .ok (.aload_n 0, 1) := dk_42 (dk_at dksX4_keeps_0 13 rfl rfl)
theorem dX4_keeps_14 : decode cX4_keeps 14 = .ok (.getfield 92, 3) := dk_180 0 92 (dk_at dksX4_keeps_0 14 rfl rfl)
theorem dX4_keeps_17 : decode cX4_keeps 17 = .ok (.bipush 8, 2) := dk_16 8 (dk_at dksX4_keeps_0 17 rfl rfl)
theorem dX4_keeps_19 : decode cX4_keeps 19 = .ok (.if_icmp .ne 43, 3) := dk_160 0 43 (dk_at dksX4_keeps_0 19 rfl rfl)
theorem dX4_keeps_22 : decode cX4_keeps 22 = .ok (.iconst 0, 1) := dk_3 (dk_at dksX4_keeps_0 22 rfl rfl)
theorem dX4_keeps_23 : decode cX4_keeps 23 = .ok (.istore_n 2, 1) := dk_61 (dk_at dksX4_keeps_0 23 rfl rfl)
theorem dX4_keeps_24 : decode cX4_keeps 24 = .ok (.iload_n 2, 1) := dk_28 (dk_at dksX4_keeps_1 0 rfl rfl)
theorem dX4_keeps_25 : decode cX4_keeps 25 = .ok (.sipush 308, 3) := dk_17 1 52 (dk_at dksX4_keeps_1 1 rfl rfl)
theorem dX4_keeps_28 : decode cX4_keeps 28 = .ok (.if_icmp .ge 24, 3) := dk_162 0 24 (dk_at dksX4_keeps_1 4 rfl rfl)
theorem dX4_keeps_31 : decode cX4_keeps 31 = .ok (.aload_n 0, 1) := dk_42 (dk_at dksX4_keeps_1 7 rfl rfl)
theorem dX4_keeps_32 : decode cX4_keeps 32 = .ok (.getfield 13, 3) := dk_180 0 13 (dk_at dksX4_keeps_1 8 rfl rfl)
theorem dX4_keeps_35 : decode cX4_keeps 35 = .ok (.iload_n 2, 1) := dk_28 (dk_at dksX4_keeps_1 11 rfl rfl)
theorem dX4_keeps_36 : decode cX4_keeps 36 = .ok (.aload_n 0, 1) := dk_42 (dk_at dksX4_keeps_1 12 rfl rfl)
theorem dX4_keeps_37 : decode cX4_keeps 37 = .ok (.getfield 13, 3) := dk_180 0 13 (dk_at dksX4_keeps_1 13 rfl rfl)
theorem dX4_keeps_40 : decode cX4_keeps 40 = .ok (.iload_n 2, 1) := dk_28 (dk_at dksX4_keeps_1 16 rfl rfl)
theorem dX4_keeps_41 : decode cX4_keeps 41 = .ok (.bipush 44, 2) := dk_16 44 (dk_at dksX4_keeps_1 17 rfl rfl)
theorem dX4_keeps_43 : decode cX4_keeps 43 = .ok (.iadd, 1) := dk_96 (dk_at dksX4_keeps_1 19 rfl rfl)
theorem dX4_keeps_44 : decode cX4_keeps 44 = .ok (.iaload, 1) := dk_46 (dk_at dksX4_keeps_1 20 rfl rfl)
theorem dX4_keeps_45 : decode cX4_keeps 45 = .ok (.iastore, 1) := dk_79 (dk_at dksX4_keeps_1 21 rfl rfl)
theorem dX4_keeps_46 : decode cX4_keeps 46 = .ok (.iinc 2 1, 3) := dk_132 2 1 (dk_at dksX4_keeps_2 0 rfl rfl)
theorem dX4_keeps_49 : decode cX4_keeps 49 = .ok (.goto (-25), 3) := dk_167 255 231 (dk_at dksX4_keeps_2 3 rfl rfl)
theorem dX4_keeps_52 : decode cX4_keeps 52 = .ok (.aload_n 0, 1) := dk_42 (dk_at dksX4_keeps_2 6 rfl rfl)
theorem dX4_keeps_53 : decode cX4_keeps 53 = .ok (.dup, 1) := dk_89 (dk_at dksX4_keeps_2 7 rfl rfl)
theorem dX4_keeps_54 : decode cX4_keeps 54 = .ok (.getfield 92, 3) := dk_180 0 92 (dk_at dksX4_keeps_2 8 rfl rfl)
theorem dX4_keeps_57 : decode cX4_keeps 57 = .ok (.iconst 1, 1) := dk_4 (dk_at dksX4_keeps_2 11 rfl rfl)
theorem dX4_keeps_58 : decode cX4_keeps 58 = .ok (.isub, 1) := dk_100 (dk_at dksX4_keeps_2 12 rfl rfl)
theorem dX4_keeps_59 : decode cX4_keeps 59 = .ok (.putfield 92, 3) := dk_181 0 92 (dk_at dksX4_keeps_2 13 rfl rfl)
theorem dX4_keeps_62 : decode cX4_keeps 62 = .ok (.aload_n 1, 1) := dk_43 (dk_at dksX4_keeps_2 16 rfl rfl)
theorem dX4_keeps_63 : decode cX4_keeps 63 = .ok (.iconst 0, 1) := dk_3 (dk_at dksX4_keeps_2 17 rfl rfl)
theorem dX4_keeps_64 : decode cX4_keeps 64 = .ok (.aload_n 0, 1) := dk_42 (dk_at dksX4_keeps_2 18 rfl rfl)
theorem dX4_keeps_65 : decode cX4_keeps 65 = .ok (.getfield 13, 3) := dk_180 0 13 (dk_at dksX4_keeps_2 19 rfl rfl)
theorem dX4_keeps_68 : decode cX4_keeps 68 = .ok (.bipush 44, 2) := dk_16 44 (dk_at dksX4_keeps_2 22 rfl rfl)
theorem dX4_keeps_70 : decode cX4_keeps 70 = .ok (.aload_n 0, 1) := dk_42 (dk_at dksX4_keeps_3 0 rfl rfl)
theorem dX4_keeps_71 : decode cX4_keeps 71 = .ok (.getfield 92, 3) := dk_180 0 92 (dk_at dksX4_keeps_3 1 rfl rfl)
theorem dX4_keeps_74 : decode cX4_keeps 74 = .ok (.imul, 1) := dk_104 (dk_at dksX4_keeps_3 4 rfl rfl)
theorem dX4_keeps_75 : decode cX4_keeps 75 = .ok (.invokestatic 95, 3) := dk_184 0 95 (dk_at dksX4_keeps_3 5 rfl rfl)
theorem dX4_keeps_78 : decode cX4_keeps 78 = .ok (.aload_n 0, 1) := dk_42 (dk_at dksX4_keeps_3 8 rfl rfl)
theorem dX4_keeps_79 : decode cX4_keeps 79 = .ok (.dup, 1) := dk_89 (dk_at dksX4_keeps_3 9 rfl rfl)
theorem dX4_keeps_80 : decode cX4_keeps 80 = .ok (.getfield 92, 3) := dk_180 0 92 (dk_at dksX4_keeps_3 10 rfl rfl)
theorem dX4_keeps_83 : decode cX4_keeps 83 = .ok (.iconst 1, 1) := dk_4 (dk_at dksX4_keeps_3 13 rfl rfl)
theorem dX4_keeps_84 : decode cX4_keeps 84 = .ok (.iadd, 1) := dk_96 (dk_at dksX4_keeps_3 14 rfl rfl)
theorem dX4_keeps_85 : decode cX4_keeps 85 = .ok (.putfield 92, 3) := dk_181 0 92 (dk_at dksX4_keeps_3 15 rfl rfl)
theorem dX4_keeps_88 : decode cX4_keeps 88 = .ok (.return_, 1) := dk_177 (dk_at dksX4_keeps_3 18 rfl rfl)
abbrev cX4_copies : ByteArray := prog_22_method_7_code
def yX4_copies : MethodName := ⟨RX4, "copies", "([II[II)V"⟩
def dkwX4_copies_1 : List UInt8 := [132, 4, 1, 167, 255, 234, 177]
abbrev dktX4_copies_1 : List UInt8 := dkwX4_copies_1 ++ []
def dkwX4_copies_0 : List UInt8 := [3, 54, 4, 21, 4, 16, 44, 162, 0, 21, 44, 29, 21, 4, 96, 42, 27, 21, 4, 96, 46, 79]
abbrev dktX4_copies_0 : List UInt8 := dkwX4_copies_0 ++ dktX4_copies_1
theorem dksX4_copies_0 : cX4_copies.data.toList.drop 0 = dktX4_copies_0 := by decide +kernel
theorem dksX4_copies_1 : cX4_copies.data.toList.drop 22 = dktX4_copies_1 := dk_seg dksX4_copies_0 22 rfl rfl
theorem dX4_copies_0 : decode cX4_copies 0 = .ok (.iconst 0, 1) := dk_3 (dk_at dksX4_copies_0 0 rfl rfl)
theorem dX4_copies_1 : decode cX4_copies 1 = .ok (.istore 4, 2) := dk_54 4 (dk_at dksX4_copies_0 1 rfl rfl)
theorem dX4_copies_3 : decode cX4_copies 3 = .ok (.iload 4, 2) := dk_21 4 (dk_at dksX4_copies_0 3 rfl rfl)
theorem dX4_copies_5 : decode cX4_copies 5 = .ok (.bipush 44, 2) := dk_16 44 (dk_at dksX4_copies_0 5 rfl rfl)
theorem dX4_copies_7 : decode cX4_copies 7 = .ok (.if_icmp .ge 21, 3) := dk_162 0 21 (dk_at dksX4_copies_0 7 rfl rfl)
theorem dX4_copies_10 : decode cX4_copies 10 = .ok (.aload_n 2, 1) := dk_44 (dk_at dksX4_copies_0 10 rfl rfl)
theorem dX4_copies_11 : decode cX4_copies 11 = .ok (.iload_n 3, 1) := dk_29 (dk_at dksX4_copies_0 11 rfl rfl)
theorem dX4_copies_12 : decode cX4_copies 12 = .ok (.iload 4, 2) := dk_21 4 (dk_at dksX4_copies_0 12 rfl rfl)
theorem dX4_copies_14 : decode cX4_copies 14 = .ok (.iadd, 1) := dk_96 (dk_at dksX4_copies_0 14 rfl rfl)
theorem dX4_copies_15 : decode cX4_copies 15 = .ok (.aload_n 0, 1) := dk_42 (dk_at dksX4_copies_0 15 rfl rfl)
theorem dX4_copies_16 : decode cX4_copies 16 = .ok (.iload_n 1, 1) := dk_27 (dk_at dksX4_copies_0 16 rfl rfl)
theorem dX4_copies_17 : decode cX4_copies 17 = .ok (.iload 4, 2) := dk_21 4 (dk_at dksX4_copies_0 17 rfl rfl)
theorem dX4_copies_19 : decode cX4_copies 19 = .ok (.iadd, 1) := dk_96 (dk_at dksX4_copies_0 19 rfl rfl)
theorem dX4_copies_20 : decode cX4_copies 20 = .ok (.iaload, 1) := dk_46 (dk_at dksX4_copies_0 20 rfl rfl)
theorem dX4_copies_21 : decode cX4_copies 21 = .ok (.iastore, 1) := dk_79 (dk_at dksX4_copies_0 21 rfl rfl)
theorem dX4_copies_22 : decode cX4_copies 22 = .ok (.iinc 4 1, 3) := dk_132 4 1 (dk_at dksX4_copies_1 0 rfl rfl)
theorem dX4_copies_25 : decode cX4_copies 25 = .ok (.goto (-22), 3) := dk_167 255 234 (dk_at dksX4_copies_1 3 rfl rfl)
theorem dX4_copies_28 : decode cX4_copies 28 = .ok (.return_, 1) := dk_177 (dk_at dksX4_copies_1 6 rfl rfl)
abbrev cX4_erase : ByteArray := prog_22_method_20_code
def yX4_erase : MethodName := ⟨RX4, "erase", "()C"⟩
def dkwX4_erase_4 : List UInt8 := [96, 3, 79, 27, 146, 172]
abbrev dktX4_erase_4 : List UInt8 := dkwX4_erase_4 ++ []
def dkwX4_erase_3 : List UInt8 := [100, 79, 42, 42, 180, 0, 7, 3, 46, 182, 0, 117, 60, 42, 180, 0, 7, 4, 42, 180, 0, 7, 3, 46]
abbrev dktX4_erase_3 : List UInt8 := dkwX4_erase_3 ++ dktX4_erase_4
def dkwX4_erase_2 : List UInt8 := [27, 182, 0, 126, 87, 16, 32, 172, 42, 42, 180, 0, 7, 182, 0, 134, 42, 180, 0, 7, 3, 92, 46, 4]
abbrev dktX4_erase_2 : List UInt8 := dkwX4_erase_2 ++ dktX4_erase_3
def dkwX4_erase_1 : List UInt8 := [16, 25, 28, 96, 46, 154, 0, 7, 4, 167, 0, 4, 3, 96, 60, 132, 2, 1, 167, 255, 227, 42, 4, 6]
abbrev dktX4_erase_1 : List UInt8 := dkwX4_erase_1 ++ dktX4_erase_2
def dkwX4_erase_0 : List UInt8 := [42, 180, 0, 7, 3, 46, 154, 0, 50, 3, 60, 3, 61, 28, 16, 6, 162, 0, 29, 27, 42, 180, 0, 7]
abbrev dktX4_erase_0 : List UInt8 := dkwX4_erase_0 ++ dktX4_erase_1
theorem dksX4_erase_0 : cX4_erase.data.toList.drop 0 = dktX4_erase_0 := by decide +kernel
theorem dksX4_erase_1 : cX4_erase.data.toList.drop 24 = dktX4_erase_1 := dk_seg dksX4_erase_0 24 rfl rfl
theorem dksX4_erase_2 : cX4_erase.data.toList.drop 48 = dktX4_erase_2 := dk_seg dksX4_erase_1 24 rfl rfl
theorem dksX4_erase_3 : cX4_erase.data.toList.drop 72 = dktX4_erase_3 := dk_seg dksX4_erase_2 24 rfl rfl
theorem dksX4_erase_4 : cX4_erase.data.toList.drop 96 = dktX4_erase_4 := dk_seg dksX4_erase_3 24 rfl rfl
theorem dX4_erase_0 : decode cX4_erase 0 = .ok (.aload_n 0, 1) := dk_42 (dk_at dksX4_erase_0 0 rfl rfl)
theorem dX4_erase_1 : decode cX4_erase 1 = .ok (.getfield 7, 3) := dk_180 0 7 (dk_at dksX4_erase_0 1 rfl rfl)
theorem dX4_erase_4 : decode cX4_erase 4 = .ok (.iconst 0, 1) := dk_3 (dk_at dksX4_erase_0 4 rfl rfl)
theorem dX4_erase_5 : decode cX4_erase 5 = .ok (.iaload, 1) := dk_46 (dk_at dksX4_erase_0 5 rfl rfl)
theorem dX4_erase_6 : decode cX4_erase 6 = .ok (.ifCond .ne 50, 3) := dk_154 0 50 (dk_at dksX4_erase_0 6 rfl rfl)
theorem dX4_erase_9 : decode cX4_erase 9 = .ok (.iconst 0, 1) := dk_3 (dk_at dksX4_erase_0 9 rfl rfl)
theorem dX4_erase_10 : decode cX4_erase 10 = .ok (.istore_n 1, 1) := dk_60 (dk_at dksX4_erase_0 10 rfl rfl)
theorem dX4_erase_11 : decode cX4_erase 11 = .ok (.iconst 0, 1) := dk_3 (dk_at dksX4_erase_0 11 rfl rfl)
theorem dX4_erase_12 : decode cX4_erase 12 = .ok (.istore_n 2, 1) := dk_61 (dk_at dksX4_erase_0 12 rfl rfl)
theorem dX4_erase_13 : decode cX4_erase 13 = .ok (.iload_n 2, 1) := dk_28 (dk_at dksX4_erase_0 13 rfl rfl)
theorem dX4_erase_14 : decode cX4_erase 14 = .ok (.bipush 6, 2) := dk_16 6 (dk_at dksX4_erase_0 14 rfl rfl)
theorem dX4_erase_16 : decode cX4_erase 16 = .ok (.if_icmp .ge 29, 3) := dk_162 0 29 (dk_at dksX4_erase_0 16 rfl rfl)
theorem dX4_erase_19 : decode cX4_erase 19 = .ok (.iload_n 1, 1) := dk_27 (dk_at dksX4_erase_0 19 rfl rfl)
theorem dX4_erase_20 : decode cX4_erase 20 = .ok (.aload_n 0, 1) := dk_42 (dk_at dksX4_erase_0 20 rfl rfl)
theorem dX4_erase_21 : decode cX4_erase 21 = .ok (.getfield 7, 3) := dk_180 0 7 (dk_at dksX4_erase_0 21 rfl rfl)
theorem dX4_erase_24 : decode cX4_erase 24 = .ok (.bipush 25, 2) := dk_16 25 (dk_at dksX4_erase_1 0 rfl rfl)
theorem dX4_erase_26 : decode cX4_erase 26 = .ok (.iload_n 2, 1) := dk_28 (dk_at dksX4_erase_1 2 rfl rfl)
theorem dX4_erase_27 : decode cX4_erase 27 = .ok (.iadd, 1) := dk_96 (dk_at dksX4_erase_1 3 rfl rfl)
theorem dX4_erase_28 : decode cX4_erase 28 = .ok (.iaload, 1) := dk_46 (dk_at dksX4_erase_1 4 rfl rfl)
theorem dX4_erase_29 : decode cX4_erase 29 = .ok (.ifCond .ne 7, 3) := dk_154 0 7 (dk_at dksX4_erase_1 5 rfl rfl)
theorem dX4_erase_32 : decode cX4_erase 32 = .ok (.iconst 1, 1) := dk_4 (dk_at dksX4_erase_1 8 rfl rfl)
theorem dX4_erase_33 : decode cX4_erase 33 = .ok (.goto 4, 3) := dk_167 0 4 (dk_at dksX4_erase_1 9 rfl rfl)
theorem dX4_erase_36 : decode cX4_erase 36 = .ok (.iconst 0, 1) := dk_3 (dk_at dksX4_erase_1 12 rfl rfl)
theorem dX4_erase_37 : decode cX4_erase 37 = .ok (.iadd, 1) := dk_96 (dk_at dksX4_erase_1 13 rfl rfl)
theorem dX4_erase_38 : decode cX4_erase 38 = .ok (.istore_n 1, 1) := dk_60 (dk_at dksX4_erase_1 14 rfl rfl)
theorem dX4_erase_39 : decode cX4_erase 39 = .ok (.iinc 2 1, 3) := dk_132 2 1 (dk_at dksX4_erase_1 15 rfl rfl)
theorem dX4_erase_42 : decode cX4_erase 42 = .ok (.goto (-29), 3) := dk_167 255 227 (dk_at dksX4_erase_1 18 rfl rfl)
theorem dX4_erase_45 : decode cX4_erase 45 = .ok (.aload_n 0, 1) := dk_42 (dk_at dksX4_erase_1 21 rfl rfl)
theorem dX4_erase_46 : decode cX4_erase 46 = .ok (.iconst 1, 1) := dk_4 (dk_at dksX4_erase_1 22 rfl rfl)
theorem dX4_erase_47 : decode cX4_erase 47 = .ok (.iconst 3, 1) := dk_6 (dk_at dksX4_erase_1 23 rfl rfl)
theorem dX4_erase_48 : decode cX4_erase 48 = .ok (.iload_n 1, 1) := dk_27 (dk_at dksX4_erase_2 0 rfl rfl)
theorem dX4_erase_49 : decode cX4_erase 49 = .ok (.invokevirtual 126, 3) := dk_182 0 126 (dk_at dksX4_erase_2 1 rfl rfl)
theorem dX4_erase_52 : decode cX4_erase 52 = .ok (.pop, 1) := dk_87 (dk_at dksX4_erase_2 4 rfl rfl)
theorem dX4_erase_53 : decode cX4_erase 53 = .ok (.bipush 32, 2) := dk_16 32 (dk_at dksX4_erase_2 5 rfl rfl)
theorem dX4_erase_55 : decode cX4_erase 55 = .ok (.ireturn, 1) := dk_172 (dk_at dksX4_erase_2 7 rfl rfl)
theorem dX4_erase_56 : decode cX4_erase 56 = .ok (.aload_n 0, 1) := dk_42 (dk_at dksX4_erase_2 8 rfl rfl)
theorem dX4_erase_57 : decode cX4_erase 57 = .ok (.aload_n 0, 1) := dk_42 (dk_at dksX4_erase_2 9 rfl rfl)
theorem dX4_erase_58 : decode cX4_erase 58 = .ok (.getfield 7, 3) := dk_180 0 7 (dk_at dksX4_erase_2 10 rfl rfl)
theorem dX4_erase_61 : decode cX4_erase 61 = .ok (.invokevirtual 134, 3) := dk_182 0 134 (dk_at dksX4_erase_2 13 rfl rfl)
theorem dX4_erase_64 : decode cX4_erase 64 = .ok (.aload_n 0, 1) := dk_42 (dk_at dksX4_erase_2 16 rfl rfl)
theorem dX4_erase_65 : decode cX4_erase 65 = .ok (.getfield 7, 3) := dk_180 0 7 (dk_at dksX4_erase_2 17 rfl rfl)
theorem dX4_erase_68 : decode cX4_erase 68 = .ok (.iconst 0, 1) := dk_3 (dk_at dksX4_erase_2 20 rfl rfl)
theorem dX4_erase_69 : decode cX4_erase 69 = .ok (.dup2, 1) := dk_92 (dk_at dksX4_erase_2 21 rfl rfl)
theorem dX4_erase_70 : decode cX4_erase 70 = .ok (.iaload, 1) := dk_46 (dk_at dksX4_erase_2 22 rfl rfl)
theorem dX4_erase_71 : decode cX4_erase 71 = .ok (.iconst 1, 1) := dk_4 (dk_at dksX4_erase_2 23 rfl rfl)
theorem dX4_erase_72 : decode cX4_erase 72 = .ok (.isub, 1) := dk_100 (dk_at dksX4_erase_3 0 rfl rfl)
theorem dX4_erase_73 : decode cX4_erase 73 = .ok (.iastore, 1) := dk_79 (dk_at dksX4_erase_3 1 rfl rfl)
theorem dX4_erase_74 : decode cX4_erase 74 = .ok (.aload_n 0, 1) := dk_42 (dk_at dksX4_erase_3 2 rfl rfl)
theorem dX4_erase_75 : decode cX4_erase 75 = .ok (.aload_n 0, 1) := dk_42 (dk_at dksX4_erase_3 3 rfl rfl)
theorem dX4_erase_76 : decode cX4_erase 76 = .ok (.getfield 7, 3) := dk_180 0 7 (dk_at dksX4_erase_3 4 rfl rfl)
theorem dX4_erase_79 : decode cX4_erase 79 = .ok (.iconst 0, 1) := dk_3 (dk_at dksX4_erase_3 7 rfl rfl)
theorem dX4_erase_80 : decode cX4_erase 80 = .ok (.iaload, 1) := dk_46 (dk_at dksX4_erase_3 8 rfl rfl)
theorem dX4_erase_81 : decode cX4_erase 81 = .ok (.invokevirtual 117, 3) := dk_182 0 117 (dk_at dksX4_erase_3 9 rfl rfl)
theorem dX4_erase_84 : decode cX4_erase 84 = .ok (.istore_n 1, 1) := dk_60 (dk_at dksX4_erase_3 12 rfl rfl)
theorem dX4_erase_85 : decode cX4_erase 85 = .ok (.aload_n 0, 1) := dk_42 (dk_at dksX4_erase_3 13 rfl rfl)
theorem dX4_erase_86 : decode cX4_erase 86 = .ok (.getfield 7, 3) := dk_180 0 7 (dk_at dksX4_erase_3 14 rfl rfl)
theorem dX4_erase_89 : decode cX4_erase 89 = .ok (.iconst 1, 1) := dk_4 (dk_at dksX4_erase_3 17 rfl rfl)
theorem dX4_erase_90 : decode cX4_erase 90 = .ok (.aload_n 0, 1) := dk_42 (dk_at dksX4_erase_3 18 rfl rfl)
theorem dX4_erase_91 : decode cX4_erase 91 = .ok (.getfield 7, 3) := dk_180 0 7 (dk_at dksX4_erase_3 19 rfl rfl)
theorem dX4_erase_94 : decode cX4_erase 94 = .ok (.iconst 0, 1) := dk_3 (dk_at dksX4_erase_3 22 rfl rfl)
theorem dX4_erase_95 : decode cX4_erase 95 = .ok (.iaload, 1) := dk_46 (dk_at dksX4_erase_3 23 rfl rfl)
theorem dX4_erase_96 : decode cX4_erase 96 = .ok (.iadd, 1) := dk_96 (dk_at dksX4_erase_4 0 rfl rfl)
theorem dX4_erase_97 : decode cX4_erase 97 = .ok (.iconst 0, 1) := dk_3 (dk_at dksX4_erase_4 1 rfl rfl)
theorem dX4_erase_98 : decode cX4_erase 98 = .ok (.iastore, 1) := dk_79 (dk_at dksX4_erase_4 2 rfl rfl)
theorem dX4_erase_99 : decode cX4_erase 99 = .ok (.iload_n 1, 1) := dk_27 (dk_at dksX4_erase_4 3 rfl rfl)
theorem dX4_erase_100 : decode cX4_erase 100 = .ok (.i2c, 1) := dk_146 (dk_at dksX4_erase_4 4 rfl rfl)
theorem dX4_erase_101 : decode cX4_erase 101 = .ok (.ireturn, 1) := dk_172 (dk_at dksX4_erase_4 5 rfl rfl)
abbrev cX4_clear : ByteArray := prog_22_method_21_code
def yX4_clear : MethodName := ⟨RX4, "clear", "()I"⟩
def dkwX4_clear_1 : List UInt8 := [28, 16, 24, 162, 0, 18, 42, 180, 0, 7, 4, 28, 96, 3, 79, 132, 2, 1, 167, 255, 238, 27, 172]
abbrev dktX4_clear_1 : List UInt8 := dkwX4_clear_1 ++ []
def dkwX4_clear_0 : List UInt8 := [42, 180, 0, 7, 3, 46, 60, 42, 42, 180, 0, 7, 182, 0, 134, 42, 180, 0, 7, 3, 3, 79, 3, 61]
abbrev dktX4_clear_0 : List UInt8 := dkwX4_clear_0 ++ dktX4_clear_1
theorem dksX4_clear_0 : cX4_clear.data.toList.drop 0 = dktX4_clear_0 := by decide +kernel
theorem dksX4_clear_1 : cX4_clear.data.toList.drop 24 = dktX4_clear_1 := dk_seg dksX4_clear_0 24 rfl rfl
theorem dX4_clear_0 : decode cX4_clear 0 = .ok (.aload_n 0, 1) := dk_42 (dk_at dksX4_clear_0 0 rfl rfl)
theorem dX4_clear_1 : decode cX4_clear 1 = .ok (.getfield 7, 3) := dk_180 0 7 (dk_at dksX4_clear_0 1 rfl rfl)
theorem dX4_clear_4 : decode cX4_clear 4 = .ok (.iconst 0, 1) := dk_3 (dk_at dksX4_clear_0 4 rfl rfl)
theorem dX4_clear_5 : decode cX4_clear 5 = .ok (.iaload, 1) := dk_46 (dk_at dksX4_clear_0 5 rfl rfl)
theorem dX4_clear_6 : decode cX4_clear 6 = .ok (.istore_n 1, 1) := dk_60 (dk_at dksX4_clear_0 6 rfl rfl)
theorem dX4_clear_7 : decode cX4_clear 7 = .ok (.aload_n 0, 1) := dk_42 (dk_at dksX4_clear_0 7 rfl rfl)
theorem dX4_clear_8 : decode cX4_clear 8 = .ok (.aload_n 0, 1) := dk_42 (dk_at dksX4_clear_0 8 rfl rfl)
theorem dX4_clear_9 : decode cX4_clear 9 = .ok (.getfield 7, 3) := dk_180 0 7 (dk_at dksX4_clear_0 9 rfl rfl)
theorem dX4_clear_12 : decode cX4_clear 12 = .ok (.invokevirtual 134, 3) := dk_182 0 134 (dk_at dksX4_clear_0 12 rfl rfl)
theorem dX4_clear_15 : decode cX4_clear 15 = .ok (.aload_n 0, 1) := dk_42 (dk_at dksX4_clear_0 15 rfl rfl)
theorem dX4_clear_16 : decode cX4_clear 16 = .ok (.getfield 7, 3) := dk_180 0 7 (dk_at dksX4_clear_0 16 rfl rfl)
theorem dX4_clear_19 : decode cX4_clear 19 = .ok (.iconst 0, 1) := dk_3 (dk_at dksX4_clear_0 19 rfl rfl)
theorem dX4_clear_20 : decode cX4_clear 20 = .ok (.iconst 0, 1) := dk_3 (dk_at dksX4_clear_0 20 rfl rfl)
theorem dX4_clear_21 : decode cX4_clear 21 = .ok (.iastore, 1) := dk_79 (dk_at dksX4_clear_0 21 rfl rfl)
theorem dX4_clear_22 : decode cX4_clear 22 = .ok (.iconst 0, 1) := dk_3 (dk_at dksX4_clear_0 22 rfl rfl)
theorem dX4_clear_23 : decode cX4_clear 23 = .ok (.istore_n 2, 1) := dk_61 (dk_at dksX4_clear_0 23 rfl rfl)
theorem dX4_clear_24 : decode cX4_clear 24 = .ok (.iload_n 2, 1) := dk_28 (dk_at dksX4_clear_1 0 rfl rfl)
theorem dX4_clear_25 : decode cX4_clear 25 = .ok (.bipush 24, 2) := dk_16 24 (dk_at dksX4_clear_1 1 rfl rfl)
theorem dX4_clear_27 : decode cX4_clear 27 = .ok (.if_icmp .ge 18, 3) := dk_162 0 18 (dk_at dksX4_clear_1 3 rfl rfl)
theorem dX4_clear_30 : decode cX4_clear 30 = .ok (.aload_n 0, 1) := dk_42 (dk_at dksX4_clear_1 6 rfl rfl)
theorem dX4_clear_31 : decode cX4_clear 31 = .ok (.getfield 7, 3) := dk_180 0 7 (dk_at dksX4_clear_1 7 rfl rfl)
theorem dX4_clear_34 : decode cX4_clear 34 = .ok (.iconst 1, 1) := dk_4 (dk_at dksX4_clear_1 10 rfl rfl)
theorem dX4_clear_35 : decode cX4_clear 35 = .ok (.iload_n 2, 1) := dk_28 (dk_at dksX4_clear_1 11 rfl rfl)
theorem dX4_clear_36 : decode cX4_clear 36 = .ok (.iadd, 1) := dk_96 (dk_at dksX4_clear_1 12 rfl rfl)
theorem dX4_clear_37 : decode cX4_clear 37 = .ok (.iconst 0, 1) := dk_3 (dk_at dksX4_clear_1 13 rfl rfl)
theorem dX4_clear_38 : decode cX4_clear 38 = .ok (.iastore, 1) := dk_79 (dk_at dksX4_clear_1 14 rfl rfl)
theorem dX4_clear_39 : decode cX4_clear 39 = .ok (.iinc 2 1, 3) := dk_132 2 1 (dk_at dksX4_clear_1 15 rfl rfl)
theorem dX4_clear_42 : decode cX4_clear 42 = .ok (.goto (-18), 3) := dk_167 255 238 (dk_at dksX4_clear_1 18 rfl rfl)
theorem dX4_clear_45 : decode cX4_clear 45 = .ok (.iload_n 1, 1) := dk_27 (dk_at dksX4_clear_1 21 rfl rfl)
theorem dX4_clear_46 : decode cX4_clear 46 = .ok (.ireturn, 1) := dk_172 (dk_at dksX4_clear_1 22 rfl rfl)
abbrev cX4_length : ByteArray := prog_22_method_22_code
def yX4_length : MethodName := ⟨RX4, "length", "()I"⟩
def dkwX4_length_0 : List UInt8 := [42, 3, 181, 0, 73, 42, 180, 0, 7, 3, 46, 172]
abbrev dktX4_length_0 : List UInt8 := dkwX4_length_0 ++ []
theorem dksX4_length_0 : cX4_length.data.toList.drop 0 = dktX4_length_0 := by decide +kernel
theorem dX4_length_0 : decode cX4_length 0 = .ok (.aload_n 0, 1) := dk_42 (dk_at dksX4_length_0 0 rfl rfl)
theorem dX4_length_1 : decode cX4_length 1 = .ok (.iconst 0, 1) := dk_3 (dk_at dksX4_length_0 1 rfl rfl)
theorem dX4_length_2 : decode cX4_length 2 = .ok (.putfield 73, 3) := dk_181 0 73 (dk_at dksX4_length_0 2 rfl rfl)
theorem dX4_length_5 : decode cX4_length 5 = .ok (.aload_n 0, 1) := dk_42 (dk_at dksX4_length_0 5 rfl rfl)
theorem dX4_length_6 : decode cX4_length 6 = .ok (.getfield 7, 3) := dk_180 0 7 (dk_at dksX4_length_0 6 rfl rfl)
theorem dX4_length_9 : decode cX4_length 9 = .ok (.iconst 0, 1) := dk_3 (dk_at dksX4_length_0 9 rfl rfl)
theorem dX4_length_10 : decode cX4_length 10 = .ok (.iaload, 1) := dk_46 (dk_at dksX4_length_0 10 rfl rfl)
theorem dX4_length_11 : decode cX4_length 11 = .ok (.ireturn, 1) := dk_172 (dk_at dksX4_length_0 11 rfl rfl)
abbrev cX4_characterAt : ByteArray := prog_22_method_23_code
def yX4_characterAt : MethodName := ⟨RX4, "characterAt", "(I)C"⟩
def dkwX4_characterAt_1 : List UInt8 := [182, 0, 123, 153, 0, 8, 16, 32, 167, 0, 9, 42, 27, 182, 0, 117, 146, 172]
abbrev dktX4_characterAt_1 : List UInt8 := dkwX4_characterAt_1 ++ []
def dkwX4_characterAt_0 : List UInt8 := [42, 27, 3, 42, 180, 0, 7, 3, 46, 4, 100, 184, 0, 103, 153, 0, 7, 3, 167, 0, 4, 4]
abbrev dktX4_characterAt_0 : List UInt8 := dkwX4_characterAt_0 ++ dktX4_characterAt_1
theorem dksX4_characterAt_0 : cX4_characterAt.data.toList.drop 0 = dktX4_characterAt_0 := by decide +kernel
theorem dksX4_characterAt_1 : cX4_characterAt.data.toList.drop 22 = dktX4_characterAt_1 := dk_seg dksX4_characterAt_0 22 rfl rfl
theorem dX4_characterAt_0 : decode cX4_characterAt 0 = .ok (.aload_n 0, 1) := dk_42 (dk_at dksX4_characterAt_0 0 rfl rfl)
theorem dX4_characterAt_1 : decode cX4_characterAt 1 = .ok (.iload_n 1, 1) := dk_27 (dk_at dksX4_characterAt_0 1 rfl rfl)
theorem dX4_characterAt_2 : decode cX4_characterAt 2 = .ok (.iconst 0, 1) := dk_3 (dk_at dksX4_characterAt_0 2 rfl rfl)
theorem dX4_characterAt_3 : decode cX4_characterAt 3 = .ok (.aload_n 0, 1) := dk_42 (dk_at dksX4_characterAt_0 3 rfl rfl)
theorem dX4_characterAt_4 : decode cX4_characterAt 4 = .ok (.getfield 7, 3) := dk_180 0 7 (dk_at dksX4_characterAt_0 4 rfl rfl)
theorem dX4_characterAt_7 : decode cX4_characterAt 7 = .ok (.iconst 0, 1) := dk_3 (dk_at dksX4_characterAt_0 7 rfl rfl)
theorem dX4_characterAt_8 : decode cX4_characterAt 8 = .ok (.iaload, 1) := dk_46 (dk_at dksX4_characterAt_0 8 rfl rfl)
theorem dX4_characterAt_9 : decode cX4_characterAt 9 = .ok (.iconst 1, 1) := dk_4 (dk_at dksX4_characterAt_0 9 rfl rfl)
theorem dX4_characterAt_10 : decode cX4_characterAt 10 = .ok (.isub, 1) := dk_100 (dk_at dksX4_characterAt_0 10 rfl rfl)
theorem dX4_characterAt_11 : decode cX4_characterAt 11 = .ok (.invokestatic 103, 3) := dk_184 0 103 (dk_at dksX4_characterAt_0 11 rfl rfl)
theorem dX4_characterAt_14 : decode cX4_characterAt 14 = .ok (.ifCond .eq 7, 3) := dk_153 0 7 (dk_at dksX4_characterAt_0 14 rfl rfl)
theorem dX4_characterAt_17 : decode cX4_characterAt 17 = .ok (.iconst 0, 1) := dk_3 (dk_at dksX4_characterAt_0 17 rfl rfl)
theorem dX4_characterAt_18 : decode cX4_characterAt 18 = .ok (.goto 4, 3) := dk_167 0 4 (dk_at dksX4_characterAt_0 18 rfl rfl)
theorem dX4_characterAt_21 : decode cX4_characterAt 21 = .ok (.iconst 1, 1) := dk_4 (dk_at dksX4_characterAt_0 21 rfl rfl)
theorem dX4_characterAt_22 : decode cX4_characterAt 22 = .ok (.invokevirtual 123, 3) := dk_182 0 123 (dk_at dksX4_characterAt_1 0 rfl rfl)
theorem dX4_characterAt_25 : decode cX4_characterAt 25 = .ok (.ifCond .eq 8, 3) := dk_153 0 8 (dk_at dksX4_characterAt_1 3 rfl rfl)
theorem dX4_characterAt_28 : decode cX4_characterAt 28 = .ok (.bipush 32, 2) := dk_16 32 (dk_at dksX4_characterAt_1 6 rfl rfl)
theorem dX4_characterAt_30 : decode cX4_characterAt 30 = .ok (.goto 9, 3) := dk_167 0 9 (dk_at dksX4_characterAt_1 8 rfl rfl)
theorem dX4_characterAt_33 : decode cX4_characterAt 33 = .ok (.aload_n 0, 1) := dk_42 (dk_at dksX4_characterAt_1 11 rfl rfl)
theorem dX4_characterAt_34 : decode cX4_characterAt 34 = .ok (.iload_n 1, 1) := dk_27 (dk_at dksX4_characterAt_1 12 rfl rfl)
theorem dX4_characterAt_35 : decode cX4_characterAt 35 = .ok (.invokevirtual 117, 3) := dk_182 0 117 (dk_at dksX4_characterAt_1 13 rfl rfl)
theorem dX4_characterAt_38 : decode cX4_characterAt 38 = .ok (.i2c, 1) := dk_146 (dk_at dksX4_characterAt_1 16 rfl rfl)
theorem dX4_characterAt_39 : decode cX4_characterAt 39 = .ok (.ireturn, 1) := dk_172 (dk_at dksX4_characterAt_1 17 rfl rfl)
abbrev cX4_operands : ByteArray := prog_22_method_24_code
def yX4_operands : MethodName := ⟨RX4, "operands", "()I"⟩
def dkwX4_operands_0 : List UInt8 := [42, 3, 181, 0, 73, 42, 182, 0, 130, 172]
abbrev dktX4_operands_0 : List UInt8 := dkwX4_operands_0 ++ []
theorem dksX4_operands_0 : cX4_operands.data.toList.drop 0 = dktX4_operands_0 := by decide +kernel
theorem dX4_operands_0 : decode cX4_operands 0 = .ok (.aload_n 0, 1) := dk_42 (dk_at dksX4_operands_0 0 rfl rfl)
theorem dX4_operands_1 : decode cX4_operands 1 = .ok (.iconst 0, 1) := dk_3 (dk_at dksX4_operands_0 1 rfl rfl)
theorem dX4_operands_2 : decode cX4_operands 2 = .ok (.putfield 73, 3) := dk_181 0 73 (dk_at dksX4_operands_0 2 rfl rfl)
theorem dX4_operands_5 : decode cX4_operands 5 = .ok (.aload_n 0, 1) := dk_42 (dk_at dksX4_operands_0 5 rfl rfl)
theorem dX4_operands_6 : decode cX4_operands 6 = .ok (.invokevirtual 130, 3) := dk_182 0 130 (dk_at dksX4_operands_0 6 rfl rfl)
theorem dX4_operands_9 : decode cX4_operands 9 = .ok (.ireturn, 1) := dk_172 (dk_at dksX4_operands_0 9 rfl rfl)
abbrev cX4_isExpression : ByteArray := prog_22_method_26_code
def yX4_isExpression : MethodName := ⟨RX4, "isExpression", "()Z"⟩
def dkwX4_isExpression_0 : List UInt8 := [42, 3, 181, 0, 73, 42, 182, 0, 141, 156, 0, 7, 4, 167, 0, 4, 3, 172]
abbrev dktX4_isExpression_0 : List UInt8 := dkwX4_isExpression_0 ++ []
theorem dksX4_isExpression_0 : cX4_isExpression.data.toList.drop 0 = dktX4_isExpression_0 := by decide +kernel
theorem dX4_isExpression_0 : decode cX4_isExpression 0 = .ok (.aload_n 0, 1) := dk_42 (dk_at dksX4_isExpression_0 0 rfl rfl)
theorem dX4_isExpression_1 : decode cX4_isExpression 1 = .ok (.iconst 0, 1) := dk_3 (dk_at dksX4_isExpression_0 1 rfl rfl)
theorem dX4_isExpression_2 : decode cX4_isExpression 2 = .ok (.putfield 73, 3) := dk_181 0 73 (dk_at dksX4_isExpression_0 2 rfl rfl)
theorem dX4_isExpression_5 : decode cX4_isExpression 5 = .ok (.aload_n 0, 1) := dk_42 (dk_at dksX4_isExpression_0 5 rfl rfl)
theorem dX4_isExpression_6 : decode cX4_isExpression 6 = .ok (.invokevirtual 141, 3) := dk_182 0 141 (dk_at dksX4_isExpression_0 6 rfl rfl)
theorem dX4_isExpression_9 : decode cX4_isExpression 9 = .ok (.ifCond .ge 7, 3) := dk_156 0 7 (dk_at dksX4_isExpression_0 9 rfl rfl)
theorem dX4_isExpression_12 : decode cX4_isExpression 12 = .ok (.iconst 1, 1) := dk_4 (dk_at dksX4_isExpression_0 12 rfl rfl)
theorem dX4_isExpression_13 : decode cX4_isExpression 13 = .ok (.goto 4, 3) := dk_167 0 4 (dk_at dksX4_isExpression_0 13 rfl rfl)
theorem dX4_isExpression_16 : decode cX4_isExpression 16 = .ok (.iconst 0, 1) := dk_3 (dk_at dksX4_isExpression_0 16 rfl rfl)
theorem dX4_isExpression_17 : decode cX4_isExpression 17 = .ok (.ireturn, 1) := dk_172 (dk_at dksX4_isExpression_0 17 rfl rfl)
abbrev cX4_broken : ByteArray := prog_22_method_25_code
def yX4_broken : MethodName := ⟨RX4, "broken", "()I"⟩
def dkwX4_broken_7 : List UInt8 := [2, 172]
abbrev dktX4_broken_7 : List UInt8 := dkwX4_broken_7 ++ []
def dkwX4_broken_6 : List UInt8 := [61, 132, 3, 1, 167, 255, 117, 28, 154, 0, 7, 27, 158, 0, 12, 42, 180, 0, 7, 3, 46, 167, 0, 4]
abbrev dktX4_broken_6 : List UInt8 := dkwX4_broken_6 ++ dktX4_broken_7
def dkwX4_broken_5 : List UInt8 := [153, 0, 19, 21, 4, 184, 0, 111, 154, 0, 7, 4, 167, 0, 12, 3, 167, 0, 8, 21, 4, 184, 0, 138]
abbrev dktX4_broken_5 : List UInt8 := dkwX4_broken_5 ++ dktX4_broken_6
def dkwX4_broken_4 : List UInt8 := [16, 40, 160, 0, 7, 4, 167, 0, 15, 21, 4, 16, 41, 160, 0, 7, 2, 167, 0, 4, 3, 96, 60, 28]
abbrev dktX4_broken_4 : List UInt8 := dkwX4_broken_4 ++ dktX4_broken_5
def dkwX4_broken_3 : List UInt8 := [160, 0, 11, 27, 158, 0, 7, 4, 167, 0, 4, 3, 54, 5, 21, 5, 154, 0, 5, 29, 172, 27, 21, 4]
abbrev dktX4_broken_3 : List UInt8 := dkwX4_broken_3 ++ dktX4_broken_4
def dkwX4_broken_2 : List UInt8 := [160, 0, 7, 4, 167, 0, 31, 3, 167, 0, 27, 21, 4, 184, 0, 138, 154, 0, 14, 21, 4, 16, 41]
abbrev dktX4_broken_2 : List UInt8 := dkwX4_broken_2 ++ dktX4_broken_3
def dkwX4_broken_1 : List UInt8 := [153, 0, 33, 21, 4, 184, 0, 111, 154, 0, 17, 21, 4, 16, 126, 159, 0, 10, 21, 4, 16, 40]
abbrev dktX4_broken_1 : List UInt8 := dkwX4_broken_1 ++ dktX4_broken_2
def dkwX4_broken_0 : List UInt8 := [3, 60, 4, 61, 3, 62, 29, 42, 180, 0, 7, 3, 46, 162, 0, 135, 42, 29, 182, 0, 117, 54, 4, 28]
abbrev dktX4_broken_0 : List UInt8 := dkwX4_broken_0 ++ dktX4_broken_1
theorem dksX4_broken_0 : cX4_broken.data.toList.drop 0 = dktX4_broken_0 := by decide +kernel
theorem dksX4_broken_1 : cX4_broken.data.toList.drop 24 = dktX4_broken_1 := dk_seg dksX4_broken_0 24 rfl rfl
theorem dksX4_broken_2 : cX4_broken.data.toList.drop 46 = dktX4_broken_2 := dk_seg dksX4_broken_1 22 rfl rfl
theorem dksX4_broken_3 : cX4_broken.data.toList.drop 69 = dktX4_broken_3 := dk_seg dksX4_broken_2 23 rfl rfl
theorem dksX4_broken_4 : cX4_broken.data.toList.drop 93 = dktX4_broken_4 := dk_seg dksX4_broken_3 24 rfl rfl
theorem dksX4_broken_5 : cX4_broken.data.toList.drop 117 = dktX4_broken_5 := dk_seg dksX4_broken_4 24 rfl rfl
theorem dksX4_broken_6 : cX4_broken.data.toList.drop 141 = dktX4_broken_6 := dk_seg dksX4_broken_5 24 rfl rfl
theorem dksX4_broken_7 : cX4_broken.data.toList.drop 165 = dktX4_broken_7 := dk_seg dksX4_broken_6 24 rfl rfl
theorem dX4_broken_0 : decode cX4_broken 0 = .ok (.iconst 0, 1) := dk_3 (dk_at dksX4_broken_0 0 rfl rfl)
theorem dX4_broken_1 : decode cX4_broken 1 = .ok (.istore_n 1, 1) := dk_60 (dk_at dksX4_broken_0 1 rfl rfl)
theorem dX4_broken_2 : decode cX4_broken 2 = .ok (.iconst 1, 1) := dk_4 (dk_at dksX4_broken_0 2 rfl rfl)
theorem dX4_broken_3 : decode cX4_broken 3 = .ok (.istore_n 2, 1) := dk_61 (dk_at dksX4_broken_0 3 rfl rfl)
theorem dX4_broken_4 : decode cX4_broken 4 = .ok (.iconst 0, 1) := dk_3 (dk_at dksX4_broken_0 4 rfl rfl)
theorem dX4_broken_5 : decode cX4_broken 5 = .ok (.istore_n 3, 1) := dk_62 (dk_at dksX4_broken_0 5 rfl rfl)
theorem dX4_broken_6 : decode cX4_broken 6 = .ok (.iload_n 3, 1) := dk_29 (dk_at dksX4_broken_0 6 rfl rfl)
theorem dX4_broken_7 : decode cX4_broken 7 = .ok (.aload_n 0, 1) := dk_42 (dk_at dksX4_broken_0 7 rfl rfl)
theorem dX4_broken_8 : decode cX4_broken 8 = .ok (.getfield 7, 3) := dk_180 0 7 (dk_at dksX4_broken_0 8 rfl rfl)
theorem dX4_broken_11 : decode cX4_broken 11 = .ok (.iconst 0, 1) := dk_3 (dk_at dksX4_broken_0 11 rfl rfl)
theorem dX4_broken_12 : decode cX4_broken 12 = .ok (.iaload, 1) := dk_46 (dk_at dksX4_broken_0 12 rfl rfl)
theorem dX4_broken_13 : decode cX4_broken 13 = .ok (.if_icmp .ge 135, 3) := dk_162 0 135 (dk_at dksX4_broken_0 13 rfl rfl)
theorem dX4_broken_16 : decode cX4_broken 16 = .ok (.aload_n 0, 1) := dk_42 (dk_at dksX4_broken_0 16 rfl rfl)
theorem dX4_broken_17 : decode cX4_broken 17 = .ok (.iload_n 3, 1) := dk_29 (dk_at dksX4_broken_0 17 rfl rfl)
theorem dX4_broken_18 : decode cX4_broken 18 = .ok (.invokevirtual 117, 3) := dk_182 0 117 (dk_at dksX4_broken_0 18 rfl rfl)
theorem dX4_broken_21 : decode cX4_broken 21 = .ok (.istore 4, 2) := dk_54 4 (dk_at dksX4_broken_0 21 rfl rfl)
theorem dX4_broken_23 : decode cX4_broken 23 = .ok (.iload_n 2, 1) := dk_28 (dk_at dksX4_broken_0 23 rfl rfl)
theorem dX4_broken_24 : decode cX4_broken 24 = .ok (.ifCond .eq 33, 3) := dk_153 0 33 (dk_at dksX4_broken_1 0 rfl rfl)
theorem dX4_broken_27 : decode cX4_broken 27 = .ok (.iload 4, 2) := dk_21 4 (dk_at dksX4_broken_1 3 rfl rfl)
theorem dX4_broken_29 : decode cX4_broken 29 = .ok (.invokestatic 111, 3) := dk_184 0 111 (dk_at dksX4_broken_1 5 rfl rfl)
theorem dX4_broken_32 : decode cX4_broken 32 = .ok (.ifCond .ne 17, 3) := dk_154 0 17 (dk_at dksX4_broken_1 8 rfl rfl)
theorem dX4_broken_35 : decode cX4_broken 35 = .ok (.iload 4, 2) := dk_21 4 (dk_at dksX4_broken_1 11 rfl rfl)
theorem dX4_broken_37 : decode cX4_broken 37 = .ok (.bipush 126, 2) := dk_16 126 (dk_at dksX4_broken_1 13 rfl rfl)
theorem dX4_broken_39 : decode cX4_broken 39 = .ok (.if_icmp .eq 10, 3) := dk_159 0 10 (dk_at dksX4_broken_1 15 rfl rfl)
theorem dX4_broken_42 : decode cX4_broken 42 = .ok (.iload 4, 2) := dk_21 4 (dk_at dksX4_broken_1 18 rfl rfl)
theorem dX4_broken_44 : decode cX4_broken 44 = .ok (.bipush 40, 2) := dk_16 40 (dk_at dksX4_broken_1 20 rfl rfl)
theorem dX4_broken_46 : decode cX4_broken 46 = .ok (.if_icmp .ne 7, 3) := dk_160 0 7 (dk_at dksX4_broken_2 0 rfl rfl)
theorem dX4_broken_49 : decode cX4_broken 49 = .ok (.iconst 1, 1) := dk_4 (dk_at dksX4_broken_2 3 rfl rfl)
theorem dX4_broken_50 : decode cX4_broken 50 = .ok (.goto 31, 3) := dk_167 0 31 (dk_at dksX4_broken_2 4 rfl rfl)
theorem dX4_broken_53 : decode cX4_broken 53 = .ok (.iconst 0, 1) := dk_3 (dk_at dksX4_broken_2 7 rfl rfl)
theorem dX4_broken_54 : decode cX4_broken 54 = .ok (.goto 27, 3) := dk_167 0 27 (dk_at dksX4_broken_2 8 rfl rfl)
theorem dX4_broken_57 : decode cX4_broken 57 = .ok (.iload 4, 2) := dk_21 4 (dk_at dksX4_broken_2 11 rfl rfl)
theorem dX4_broken_59 : decode cX4_broken 59 = .ok (.invokestatic 138, 3) := dk_184 0 138 (dk_at dksX4_broken_2 13 rfl rfl)
theorem dX4_broken_62 : decode cX4_broken 62 = .ok (.ifCond .ne 14, 3) := dk_154 0 14 (dk_at dksX4_broken_2 16 rfl rfl)
theorem dX4_broken_65 : decode cX4_broken 65 = .ok (.iload 4, 2) := dk_21 4 (dk_at dksX4_broken_2 19 rfl rfl)
theorem dX4_broken_67 : decode cX4_broken 67 = .ok (.bipush 41, 2) := dk_16 41 (dk_at dksX4_broken_2 21 rfl rfl)
theorem dX4_broken_69 : decode cX4_broken 69 = .ok (.if_icmp .ne 11, 3) := dk_160 0 11 (dk_at dksX4_broken_3 0 rfl rfl)
theorem dX4_broken_72 : decode cX4_broken 72 = .ok (.iload_n 1, 1) := dk_27 (dk_at dksX4_broken_3 3 rfl rfl)
theorem dX4_broken_73 : decode cX4_broken 73 = .ok (.ifCond .le 7, 3) := dk_158 0 7 (dk_at dksX4_broken_3 4 rfl rfl)
theorem dX4_broken_76 : decode cX4_broken 76 = .ok (.iconst 1, 1) := dk_4 (dk_at dksX4_broken_3 7 rfl rfl)
theorem dX4_broken_77 : decode cX4_broken 77 = .ok (.goto 4, 3) := dk_167 0 4 (dk_at dksX4_broken_3 8 rfl rfl)
theorem dX4_broken_80 : decode cX4_broken 80 = .ok (.iconst 0, 1) := dk_3 (dk_at dksX4_broken_3 11 rfl rfl)
theorem dX4_broken_81 : decode cX4_broken 81 = .ok (.istore 5, 2) := dk_54 5 (dk_at dksX4_broken_3 12 rfl rfl)
theorem dX4_broken_83 : decode cX4_broken 83 = .ok (.iload 5, 2) := dk_21 5 (dk_at dksX4_broken_3 14 rfl rfl)
theorem dX4_broken_85 : decode cX4_broken 85 = .ok (.ifCond .ne 5, 3) := dk_154 0 5 (dk_at dksX4_broken_3 16 rfl rfl)
theorem dX4_broken_88 : decode cX4_broken 88 = .ok (.iload_n 3, 1) := dk_29 (dk_at dksX4_broken_3 19 rfl rfl)
theorem dX4_broken_89 : decode cX4_broken 89 = .ok (.ireturn, 1) := dk_172 (dk_at dksX4_broken_3 20 rfl rfl)
theorem dX4_broken_90 : decode cX4_broken 90 = .ok (.iload_n 1, 1) := dk_27 (dk_at dksX4_broken_3 21 rfl rfl)
theorem dX4_broken_91 : decode cX4_broken 91 = .ok (.iload 4, 2) := dk_21 4 (dk_at dksX4_broken_3 22 rfl rfl)
theorem dX4_broken_93 : decode cX4_broken 93 = .ok (.bipush 40, 2) := dk_16 40 (dk_at dksX4_broken_4 0 rfl rfl)
theorem dX4_broken_95 : decode cX4_broken 95 = .ok (.if_icmp .ne 7, 3) := dk_160 0 7 (dk_at dksX4_broken_4 2 rfl rfl)
theorem dX4_broken_98 : decode cX4_broken 98 = .ok (.iconst 1, 1) := dk_4 (dk_at dksX4_broken_4 5 rfl rfl)
theorem dX4_broken_99 : decode cX4_broken 99 = .ok (.goto 15, 3) := dk_167 0 15 (dk_at dksX4_broken_4 6 rfl rfl)
theorem dX4_broken_102 : decode cX4_broken 102 = .ok (.iload 4, 2) := dk_21 4 (dk_at dksX4_broken_4 9 rfl rfl)
theorem dX4_broken_104 : decode cX4_broken 104 = .ok (.bipush 41, 2) := dk_16 41 (dk_at dksX4_broken_4 11 rfl rfl)
theorem dX4_broken_106 : decode cX4_broken 106 = .ok (.if_icmp .ne 7, 3) := dk_160 0 7 (dk_at dksX4_broken_4 13 rfl rfl)
theorem dX4_broken_109 : decode cX4_broken 109 = .ok (.iconst (-1), 1) := dk_2 (dk_at dksX4_broken_4 16 rfl rfl)
theorem dX4_broken_110 : decode cX4_broken 110 = .ok (.goto 4, 3) := dk_167 0 4 (dk_at dksX4_broken_4 17 rfl rfl)
theorem dX4_broken_113 : decode cX4_broken 113 = .ok (.iconst 0, 1) := dk_3 (dk_at dksX4_broken_4 20 rfl rfl)
theorem dX4_broken_114 : decode cX4_broken 114 = .ok (.iadd, 1) := dk_96 (dk_at dksX4_broken_4 21 rfl rfl)
theorem dX4_broken_115 : decode cX4_broken 115 = .ok (.istore_n 1, 1) := dk_60 (dk_at dksX4_broken_4 22 rfl rfl)
theorem dX4_broken_116 : decode cX4_broken 116 = .ok (.iload_n 2, 1) := dk_28 (dk_at dksX4_broken_4 23 rfl rfl)
theorem dX4_broken_117 : decode cX4_broken 117 = .ok (.ifCond .eq 19, 3) := dk_153 0 19 (dk_at dksX4_broken_5 0 rfl rfl)
theorem dX4_broken_120 : decode cX4_broken 120 = .ok (.iload 4, 2) := dk_21 4 (dk_at dksX4_broken_5 3 rfl rfl)
theorem dX4_broken_122 : decode cX4_broken 122 = .ok (.invokestatic 111, 3) := dk_184 0 111 (dk_at dksX4_broken_5 5 rfl rfl)
theorem dX4_broken_125 : decode cX4_broken 125 = .ok (.ifCond .ne 7, 3) := dk_154 0 7 (dk_at dksX4_broken_5 8 rfl rfl)
theorem dX4_broken_128 : decode cX4_broken 128 = .ok (.iconst 1, 1) := dk_4 (dk_at dksX4_broken_5 11 rfl rfl)
theorem dX4_broken_129 : decode cX4_broken 129 = .ok (.goto 12, 3) := dk_167 0 12 (dk_at dksX4_broken_5 12 rfl rfl)
theorem dX4_broken_132 : decode cX4_broken 132 = .ok (.iconst 0, 1) := dk_3 (dk_at dksX4_broken_5 15 rfl rfl)
theorem dX4_broken_133 : decode cX4_broken 133 = .ok (.goto 8, 3) := dk_167 0 8 (dk_at dksX4_broken_5 16 rfl rfl)
theorem dX4_broken_136 : decode cX4_broken 136 = .ok (.iload 4, 2) := dk_21 4 (dk_at dksX4_broken_5 19 rfl rfl)
theorem dX4_broken_138 : decode cX4_broken 138 = .ok (.invokestatic 138, 3) := dk_184 0 138 (dk_at dksX4_broken_5 21 rfl rfl)
theorem dX4_broken_141 : decode cX4_broken 141 = .ok (.istore_n 2, 1) := dk_61 (dk_at dksX4_broken_6 0 rfl rfl)
theorem dX4_broken_142 : decode cX4_broken 142 = .ok (.iinc 3 1, 3) := dk_132 3 1 (dk_at dksX4_broken_6 1 rfl rfl)
theorem dX4_broken_145 : decode cX4_broken 145 = .ok (.goto (-139), 3) := dk_167 255 117 (dk_at dksX4_broken_6 4 rfl rfl)
theorem dX4_broken_148 : decode cX4_broken 148 = .ok (.iload_n 2, 1) := dk_28 (dk_at dksX4_broken_6 7 rfl rfl)
theorem dX4_broken_149 : decode cX4_broken 149 = .ok (.ifCond .ne 7, 3) := dk_154 0 7 (dk_at dksX4_broken_6 8 rfl rfl)
theorem dX4_broken_152 : decode cX4_broken 152 = .ok (.iload_n 1, 1) := dk_27 (dk_at dksX4_broken_6 11 rfl rfl)
theorem dX4_broken_153 : decode cX4_broken 153 = .ok (.ifCond .le 12, 3) := dk_158 0 12 (dk_at dksX4_broken_6 12 rfl rfl)
theorem dX4_broken_156 : decode cX4_broken 156 = .ok (.aload_n 0, 1) := dk_42 (dk_at dksX4_broken_6 15 rfl rfl)
theorem dX4_broken_157 : decode cX4_broken 157 = .ok (.getfield 7, 3) := dk_180 0 7 (dk_at dksX4_broken_6 16 rfl rfl)
theorem dX4_broken_160 : decode cX4_broken 160 = .ok (.iconst 0, 1) := dk_3 (dk_at dksX4_broken_6 19 rfl rfl)
theorem dX4_broken_161 : decode cX4_broken 161 = .ok (.iaload, 1) := dk_46 (dk_at dksX4_broken_6 20 rfl rfl)
theorem dX4_broken_162 : decode cX4_broken 162 = .ok (.goto 4, 3) := dk_167 0 4 (dk_at dksX4_broken_6 21 rfl rfl)
theorem dX4_broken_165 : decode cX4_broken 165 = .ok (.iconst (-1), 1) := dk_2 (dk_at dksX4_broken_7 0 rfl rfl)
theorem dX4_broken_166 : decode cX4_broken 166 = .ok (.ireturn, 1) := dk_172 (dk_at dksX4_broken_7 1 rfl rfl)
abbrev cX4_isOperator : ByteArray := prog_22_method_11_code
def yX4_isOperator : MethodName := ⟨RX4, "isOperator", "(I)Z"⟩
def dkwX4_isOperator_0 : List UInt8 := [26, 184, 0, 99, 3, 8, 184, 0, 103, 172]
abbrev dktX4_isOperator_0 : List UInt8 := dkwX4_isOperator_0 ++ []
theorem dksX4_isOperator_0 : cX4_isOperator.data.toList.drop 0 = dktX4_isOperator_0 := by decide +kernel
theorem dX4_isOperator_0 : decode cX4_isOperator 0 = .ok (.iload_n 0, 1) := dk_26 (dk_at dksX4_isOperator_0 0 rfl rfl)
theorem dX4_isOperator_1 : decode cX4_isOperator 1 = .ok (.invokestatic 99, 3) := dk_184 0 99 (dk_at dksX4_isOperator_0 1 rfl rfl)
theorem dX4_isOperator_4 : decode cX4_isOperator 4 = .ok (.iconst 0, 1) := dk_3 (dk_at dksX4_isOperator_0 4 rfl rfl)
theorem dX4_isOperator_5 : decode cX4_isOperator 5 = .ok (.iconst 5, 1) := dk_8 (dk_at dksX4_isOperator_0 5 rfl rfl)
theorem dX4_isOperator_6 : decode cX4_isOperator 6 = .ok (.invokestatic 103, 3) := dk_184 0 103 (dk_at dksX4_isOperator_0 6 rfl rfl)
theorem dX4_isOperator_9 : decode cX4_isOperator 9 = .ok (.ireturn, 1) := dk_172 (dk_at dksX4_isOperator_0 9 rfl rfl)
abbrev cX4_breakPlace : ByteArray := prog_22_method_27_code
def yX4_breakPlace : MethodName := ⟨RX4, "breakPlace", "()I"⟩
def dkwX4_breakPlace_1 : List UInt8 := [182, 0, 141, 172]
abbrev dktX4_breakPlace_1 : List UInt8 := dkwX4_breakPlace_1 ++ []
def dkwX4_breakPlace_0 : List UInt8 := [42, 42, 182, 0, 141, 156, 0, 7, 4, 167, 0, 4, 3, 182, 0, 123, 153, 0, 7, 3, 167, 0, 7, 42]
abbrev dktX4_breakPlace_0 : List UInt8 := dkwX4_breakPlace_0 ++ dktX4_breakPlace_1
theorem dksX4_breakPlace_0 : cX4_breakPlace.data.toList.drop 0 = dktX4_breakPlace_0 := by decide +kernel
theorem dksX4_breakPlace_1 : cX4_breakPlace.data.toList.drop 24 = dktX4_breakPlace_1 := dk_seg dksX4_breakPlace_0 24 rfl rfl
theorem dX4_breakPlace_0 : decode cX4_breakPlace 0 = .ok (.aload_n 0, 1) := dk_42 (dk_at dksX4_breakPlace_0 0 rfl rfl)
theorem dX4_breakPlace_1 : decode cX4_breakPlace 1 = .ok (.aload_n 0, 1) := dk_42 (dk_at dksX4_breakPlace_0 1 rfl rfl)
theorem dX4_breakPlace_2 : decode cX4_breakPlace 2 = .ok (.invokevirtual 141, 3) := dk_182 0 141 (dk_at dksX4_breakPlace_0 2 rfl rfl)
theorem dX4_breakPlace_5 : decode cX4_breakPlace 5 = .ok (.ifCond .ge 7, 3) := dk_156 0 7 (dk_at dksX4_breakPlace_0 5 rfl rfl)
theorem dX4_breakPlace_8 : decode cX4_breakPlace 8 = .ok (.iconst 1, 1) := dk_4 (dk_at dksX4_breakPlace_0 8 rfl rfl)
theorem dX4_breakPlace_9 : decode cX4_breakPlace 9 = .ok (.goto 4, 3) := dk_167 0 4 (dk_at dksX4_breakPlace_0 9 rfl rfl)
theorem dX4_breakPlace_12 : decode cX4_breakPlace 12 = .ok (.iconst 0, 1) := dk_3 (dk_at dksX4_breakPlace_0 12 rfl rfl)
theorem dX4_breakPlace_13 : decode cX4_breakPlace 13 = .ok (.invokevirtual 123, 3) := dk_182 0 123 (dk_at dksX4_breakPlace_0 13 rfl rfl)
theorem dX4_breakPlace_16 : decode cX4_breakPlace 16 = .ok (.ifCond .eq 7, 3) := dk_153 0 7 (dk_at dksX4_breakPlace_0 16 rfl rfl)
theorem dX4_breakPlace_19 : decode cX4_breakPlace 19 = .ok (.iconst 0, 1) := dk_3 (dk_at dksX4_breakPlace_0 19 rfl rfl)
theorem dX4_breakPlace_20 : decode cX4_breakPlace 20 = .ok (.goto 7, 3) := dk_167 0 7 (dk_at dksX4_breakPlace_0 20 rfl rfl)
theorem dX4_breakPlace_23 : decode cX4_breakPlace 23 = .ok (.aload_n 0, 1) := dk_42 (dk_at dksX4_breakPlace_0 23 rfl rfl)
theorem dX4_breakPlace_24 : decode cX4_breakPlace 24 = .ok (.invokevirtual 141, 3) := dk_182 0 141 (dk_at dksX4_breakPlace_1 0 rfl rfl)
theorem dX4_breakPlace_27 : decode cX4_breakPlace 27 = .ok (.ireturn, 1) := dk_172 (dk_at dksX4_breakPlace_1 3 rfl rfl)
abbrev cX4_setColour : ByteArray := prog_22_method_28_code
def yX4_setColour : MethodName := ⟨RX4, "setColour", "(CI)I"⟩
def dkwX4_setColour_2 : List UInt8 := [180, 0, 7, 182, 0, 134, 42, 180, 0, 7, 16, 25, 27, 184, 0, 99, 96, 28, 79, 29, 172]
abbrev dktX4_setColour_2 : List UInt8 := dkwX4_setColour_2 ++ []
def dkwX4_setColour_1 : List UInt8 := [182, 0, 123, 153, 0, 5, 3, 172, 42, 180, 0, 7, 16, 25, 27, 184, 0, 99, 96, 46, 62, 42, 42]
abbrev dktX4_setColour_1 : List UInt8 := dkwX4_setColour_1 ++ dktX4_setColour_2
def dkwX4_setColour_0 : List UInt8 := [42, 27, 184, 0, 99, 155, 0, 17, 28, 3, 16, 6, 184, 0, 103, 153, 0, 7, 3, 167, 0, 4, 4]
abbrev dktX4_setColour_0 : List UInt8 := dkwX4_setColour_0 ++ dktX4_setColour_1
theorem dksX4_setColour_0 : cX4_setColour.data.toList.drop 0 = dktX4_setColour_0 := by decide +kernel
theorem dksX4_setColour_1 : cX4_setColour.data.toList.drop 23 = dktX4_setColour_1 := dk_seg dksX4_setColour_0 23 rfl rfl
theorem dksX4_setColour_2 : cX4_setColour.data.toList.drop 46 = dktX4_setColour_2 := dk_seg dksX4_setColour_1 23 rfl rfl
theorem dX4_setColour_0 : decode cX4_setColour 0 = .ok (.aload_n 0, 1) := dk_42 (dk_at dksX4_setColour_0 0 rfl rfl)
theorem dX4_setColour_1 : decode cX4_setColour 1 = .ok (.iload_n 1, 1) := dk_27 (dk_at dksX4_setColour_0 1 rfl rfl)
theorem dX4_setColour_2 : decode cX4_setColour 2 = .ok (.invokestatic 99, 3) := dk_184 0 99 (dk_at dksX4_setColour_0 2 rfl rfl)
theorem dX4_setColour_5 : decode cX4_setColour 5 = .ok (.ifCond .lt 17, 3) := dk_155 0 17 (dk_at dksX4_setColour_0 5 rfl rfl)
theorem dX4_setColour_8 : decode cX4_setColour 8 = .ok (.iload_n 2, 1) := dk_28 (dk_at dksX4_setColour_0 8 rfl rfl)
theorem dX4_setColour_9 : decode cX4_setColour 9 = .ok (.iconst 0, 1) := dk_3 (dk_at dksX4_setColour_0 9 rfl rfl)
theorem dX4_setColour_10 : decode cX4_setColour 10 = .ok (.bipush 6, 2) := dk_16 6 (dk_at dksX4_setColour_0 10 rfl rfl)
theorem dX4_setColour_12 : decode cX4_setColour 12 = .ok (.invokestatic 103, 3) := dk_184 0 103 (dk_at dksX4_setColour_0 12 rfl rfl)
theorem dX4_setColour_15 : decode cX4_setColour 15 = .ok (.ifCond .eq 7, 3) := dk_153 0 7 (dk_at dksX4_setColour_0 15 rfl rfl)
theorem dX4_setColour_18 : decode cX4_setColour 18 = .ok (.iconst 0, 1) := dk_3 (dk_at dksX4_setColour_0 18 rfl rfl)
theorem dX4_setColour_19 : decode cX4_setColour 19 = .ok (.goto 4, 3) := dk_167 0 4 (dk_at dksX4_setColour_0 19 rfl rfl)
theorem dX4_setColour_22 : decode cX4_setColour 22 = .ok (.iconst 1, 1) := dk_4 (dk_at dksX4_setColour_0 22 rfl rfl)
theorem dX4_setColour_23 : decode cX4_setColour 23 = .ok (.invokevirtual 123, 3) := dk_182 0 123 (dk_at dksX4_setColour_1 0 rfl rfl)
theorem dX4_setColour_26 : decode cX4_setColour 26 = .ok (.ifCond .eq 5, 3) := dk_153 0 5 (dk_at dksX4_setColour_1 3 rfl rfl)
theorem dX4_setColour_29 : decode cX4_setColour 29 = .ok (.iconst 0, 1) := dk_3 (dk_at dksX4_setColour_1 6 rfl rfl)
theorem dX4_setColour_30 : decode cX4_setColour 30 = .ok (.ireturn, 1) := dk_172 (dk_at dksX4_setColour_1 7 rfl rfl)
theorem dX4_setColour_31 : decode cX4_setColour 31 = .ok (.aload_n 0, 1) := dk_42 (dk_at dksX4_setColour_1 8 rfl rfl)
theorem dX4_setColour_32 : decode cX4_setColour 32 = .ok (.getfield 7, 3) := dk_180 0 7 (dk_at dksX4_setColour_1 9 rfl rfl)
theorem dX4_setColour_35 : decode cX4_setColour 35 = .ok (.bipush 25, 2) := dk_16 25 (dk_at dksX4_setColour_1 12 rfl rfl)
theorem dX4_setColour_37 : decode cX4_setColour 37 = .ok (.iload_n 1, 1) := dk_27 (dk_at dksX4_setColour_1 14 rfl rfl)
theorem dX4_setColour_38 : decode cX4_setColour 38 = .ok (.invokestatic 99, 3) := dk_184 0 99 (dk_at dksX4_setColour_1 15 rfl rfl)
theorem dX4_setColour_41 : decode cX4_setColour 41 = .ok (.iadd, 1) := dk_96 (dk_at dksX4_setColour_1 18 rfl rfl)
theorem dX4_setColour_42 : decode cX4_setColour 42 = .ok (.iaload, 1) := dk_46 (dk_at dksX4_setColour_1 19 rfl rfl)
theorem dX4_setColour_43 : decode cX4_setColour 43 = .ok (.istore_n 3, 1) := dk_62 (dk_at dksX4_setColour_1 20 rfl rfl)
theorem dX4_setColour_44 : decode cX4_setColour 44 = .ok (.aload_n 0, 1) := dk_42 (dk_at dksX4_setColour_1 21 rfl rfl)
theorem dX4_setColour_45 : decode cX4_setColour 45 = .ok (.aload_n 0, 1) := dk_42 (dk_at dksX4_setColour_1 22 rfl rfl)
theorem dX4_setColour_46 : decode cX4_setColour 46 = .ok (.getfield 7, 3) := dk_180 0 7 (dk_at dksX4_setColour_2 0 rfl rfl)
theorem dX4_setColour_49 : decode cX4_setColour 49 = .ok (.invokevirtual 134, 3) := dk_182 0 134 (dk_at dksX4_setColour_2 3 rfl rfl)
theorem dX4_setColour_52 : decode cX4_setColour 52 = .ok (.aload_n 0, 1) := dk_42 (dk_at dksX4_setColour_2 6 rfl rfl)
theorem dX4_setColour_53 : decode cX4_setColour 53 = .ok (.getfield 7, 3) := dk_180 0 7 (dk_at dksX4_setColour_2 7 rfl rfl)
theorem dX4_setColour_56 : decode cX4_setColour 56 = .ok (.bipush 25, 2) := dk_16 25 (dk_at dksX4_setColour_2 10 rfl rfl)
theorem dX4_setColour_58 : decode cX4_setColour 58 = .ok (.iload_n 1, 1) := dk_27 (dk_at dksX4_setColour_2 12 rfl rfl)
theorem dX4_setColour_59 : decode cX4_setColour 59 = .ok (.invokestatic 99, 3) := dk_184 0 99 (dk_at dksX4_setColour_2 13 rfl rfl)
theorem dX4_setColour_62 : decode cX4_setColour 62 = .ok (.iadd, 1) := dk_96 (dk_at dksX4_setColour_2 16 rfl rfl)
theorem dX4_setColour_63 : decode cX4_setColour 63 = .ok (.iload_n 2, 1) := dk_28 (dk_at dksX4_setColour_2 17 rfl rfl)
theorem dX4_setColour_64 : decode cX4_setColour 64 = .ok (.iastore, 1) := dk_79 (dk_at dksX4_setColour_2 18 rfl rfl)
theorem dX4_setColour_65 : decode cX4_setColour 65 = .ok (.iload_n 3, 1) := dk_29 (dk_at dksX4_setColour_2 19 rfl rfl)
theorem dX4_setColour_66 : decode cX4_setColour 66 = .ok (.ireturn, 1) := dk_172 (dk_at dksX4_setColour_2 20 rfl rfl)
abbrev cX4_setMeaning : ByteArray := prog_22_method_29_code
def yX4_setMeaning : MethodName := ⟨RX4, "setMeaning", "(CC)C"⟩
def dkwX4_setMeaning_2 : List UInt8 := [182, 0, 134, 42, 180, 0, 7, 16, 32, 27, 184, 0, 99, 96, 28, 79, 29, 146, 172]
abbrev dktX4_setMeaning_2 : List UInt8 := dkwX4_setMeaning_2 ++ []
def dkwX4_setMeaning_1 : List UInt8 := [153, 0, 6, 16, 32, 172, 42, 180, 0, 7, 16, 32, 27, 184, 0, 99, 96, 46, 62, 42, 42, 180, 0, 7]
abbrev dktX4_setMeaning_1 : List UInt8 := dkwX4_setMeaning_1 ++ dktX4_setMeaning_2
def dkwX4_setMeaning_0 : List UInt8 := [42, 27, 184, 0, 138, 153, 0, 14, 28, 184, 0, 144, 153, 0, 7, 3, 167, 0, 4, 4, 182, 0, 123]
abbrev dktX4_setMeaning_0 : List UInt8 := dkwX4_setMeaning_0 ++ dktX4_setMeaning_1
theorem dksX4_setMeaning_0 : cX4_setMeaning.data.toList.drop 0 = dktX4_setMeaning_0 := by decide +kernel
theorem dksX4_setMeaning_1 : cX4_setMeaning.data.toList.drop 23 = dktX4_setMeaning_1 := dk_seg dksX4_setMeaning_0 23 rfl rfl
theorem dksX4_setMeaning_2 : cX4_setMeaning.data.toList.drop 47 = dktX4_setMeaning_2 := dk_seg dksX4_setMeaning_1 24 rfl rfl
theorem dX4_setMeaning_0 : decode cX4_setMeaning 0 = .ok (.aload_n 0, 1) := dk_42 (dk_at dksX4_setMeaning_0 0 rfl rfl)
theorem dX4_setMeaning_1 : decode cX4_setMeaning 1 = .ok (.iload_n 1, 1) := dk_27 (dk_at dksX4_setMeaning_0 1 rfl rfl)
theorem dX4_setMeaning_2 : decode cX4_setMeaning 2 = .ok (.invokestatic 138, 3) := dk_184 0 138 (dk_at dksX4_setMeaning_0 2 rfl rfl)
theorem dX4_setMeaning_5 : decode cX4_setMeaning 5 = .ok (.ifCond .eq 14, 3) := dk_153 0 14 (dk_at dksX4_setMeaning_0 5 rfl rfl)
theorem dX4_setMeaning_8 : decode cX4_setMeaning 8 = .ok (.iload_n 2, 1) := dk_28 (dk_at dksX4_setMeaning_0 8 rfl rfl)
theorem dX4_setMeaning_9 : decode cX4_setMeaning 9 = .ok (.invokestatic 144, 3) := dk_184 0 144 (dk_at dksX4_setMeaning_0 9 rfl rfl)
theorem dX4_setMeaning_12 : decode cX4_setMeaning 12 = .ok (.ifCond .eq 7, 3) := dk_153 0 7 (dk_at dksX4_setMeaning_0 12 rfl rfl)
theorem dX4_setMeaning_15 : decode cX4_setMeaning 15 = .ok (.iconst 0, 1) := dk_3 (dk_at dksX4_setMeaning_0 15 rfl rfl)
theorem dX4_setMeaning_16 : decode cX4_setMeaning 16 = .ok (.goto 4, 3) := dk_167 0 4 (dk_at dksX4_setMeaning_0 16 rfl rfl)
theorem dX4_setMeaning_19 : decode cX4_setMeaning 19 = .ok (.iconst 1, 1) := dk_4 (dk_at dksX4_setMeaning_0 19 rfl rfl)
theorem dX4_setMeaning_20 : decode cX4_setMeaning 20 = .ok (.invokevirtual 123, 3) := dk_182 0 123 (dk_at dksX4_setMeaning_0 20 rfl rfl)
theorem dX4_setMeaning_23 : decode cX4_setMeaning 23 = .ok (.ifCond .eq 6, 3) := dk_153 0 6 (dk_at dksX4_setMeaning_1 0 rfl rfl)
theorem dX4_setMeaning_26 : decode cX4_setMeaning 26 = .ok (.bipush 32, 2) := dk_16 32 (dk_at dksX4_setMeaning_1 3 rfl rfl)
theorem dX4_setMeaning_28 : decode cX4_setMeaning 28 = .ok (.ireturn, 1) := dk_172 (dk_at dksX4_setMeaning_1 5 rfl rfl)
theorem dX4_setMeaning_29 : decode cX4_setMeaning 29 = .ok (.aload_n 0, 1) := dk_42 (dk_at dksX4_setMeaning_1 6 rfl rfl)
theorem dX4_setMeaning_30 : decode cX4_setMeaning 30 = .ok (.getfield 7, 3) := dk_180 0 7 (dk_at dksX4_setMeaning_1 7 rfl rfl)
theorem dX4_setMeaning_33 : decode cX4_setMeaning 33 = .ok (.bipush 32, 2) := dk_16 32 (dk_at dksX4_setMeaning_1 10 rfl rfl)
theorem dX4_setMeaning_35 : decode cX4_setMeaning 35 = .ok (.iload_n 1, 1) := dk_27 (dk_at dksX4_setMeaning_1 12 rfl rfl)
theorem dX4_setMeaning_36 : decode cX4_setMeaning 36 = .ok (.invokestatic 99, 3) := dk_184 0 99 (dk_at dksX4_setMeaning_1 13 rfl rfl)
theorem dX4_setMeaning_39 : decode cX4_setMeaning 39 = .ok (.iadd, 1) := dk_96 (dk_at dksX4_setMeaning_1 16 rfl rfl)
theorem dX4_setMeaning_40 : decode cX4_setMeaning 40 = .ok (.iaload, 1) := dk_46 (dk_at dksX4_setMeaning_1 17 rfl rfl)
theorem dX4_setMeaning_41 : decode cX4_setMeaning 41 = .ok (.istore_n 3, 1) := dk_62 (dk_at dksX4_setMeaning_1 18 rfl rfl)
theorem dX4_setMeaning_42 : decode cX4_setMeaning 42 = .ok (.aload_n 0, 1) := dk_42 (dk_at dksX4_setMeaning_1 19 rfl rfl)
theorem dX4_setMeaning_43 : decode cX4_setMeaning 43 = .ok (.aload_n 0, 1) := dk_42 (dk_at dksX4_setMeaning_1 20 rfl rfl)
theorem dX4_setMeaning_44 : decode cX4_setMeaning 44 = .ok (.getfield 7, 3) := dk_180 0 7 (dk_at dksX4_setMeaning_1 21 rfl rfl)
theorem dX4_setMeaning_47 : decode cX4_setMeaning 47 = .ok (.invokevirtual 134, 3) := dk_182 0 134 (dk_at dksX4_setMeaning_2 0 rfl rfl)
theorem dX4_setMeaning_50 : decode cX4_setMeaning 50 = .ok (.aload_n 0, 1) := dk_42 (dk_at dksX4_setMeaning_2 3 rfl rfl)
theorem dX4_setMeaning_51 : decode cX4_setMeaning 51 = .ok (.getfield 7, 3) := dk_180 0 7 (dk_at dksX4_setMeaning_2 4 rfl rfl)
theorem dX4_setMeaning_54 : decode cX4_setMeaning 54 = .ok (.bipush 32, 2) := dk_16 32 (dk_at dksX4_setMeaning_2 7 rfl rfl)
theorem dX4_setMeaning_56 : decode cX4_setMeaning 56 = .ok (.iload_n 1, 1) := dk_27 (dk_at dksX4_setMeaning_2 9 rfl rfl)
theorem dX4_setMeaning_57 : decode cX4_setMeaning 57 = .ok (.invokestatic 99, 3) := dk_184 0 99 (dk_at dksX4_setMeaning_2 10 rfl rfl)
theorem dX4_setMeaning_60 : decode cX4_setMeaning 60 = .ok (.iadd, 1) := dk_96 (dk_at dksX4_setMeaning_2 13 rfl rfl)
theorem dX4_setMeaning_61 : decode cX4_setMeaning 61 = .ok (.iload_n 2, 1) := dk_28 (dk_at dksX4_setMeaning_2 14 rfl rfl)
theorem dX4_setMeaning_62 : decode cX4_setMeaning 62 = .ok (.iastore, 1) := dk_79 (dk_at dksX4_setMeaning_2 15 rfl rfl)
theorem dX4_setMeaning_63 : decode cX4_setMeaning 63 = .ok (.iload_n 3, 1) := dk_29 (dk_at dksX4_setMeaning_2 16 rfl rfl)
theorem dX4_setMeaning_64 : decode cX4_setMeaning 64 = .ok (.i2c, 1) := dk_146 (dk_at dksX4_setMeaning_2 17 rfl rfl)
theorem dX4_setMeaning_65 : decode cX4_setMeaning 65 = .ok (.ireturn, 1) := dk_172 (dk_at dksX4_setMeaning_2 18 rfl rfl)
abbrev cX4_isMeaning : ByteArray := prog_22_method_16_code
def yX4_isMeaning : MethodName := ⟨RX4, "isMeaning", "(I)Z"⟩
def dkwX4_isMeaning_1 : List UInt8 := [26, 16, 108, 159, 0, 9, 26, 16, 106, 160, 0, 7, 4, 167, 0, 4, 3, 172]
abbrev dktX4_isMeaning_1 : List UInt8 := dkwX4_isMeaning_1 ++ []
def dkwX4_isMeaning_0 : List UInt8 := [26, 16, 115, 159, 0, 33, 26, 16, 100, 159, 0, 27, 26, 16, 112, 159, 0, 21, 26, 16, 103, 159, 0, 15]
abbrev dktX4_isMeaning_0 : List UInt8 := dkwX4_isMeaning_0 ++ dktX4_isMeaning_1
theorem dksX4_isMeaning_0 : cX4_isMeaning.data.toList.drop 0 = dktX4_isMeaning_0 := by decide +kernel
theorem dksX4_isMeaning_1 : cX4_isMeaning.data.toList.drop 24 = dktX4_isMeaning_1 := dk_seg dksX4_isMeaning_0 24 rfl rfl
theorem dX4_isMeaning_0 : decode cX4_isMeaning 0 = .ok (.iload_n 0, 1) := dk_26 (dk_at dksX4_isMeaning_0 0 rfl rfl)
theorem dX4_isMeaning_1 : decode cX4_isMeaning 1 = .ok (.bipush 115, 2) := dk_16 115 (dk_at dksX4_isMeaning_0 1 rfl rfl)
theorem dX4_isMeaning_3 : decode cX4_isMeaning 3 = .ok (.if_icmp .eq 33, 3) := dk_159 0 33 (dk_at dksX4_isMeaning_0 3 rfl rfl)
theorem dX4_isMeaning_6 : decode cX4_isMeaning 6 = .ok (.iload_n 0, 1) := dk_26 (dk_at dksX4_isMeaning_0 6 rfl rfl)
theorem dX4_isMeaning_7 : decode cX4_isMeaning 7 = .ok (.bipush 100, 2) := dk_16 100 (dk_at dksX4_isMeaning_0 7 rfl rfl)
theorem dX4_isMeaning_9 : decode cX4_isMeaning 9 = .ok (.if_icmp .eq 27, 3) := dk_159 0 27 (dk_at dksX4_isMeaning_0 9 rfl rfl)
theorem dX4_isMeaning_12 : decode cX4_isMeaning 12 = .ok (.iload_n 0, 1) := dk_26 (dk_at dksX4_isMeaning_0 12 rfl rfl)
theorem dX4_isMeaning_13 : decode cX4_isMeaning 13 = .ok (.bipush 112, 2) := dk_16 112 (dk_at dksX4_isMeaning_0 13 rfl rfl)
theorem dX4_isMeaning_15 : decode cX4_isMeaning 15 = .ok (.if_icmp .eq 21, 3) := dk_159 0 21 (dk_at dksX4_isMeaning_0 15 rfl rfl)
theorem dX4_isMeaning_18 : decode cX4_isMeaning 18 = .ok (.iload_n 0, 1) := dk_26 (dk_at dksX4_isMeaning_0 18 rfl rfl)
theorem dX4_isMeaning_19 : decode cX4_isMeaning 19 = .ok (.bipush 103, 2) := dk_16 103 (dk_at dksX4_isMeaning_0 19 rfl rfl)
theorem dX4_isMeaning_21 : decode cX4_isMeaning 21 = .ok (.if_icmp .eq 15, 3) := dk_159 0 15 (dk_at dksX4_isMeaning_0 21 rfl rfl)
theorem dX4_isMeaning_24 : decode cX4_isMeaning 24 = .ok (.iload_n 0, 1) := dk_26 (dk_at dksX4_isMeaning_1 0 rfl rfl)
theorem dX4_isMeaning_25 : decode cX4_isMeaning 25 = .ok (.bipush 108, 2) := dk_16 108 (dk_at dksX4_isMeaning_1 1 rfl rfl)
theorem dX4_isMeaning_27 : decode cX4_isMeaning 27 = .ok (.if_icmp .eq 9, 3) := dk_159 0 9 (dk_at dksX4_isMeaning_1 3 rfl rfl)
theorem dX4_isMeaning_30 : decode cX4_isMeaning 30 = .ok (.iload_n 0, 1) := dk_26 (dk_at dksX4_isMeaning_1 6 rfl rfl)
theorem dX4_isMeaning_31 : decode cX4_isMeaning 31 = .ok (.bipush 106, 2) := dk_16 106 (dk_at dksX4_isMeaning_1 7 rfl rfl)
theorem dX4_isMeaning_33 : decode cX4_isMeaning 33 = .ok (.if_icmp .ne 7, 3) := dk_160 0 7 (dk_at dksX4_isMeaning_1 9 rfl rfl)
theorem dX4_isMeaning_36 : decode cX4_isMeaning 36 = .ok (.iconst 1, 1) := dk_4 (dk_at dksX4_isMeaning_1 12 rfl rfl)
theorem dX4_isMeaning_37 : decode cX4_isMeaning 37 = .ok (.goto 4, 3) := dk_167 0 4 (dk_at dksX4_isMeaning_1 13 rfl rfl)
theorem dX4_isMeaning_40 : decode cX4_isMeaning 40 = .ok (.iconst 0, 1) := dk_3 (dk_at dksX4_isMeaning_1 16 rfl rfl)
theorem dX4_isMeaning_41 : decode cX4_isMeaning 41 = .ok (.ireturn, 1) := dk_172 (dk_at dksX4_isMeaning_1 17 rfl rfl)
abbrev cX4_turnStorm : ByteArray := prog_22_method_31_code
def yX4_turnStorm : MethodName := ⟨RX4, "turnStorm", "(I)I"⟩
def dkwX4_turnStorm_3 : List UInt8 := [132, 3, 1, 167, 255, 231, 28, 172]
abbrev dktX4_turnStorm_3 : List UInt8 := dkwX4_turnStorm_3 ++ []
def dkwX4_turnStorm_2 : List UInt8 := [62, 29, 16, 7, 162, 0, 25, 28, 42, 29, 182, 0, 147, 153, 0, 7, 4, 167, 0, 4, 3, 96, 61]
abbrev dktX4_turnStorm_2 : List UInt8 := dkwX4_turnStorm_2 ++ dktX4_turnStorm_3
def dkwX4_turnStorm_1 : List UInt8 := [42, 42, 180, 0, 7, 182, 0, 134, 42, 180, 0, 7, 16, 38, 92, 46, 4, 27, 120, 130, 79, 3, 61, 3]
abbrev dktX4_turnStorm_1 : List UInt8 := dkwX4_turnStorm_1 ++ dktX4_turnStorm_2
def dkwX4_turnStorm_0 : List UInt8 := [42, 27, 3, 16, 6, 184, 0, 103, 153, 0, 7, 3, 167, 0, 4, 4, 182, 0, 123, 153, 0, 5, 3, 172]
abbrev dktX4_turnStorm_0 : List UInt8 := dkwX4_turnStorm_0 ++ dktX4_turnStorm_1
theorem dksX4_turnStorm_0 : cX4_turnStorm.data.toList.drop 0 = dktX4_turnStorm_0 := by decide +kernel
theorem dksX4_turnStorm_1 : cX4_turnStorm.data.toList.drop 24 = dktX4_turnStorm_1 := dk_seg dksX4_turnStorm_0 24 rfl rfl
theorem dksX4_turnStorm_2 : cX4_turnStorm.data.toList.drop 48 = dktX4_turnStorm_2 := dk_seg dksX4_turnStorm_1 24 rfl rfl
theorem dksX4_turnStorm_3 : cX4_turnStorm.data.toList.drop 71 = dktX4_turnStorm_3 := dk_seg dksX4_turnStorm_2 23 rfl rfl
theorem dX4_turnStorm_0 : decode cX4_turnStorm 0 = .ok (.aload_n 0, 1) := dk_42 (dk_at dksX4_turnStorm_0 0 rfl rfl)
theorem dX4_turnStorm_1 : decode cX4_turnStorm 1 = .ok (.iload_n 1, 1) := dk_27 (dk_at dksX4_turnStorm_0 1 rfl rfl)
theorem dX4_turnStorm_2 : decode cX4_turnStorm 2 = .ok (.iconst 0, 1) := dk_3 (dk_at dksX4_turnStorm_0 2 rfl rfl)
theorem dX4_turnStorm_3 : decode cX4_turnStorm 3 = .ok (.bipush 6, 2) := dk_16 6 (dk_at dksX4_turnStorm_0 3 rfl rfl)
theorem dX4_turnStorm_5 : decode cX4_turnStorm 5 = .ok (.invokestatic 103, 3) := dk_184 0 103 (dk_at dksX4_turnStorm_0 5 rfl rfl)
theorem dX4_turnStorm_8 : decode cX4_turnStorm 8 = .ok (.ifCond .eq 7, 3) := dk_153 0 7 (dk_at dksX4_turnStorm_0 8 rfl rfl)
theorem dX4_turnStorm_11 : decode cX4_turnStorm 11 = .ok (.iconst 0, 1) := dk_3 (dk_at dksX4_turnStorm_0 11 rfl rfl)
theorem dX4_turnStorm_12 : decode cX4_turnStorm 12 = .ok (.goto 4, 3) := dk_167 0 4 (dk_at dksX4_turnStorm_0 12 rfl rfl)
theorem dX4_turnStorm_15 : decode cX4_turnStorm 15 = .ok (.iconst 1, 1) := dk_4 (dk_at dksX4_turnStorm_0 15 rfl rfl)
theorem dX4_turnStorm_16 : decode cX4_turnStorm 16 = .ok (.invokevirtual 123, 3) := dk_182 0 123 (dk_at dksX4_turnStorm_0 16 rfl rfl)
theorem dX4_turnStorm_19 : decode cX4_turnStorm 19 = .ok (.ifCond .eq 5, 3) := dk_153 0 5 (dk_at dksX4_turnStorm_0 19 rfl rfl)
theorem dX4_turnStorm_22 : decode cX4_turnStorm 22 = .ok (.iconst 0, 1) := dk_3 (dk_at dksX4_turnStorm_0 22 rfl rfl)
theorem dX4_turnStorm_23 : decode cX4_turnStorm 23 = .ok (.ireturn, 1) := dk_172 (dk_at dksX4_turnStorm_0 23 rfl rfl)
theorem dX4_turnStorm_24 : decode cX4_turnStorm 24 = .ok (.aload_n 0, 1) := dk_42 (dk_at dksX4_turnStorm_1 0 rfl rfl)
theorem dX4_turnStorm_25 : decode cX4_turnStorm 25 = .ok (.aload_n 0, 1) := dk_42 (dk_at dksX4_turnStorm_1 1 rfl rfl)
theorem dX4_turnStorm_26 : decode cX4_turnStorm 26 = .ok (.getfield 7, 3) := dk_180 0 7 (dk_at dksX4_turnStorm_1 2 rfl rfl)
theorem dX4_turnStorm_29 : decode cX4_turnStorm 29 = .ok (.invokevirtual 134, 3) := dk_182 0 134 (dk_at dksX4_turnStorm_1 5 rfl rfl)
theorem dX4_turnStorm_32 : decode cX4_turnStorm 32 = .ok (.aload_n 0, 1) := dk_42 (dk_at dksX4_turnStorm_1 8 rfl rfl)
theorem dX4_turnStorm_33 : decode cX4_turnStorm 33 = .ok (.getfield 7, 3) := dk_180 0 7 (dk_at dksX4_turnStorm_1 9 rfl rfl)
theorem dX4_turnStorm_36 : decode cX4_turnStorm 36 = .ok (.bipush 38, 2) := dk_16 38 (dk_at dksX4_turnStorm_1 12 rfl rfl)
theorem dX4_turnStorm_38 : decode cX4_turnStorm 38 = .ok (.dup2, 1) := dk_92 (dk_at dksX4_turnStorm_1 14 rfl rfl)
theorem dX4_turnStorm_39 : decode cX4_turnStorm 39 = .ok (.iaload, 1) := dk_46 (dk_at dksX4_turnStorm_1 15 rfl rfl)
theorem dX4_turnStorm_40 : decode cX4_turnStorm 40 = .ok (.iconst 1, 1) := dk_4 (dk_at dksX4_turnStorm_1 16 rfl rfl)
theorem dX4_turnStorm_41 : decode cX4_turnStorm 41 = .ok (.iload_n 1, 1) := dk_27 (dk_at dksX4_turnStorm_1 17 rfl rfl)
theorem dX4_turnStorm_42 : decode cX4_turnStorm 42 = .ok (.ishl, 1) := dk_120 (dk_at dksX4_turnStorm_1 18 rfl rfl)
theorem dX4_turnStorm_43 : decode cX4_turnStorm 43 = .ok (.ixor, 1) := dk_130 (dk_at dksX4_turnStorm_1 19 rfl rfl)
theorem dX4_turnStorm_44 : decode cX4_turnStorm 44 = .ok (.iastore, 1) := dk_79 (dk_at dksX4_turnStorm_1 20 rfl rfl)
theorem dX4_turnStorm_45 : decode cX4_turnStorm 45 = .ok (.iconst 0, 1) := dk_3 (dk_at dksX4_turnStorm_1 21 rfl rfl)
theorem dX4_turnStorm_46 : decode cX4_turnStorm 46 = .ok (.istore_n 2, 1) := dk_61 (dk_at dksX4_turnStorm_1 22 rfl rfl)
theorem dX4_turnStorm_47 : decode cX4_turnStorm 47 = .ok (.iconst 0, 1) := dk_3 (dk_at dksX4_turnStorm_1 23 rfl rfl)
theorem dX4_turnStorm_48 : decode cX4_turnStorm 48 = .ok (.istore_n 3, 1) := dk_62 (dk_at dksX4_turnStorm_2 0 rfl rfl)
theorem dX4_turnStorm_49 : decode cX4_turnStorm 49 = .ok (.iload_n 3, 1) := dk_29 (dk_at dksX4_turnStorm_2 1 rfl rfl)
theorem dX4_turnStorm_50 : decode cX4_turnStorm 50 = .ok (.bipush 7, 2) := dk_16 7 (dk_at dksX4_turnStorm_2 2 rfl rfl)
theorem dX4_turnStorm_52 : decode cX4_turnStorm 52 = .ok (.if_icmp .ge 25, 3) := dk_162 0 25 (dk_at dksX4_turnStorm_2 4 rfl rfl)
theorem dX4_turnStorm_55 : decode cX4_turnStorm 55 = .ok (.iload_n 2, 1) := dk_28 (dk_at dksX4_turnStorm_2 7 rfl rfl)
theorem dX4_turnStorm_56 : decode cX4_turnStorm 56 = .ok (.aload_n 0, 1) := dk_42 (dk_at dksX4_turnStorm_2 8 rfl rfl)
theorem dX4_turnStorm_57 : decode cX4_turnStorm 57 = .ok (.iload_n 3, 1) := dk_29 (dk_at dksX4_turnStorm_2 9 rfl rfl)
theorem dX4_turnStorm_58 : decode cX4_turnStorm 58 = .ok (.invokevirtual 147, 3) := dk_182 0 147 (dk_at dksX4_turnStorm_2 10 rfl rfl)
theorem dX4_turnStorm_61 : decode cX4_turnStorm 61 = .ok (.ifCond .eq 7, 3) := dk_153 0 7 (dk_at dksX4_turnStorm_2 13 rfl rfl)
theorem dX4_turnStorm_64 : decode cX4_turnStorm 64 = .ok (.iconst 1, 1) := dk_4 (dk_at dksX4_turnStorm_2 16 rfl rfl)
theorem dX4_turnStorm_65 : decode cX4_turnStorm 65 = .ok (.goto 4, 3) := dk_167 0 4 (dk_at dksX4_turnStorm_2 17 rfl rfl)
theorem dX4_turnStorm_68 : decode cX4_turnStorm 68 = .ok (.iconst 0, 1) := dk_3 (dk_at dksX4_turnStorm_2 20 rfl rfl)
theorem dX4_turnStorm_69 : decode cX4_turnStorm 69 = .ok (.iadd, 1) := dk_96 (dk_at dksX4_turnStorm_2 21 rfl rfl)
theorem dX4_turnStorm_70 : decode cX4_turnStorm 70 = .ok (.istore_n 2, 1) := dk_61 (dk_at dksX4_turnStorm_2 22 rfl rfl)
theorem dX4_turnStorm_71 : decode cX4_turnStorm 71 = .ok (.iinc 3 1, 3) := dk_132 3 1 (dk_at dksX4_turnStorm_3 0 rfl rfl)
theorem dX4_turnStorm_74 : decode cX4_turnStorm 74 = .ok (.goto (-25), 3) := dk_167 255 231 (dk_at dksX4_turnStorm_3 3 rfl rfl)
theorem dX4_turnStorm_77 : decode cX4_turnStorm 77 = .ok (.iload_n 2, 1) := dk_28 (dk_at dksX4_turnStorm_3 6 rfl rfl)
theorem dX4_turnStorm_78 : decode cX4_turnStorm 78 = .ok (.ireturn, 1) := dk_172 (dk_at dksX4_turnStorm_3 7 rfl rfl)
abbrev cX4_isRight : ByteArray := prog_22_method_30_code
def yX4_isRight : MethodName := ⟨RX4, "isRight", "(I)Z"⟩
def dkwX4_isRight_0 : List UInt8 := [42, 180, 0, 7, 16, 38, 46, 27, 122, 4, 126, 4, 160, 0, 7, 4, 167, 0, 4, 3, 172]
abbrev dktX4_isRight_0 : List UInt8 := dkwX4_isRight_0 ++ []
theorem dksX4_isRight_0 : cX4_isRight.data.toList.drop 0 = dktX4_isRight_0 := by decide +kernel
theorem dX4_isRight_0 : decode cX4_isRight 0 = .ok (.aload_n 0, 1) := dk_42 (dk_at dksX4_isRight_0 0 rfl rfl)
theorem dX4_isRight_1 : decode cX4_isRight 1 = .ok (.getfield 7, 3) := dk_180 0 7 (dk_at dksX4_isRight_0 1 rfl rfl)
theorem dX4_isRight_4 : decode cX4_isRight 4 = .ok (.bipush 38, 2) := dk_16 38 (dk_at dksX4_isRight_0 4 rfl rfl)
theorem dX4_isRight_6 : decode cX4_isRight 6 = .ok (.iaload, 1) := dk_46 (dk_at dksX4_isRight_0 6 rfl rfl)
theorem dX4_isRight_7 : decode cX4_isRight 7 = .ok (.iload_n 1, 1) := dk_27 (dk_at dksX4_isRight_0 7 rfl rfl)
theorem dX4_isRight_8 : decode cX4_isRight 8 = .ok (.ishr, 1) := dk_122 (dk_at dksX4_isRight_0 8 rfl rfl)
theorem dX4_isRight_9 : decode cX4_isRight 9 = .ok (.iconst 1, 1) := dk_4 (dk_at dksX4_isRight_0 9 rfl rfl)
theorem dX4_isRight_10 : decode cX4_isRight 10 = .ok (.iand, 1) := dk_126 (dk_at dksX4_isRight_0 10 rfl rfl)
theorem dX4_isRight_11 : decode cX4_isRight 11 = .ok (.iconst 1, 1) := dk_4 (dk_at dksX4_isRight_0 11 rfl rfl)
theorem dX4_isRight_12 : decode cX4_isRight 12 = .ok (.if_icmp .ne 7, 3) := dk_160 0 7 (dk_at dksX4_isRight_0 12 rfl rfl)
theorem dX4_isRight_15 : decode cX4_isRight 15 = .ok (.iconst 1, 1) := dk_4 (dk_at dksX4_isRight_0 15 rfl rfl)
theorem dX4_isRight_16 : decode cX4_isRight 16 = .ok (.goto 4, 3) := dk_167 0 4 (dk_at dksX4_isRight_0 16 rfl rfl)
theorem dX4_isRight_19 : decode cX4_isRight 19 = .ok (.iconst 0, 1) := dk_3 (dk_at dksX4_isRight_0 19 rfl rfl)
theorem dX4_isRight_20 : decode cX4_isRight 20 = .ok (.ireturn, 1) := dk_172 (dk_at dksX4_isRight_0 20 rfl rfl)
abbrev cX4_colour : ByteArray := prog_22_method_32_code
def yX4_colour : MethodName := ⟨RX4, "colour", "(C)I"⟩
def dkwX4_colour_1 : List UInt8 := [180, 0, 7, 16, 25, 27, 184, 0, 99, 96, 46, 172]
abbrev dktX4_colour_1 : List UInt8 := dkwX4_colour_1 ++ []
def dkwX4_colour_0 : List UInt8 := [42, 27, 184, 0, 99, 156, 0, 7, 4, 167, 0, 4, 3, 182, 0, 123, 153, 0, 7, 3, 167, 0, 15, 42]
abbrev dktX4_colour_0 : List UInt8 := dkwX4_colour_0 ++ dktX4_colour_1
theorem dksX4_colour_0 : cX4_colour.data.toList.drop 0 = dktX4_colour_0 := by decide +kernel
theorem dksX4_colour_1 : cX4_colour.data.toList.drop 24 = dktX4_colour_1 := dk_seg dksX4_colour_0 24 rfl rfl
theorem dX4_colour_0 : decode cX4_colour 0 = .ok (.aload_n 0, 1) := dk_42 (dk_at dksX4_colour_0 0 rfl rfl)
theorem dX4_colour_1 : decode cX4_colour 1 = .ok (.iload_n 1, 1) := dk_27 (dk_at dksX4_colour_0 1 rfl rfl)
theorem dX4_colour_2 : decode cX4_colour 2 = .ok (.invokestatic 99, 3) := dk_184 0 99 (dk_at dksX4_colour_0 2 rfl rfl)
theorem dX4_colour_5 : decode cX4_colour 5 = .ok (.ifCond .ge 7, 3) := dk_156 0 7 (dk_at dksX4_colour_0 5 rfl rfl)
theorem dX4_colour_8 : decode cX4_colour 8 = .ok (.iconst 1, 1) := dk_4 (dk_at dksX4_colour_0 8 rfl rfl)
theorem dX4_colour_9 : decode cX4_colour 9 = .ok (.goto 4, 3) := dk_167 0 4 (dk_at dksX4_colour_0 9 rfl rfl)
theorem dX4_colour_12 : decode cX4_colour 12 = .ok (.iconst 0, 1) := dk_3 (dk_at dksX4_colour_0 12 rfl rfl)
theorem dX4_colour_13 : decode cX4_colour 13 = .ok (.invokevirtual 123, 3) := dk_182 0 123 (dk_at dksX4_colour_0 13 rfl rfl)
theorem dX4_colour_16 : decode cX4_colour 16 = .ok (.ifCond .eq 7, 3) := dk_153 0 7 (dk_at dksX4_colour_0 16 rfl rfl)
theorem dX4_colour_19 : decode cX4_colour 19 = .ok (.iconst 0, 1) := dk_3 (dk_at dksX4_colour_0 19 rfl rfl)
theorem dX4_colour_20 : decode cX4_colour 20 = .ok (.goto 15, 3) := dk_167 0 15 (dk_at dksX4_colour_0 20 rfl rfl)
theorem dX4_colour_23 : decode cX4_colour 23 = .ok (.aload_n 0, 1) := dk_42 (dk_at dksX4_colour_0 23 rfl rfl)
theorem dX4_colour_24 : decode cX4_colour 24 = .ok (.getfield 7, 3) := dk_180 0 7 (dk_at dksX4_colour_1 0 rfl rfl)
theorem dX4_colour_27 : decode cX4_colour 27 = .ok (.bipush 25, 2) := dk_16 25 (dk_at dksX4_colour_1 3 rfl rfl)
theorem dX4_colour_29 : decode cX4_colour 29 = .ok (.iload_n 1, 1) := dk_27 (dk_at dksX4_colour_1 5 rfl rfl)
theorem dX4_colour_30 : decode cX4_colour 30 = .ok (.invokestatic 99, 3) := dk_184 0 99 (dk_at dksX4_colour_1 6 rfl rfl)
theorem dX4_colour_33 : decode cX4_colour 33 = .ok (.iadd, 1) := dk_96 (dk_at dksX4_colour_1 9 rfl rfl)
theorem dX4_colour_34 : decode cX4_colour 34 = .ok (.iaload, 1) := dk_46 (dk_at dksX4_colour_1 10 rfl rfl)
theorem dX4_colour_35 : decode cX4_colour 35 = .ok (.ireturn, 1) := dk_172 (dk_at dksX4_colour_1 11 rfl rfl)
abbrev cX4_meaning : ByteArray := prog_22_method_33_code
def yX4_meaning : MethodName := ⟨RX4, "meaning", "(C)C"⟩
def dkwX4_meaning_1 : List UInt8 := [42, 180, 0, 7, 16, 32, 27, 184, 0, 99, 96, 46, 146, 172]
abbrev dktX4_meaning_1 : List UInt8 := dkwX4_meaning_1 ++ []
def dkwX4_meaning_0 : List UInt8 := [42, 27, 184, 0, 138, 153, 0, 7, 3, 167, 0, 4, 4, 182, 0, 123, 153, 0, 8, 16, 32, 167, 0, 16]
abbrev dktX4_meaning_0 : List UInt8 := dkwX4_meaning_0 ++ dktX4_meaning_1
theorem dksX4_meaning_0 : cX4_meaning.data.toList.drop 0 = dktX4_meaning_0 := by decide +kernel
theorem dksX4_meaning_1 : cX4_meaning.data.toList.drop 24 = dktX4_meaning_1 := dk_seg dksX4_meaning_0 24 rfl rfl
theorem dX4_meaning_0 : decode cX4_meaning 0 = .ok (.aload_n 0, 1) := dk_42 (dk_at dksX4_meaning_0 0 rfl rfl)
theorem dX4_meaning_1 : decode cX4_meaning 1 = .ok (.iload_n 1, 1) := dk_27 (dk_at dksX4_meaning_0 1 rfl rfl)
theorem dX4_meaning_2 : decode cX4_meaning 2 = .ok (.invokestatic 138, 3) := dk_184 0 138 (dk_at dksX4_meaning_0 2 rfl rfl)
theorem dX4_meaning_5 : decode cX4_meaning 5 = .ok (.ifCond .eq 7, 3) := dk_153 0 7 (dk_at dksX4_meaning_0 5 rfl rfl)
theorem dX4_meaning_8 : decode cX4_meaning 8 = .ok (.iconst 0, 1) := dk_3 (dk_at dksX4_meaning_0 8 rfl rfl)
theorem dX4_meaning_9 : decode cX4_meaning 9 = .ok (.goto 4, 3) := dk_167 0 4 (dk_at dksX4_meaning_0 9 rfl rfl)
theorem dX4_meaning_12 : decode cX4_meaning 12 = .ok (.iconst 1, 1) := dk_4 (dk_at dksX4_meaning_0 12 rfl rfl)
theorem dX4_meaning_13 : decode cX4_meaning 13 = .ok (.invokevirtual 123, 3) := dk_182 0 123 (dk_at dksX4_meaning_0 13 rfl rfl)
theorem dX4_meaning_16 : decode cX4_meaning 16 = .ok (.ifCond .eq 8, 3) := dk_153 0 8 (dk_at dksX4_meaning_0 16 rfl rfl)
theorem dX4_meaning_19 : decode cX4_meaning 19 = .ok (.bipush 32, 2) := dk_16 32 (dk_at dksX4_meaning_0 19 rfl rfl)
theorem dX4_meaning_21 : decode cX4_meaning 21 = .ok (.goto 16, 3) := dk_167 0 16 (dk_at dksX4_meaning_0 21 rfl rfl)
theorem dX4_meaning_24 : decode cX4_meaning 24 = .ok (.aload_n 0, 1) := dk_42 (dk_at dksX4_meaning_1 0 rfl rfl)
theorem dX4_meaning_25 : decode cX4_meaning 25 = .ok (.getfield 7, 3) := dk_180 0 7 (dk_at dksX4_meaning_1 1 rfl rfl)
theorem dX4_meaning_28 : decode cX4_meaning 28 = .ok (.bipush 32, 2) := dk_16 32 (dk_at dksX4_meaning_1 4 rfl rfl)
theorem dX4_meaning_30 : decode cX4_meaning 30 = .ok (.iload_n 1, 1) := dk_27 (dk_at dksX4_meaning_1 6 rfl rfl)
theorem dX4_meaning_31 : decode cX4_meaning 31 = .ok (.invokestatic 99, 3) := dk_184 0 99 (dk_at dksX4_meaning_1 7 rfl rfl)
theorem dX4_meaning_34 : decode cX4_meaning 34 = .ok (.iadd, 1) := dk_96 (dk_at dksX4_meaning_1 10 rfl rfl)
theorem dX4_meaning_35 : decode cX4_meaning 35 = .ok (.iaload, 1) := dk_46 (dk_at dksX4_meaning_1 11 rfl rfl)
theorem dX4_meaning_36 : decode cX4_meaning 36 = .ok (.i2c, 1) := dk_146 (dk_at dksX4_meaning_1 12 rfl rfl)
theorem dX4_meaning_37 : decode cX4_meaning 37 = .ok (.ireturn, 1) := dk_172 (dk_at dksX4_meaning_1 13 rfl rfl)
abbrev cX4_isToTheRight : ByteArray := prog_22_method_34_code
def yX4_isToTheRight : MethodName := ⟨RX4, "isToTheRight", "(I)Z"⟩
def dkwX4_isToTheRight_1 : List UInt8 := [182, 0, 147, 153, 0, 7, 4, 167, 0, 4, 3, 172]
abbrev dktX4_isToTheRight_1 : List UInt8 := dkwX4_isToTheRight_1 ++ []
def dkwX4_isToTheRight_0 : List UInt8 := [42, 27, 3, 16, 6, 184, 0, 103, 153, 0, 7, 3, 167, 0, 4, 4, 182, 0, 123, 154, 0, 15, 42, 27]
abbrev dktX4_isToTheRight_0 : List UInt8 := dkwX4_isToTheRight_0 ++ dktX4_isToTheRight_1
theorem dksX4_isToTheRight_0 : cX4_isToTheRight.data.toList.drop 0 = dktX4_isToTheRight_0 := by decide +kernel
theorem dksX4_isToTheRight_1 : cX4_isToTheRight.data.toList.drop 24 = dktX4_isToTheRight_1 := dk_seg dksX4_isToTheRight_0 24 rfl rfl
theorem dX4_isToTheRight_0 : decode cX4_isToTheRight 0 = .ok (.aload_n 0, 1) := dk_42 (dk_at dksX4_isToTheRight_0 0 rfl rfl)
theorem dX4_isToTheRight_1 : decode cX4_isToTheRight 1 = .ok (.iload_n 1, 1) := dk_27 (dk_at dksX4_isToTheRight_0 1 rfl rfl)
theorem dX4_isToTheRight_2 : decode cX4_isToTheRight 2 = .ok (.iconst 0, 1) := dk_3 (dk_at dksX4_isToTheRight_0 2 rfl rfl)
theorem dX4_isToTheRight_3 : decode cX4_isToTheRight 3 = .ok (.bipush 6, 2) := dk_16 6 (dk_at dksX4_isToTheRight_0 3 rfl rfl)
theorem dX4_isToTheRight_5 : decode cX4_isToTheRight 5 = .ok (.invokestatic 103, 3) := dk_184 0 103 (dk_at dksX4_isToTheRight_0 5 rfl rfl)
theorem dX4_isToTheRight_8 : decode cX4_isToTheRight 8 = .ok (.ifCond .eq 7, 3) := dk_153 0 7 (dk_at dksX4_isToTheRight_0 8 rfl rfl)
theorem dX4_isToTheRight_11 : decode cX4_isToTheRight 11 = .ok (.iconst 0, 1) := dk_3 (dk_at dksX4_isToTheRight_0 11 rfl rfl)
theorem dX4_isToTheRight_12 : decode cX4_isToTheRight 12 = .ok (.goto 4, 3) := dk_167 0 4 (dk_at dksX4_isToTheRight_0 12 rfl rfl)
theorem dX4_isToTheRight_15 : decode cX4_isToTheRight 15 = .ok (.iconst 1, 1) := dk_4 (dk_at dksX4_isToTheRight_0 15 rfl rfl)
theorem dX4_isToTheRight_16 : decode cX4_isToTheRight 16 = .ok (.invokevirtual 123, 3) := dk_182 0 123 (dk_at dksX4_isToTheRight_0 16 rfl rfl)
theorem dX4_isToTheRight_19 : decode cX4_isToTheRight 19 = .ok (.ifCond .ne 15, 3) := dk_154 0 15 (dk_at dksX4_isToTheRight_0 19 rfl rfl)
theorem dX4_isToTheRight_22 : decode cX4_isToTheRight 22 = .ok (.aload_n 0, 1) := dk_42 (dk_at dksX4_isToTheRight_0 22 rfl rfl)
theorem dX4_isToTheRight_23 : decode cX4_isToTheRight 23 = .ok (.iload_n 1, 1) := dk_27 (dk_at dksX4_isToTheRight_0 23 rfl rfl)
theorem dX4_isToTheRight_24 : decode cX4_isToTheRight 24 = .ok (.invokevirtual 147, 3) := dk_182 0 147 (dk_at dksX4_isToTheRight_1 0 rfl rfl)
theorem dX4_isToTheRight_27 : decode cX4_isToTheRight 27 = .ok (.ifCond .eq 7, 3) := dk_153 0 7 (dk_at dksX4_isToTheRight_1 3 rfl rfl)
theorem dX4_isToTheRight_30 : decode cX4_isToTheRight 30 = .ok (.iconst 1, 1) := dk_4 (dk_at dksX4_isToTheRight_1 6 rfl rfl)
theorem dX4_isToTheRight_31 : decode cX4_isToTheRight 31 = .ok (.goto 4, 3) := dk_167 0 4 (dk_at dksX4_isToTheRight_1 7 rfl rfl)
theorem dX4_isToTheRight_34 : decode cX4_isToTheRight 34 = .ok (.iconst 0, 1) := dk_3 (dk_at dksX4_isToTheRight_1 10 rfl rfl)
theorem dX4_isToTheRight_35 : decode cX4_isToTheRight 35 = .ok (.ireturn, 1) := dk_172 (dk_at dksX4_isToTheRight_1 11 rfl rfl)
abbrev cX4_operatorByColour : ByteArray := prog_22_method_35_code
def yX4_operatorByColour : MethodName := ⟨RX4, "operatorByColour", "(I)C"⟩
def dkwX4_operatorByColour_4 : List UInt8 := [42, 3, 181, 0, 73, 28, 184, 0, 150, 172, 132, 2, 1, 167, 255, 153, 42, 4, 181, 0, 73, 16, 32, 172]
abbrev dktX4_operatorByColour_4 : List UInt8 := dkwX4_operatorByColour_4 ++ []
def dkwX4_operatorByColour_3 : List UInt8 := [162, 0, 7, 4, 167, 0, 4, 3, 96, 62, 132, 4, 1, 167, 255, 188, 29, 27, 159, 0, 6, 167, 0, 13]
abbrev dktX4_operatorByColour_3 : List UInt8 := dkwX4_operatorByColour_3 ++ dktX4_operatorByColour_4
def dkwX4_operatorByColour_2 : List UInt8 := [180, 0, 7, 16, 25, 21, 4, 96, 46, 42, 180, 0, 7, 16, 25, 28, 96, 46, 160, 0, 13, 21, 4, 28]
abbrev dktX4_operatorByColour_2 : List UInt8 := dkwX4_operatorByColour_2 ++ dktX4_operatorByColour_3
def dkwX4_operatorByColour_1 : List UInt8 := [180, 0, 7, 16, 25, 21, 4, 96, 46, 42, 180, 0, 7, 16, 25, 28, 96, 46, 163, 0, 31, 42]
abbrev dktX4_operatorByColour_1 : List UInt8 := dkwX4_operatorByColour_1 ++ dktX4_operatorByColour_2
def dkwX4_operatorByColour_0 : List UInt8 := [3, 61, 28, 16, 6, 162, 0, 103, 3, 62, 3, 54, 4, 21, 4, 16, 6, 162, 0, 67, 29, 42]
abbrev dktX4_operatorByColour_0 : List UInt8 := dkwX4_operatorByColour_0 ++ dktX4_operatorByColour_1
theorem dksX4_operatorByColour_0 : cX4_operatorByColour.data.toList.drop 0 = dktX4_operatorByColour_0 := by decide +kernel
theorem dksX4_operatorByColour_1 : cX4_operatorByColour.data.toList.drop 22 = dktX4_operatorByColour_1 := dk_seg dksX4_operatorByColour_0 22 rfl rfl
theorem dksX4_operatorByColour_2 : cX4_operatorByColour.data.toList.drop 44 = dktX4_operatorByColour_2 := dk_seg dksX4_operatorByColour_1 22 rfl rfl
theorem dksX4_operatorByColour_3 : cX4_operatorByColour.data.toList.drop 68 = dktX4_operatorByColour_3 := dk_seg dksX4_operatorByColour_2 24 rfl rfl
theorem dksX4_operatorByColour_4 : cX4_operatorByColour.data.toList.drop 92 = dktX4_operatorByColour_4 := dk_seg dksX4_operatorByColour_3 24 rfl rfl
theorem dX4_operatorByColour_0 : decode cX4_operatorByColour 0 = .ok (.iconst 0, 1) := dk_3 (dk_at dksX4_operatorByColour_0 0 rfl rfl)
theorem dX4_operatorByColour_1 : decode cX4_operatorByColour 1 = .ok (.istore_n 2, 1) := dk_61 (dk_at dksX4_operatorByColour_0 1 rfl rfl)
theorem dX4_operatorByColour_2 : decode cX4_operatorByColour 2 = .ok (.iload_n 2, 1) := dk_28 (dk_at dksX4_operatorByColour_0 2 rfl rfl)
theorem dX4_operatorByColour_3 : decode cX4_operatorByColour 3 = .ok (.bipush 6, 2) := dk_16 6 (dk_at dksX4_operatorByColour_0 3 rfl rfl)
theorem dX4_operatorByColour_5 : decode cX4_operatorByColour 5 = .ok (.if_icmp .ge 103, 3) := dk_162 0 103 (dk_at dksX4_operatorByColour_0 5 rfl rfl)
theorem dX4_operatorByColour_8 : decode cX4_operatorByColour 8 = .ok (.iconst 0, 1) := dk_3 (dk_at dksX4_operatorByColour_0 8 rfl rfl)
theorem dX4_operatorByColour_9 : decode cX4_operatorByColour 9 = .ok (.istore_n 3, 1) := dk_62 (dk_at dksX4_operatorByColour_0 9 rfl rfl)
theorem dX4_operatorByColour_10 : decode cX4_operatorByColour 10 = .ok (.iconst 0, 1) := dk_3 (dk_at dksX4_operatorByColour_0 10 rfl rfl)
theorem dX4_operatorByColour_11 : decode cX4_operatorByColour 11 = .ok (.istore 4, 2) := dk_54 4 (dk_at dksX4_operatorByColour_0 11 rfl rfl)
theorem dX4_operatorByColour_13 : decode cX4_operatorByColour 13 = .ok (.iload 4, 2) := dk_21 4 (dk_at dksX4_operatorByColour_0 13 rfl rfl)
theorem dX4_operatorByColour_15 : decode cX4_operatorByColour 15 = .ok (.bipush 6, 2) := dk_16 6 (dk_at dksX4_operatorByColour_0 15 rfl rfl)
theorem dX4_operatorByColour_17 : decode cX4_operatorByColour 17 = .ok (.if_icmp .ge 67, 3) := dk_162 0 67 (dk_at dksX4_operatorByColour_0 17 rfl rfl)
theorem dX4_operatorByColour_20 : decode cX4_operatorByColour 20 = .ok (.iload_n 3, 1) := dk_29 (dk_at dksX4_operatorByColour_0 20 rfl rfl)
theorem dX4_operatorByColour_21 : decode cX4_operatorByColour 21 = .ok (.aload_n 0, 1) := dk_42 (dk_at dksX4_operatorByColour_0 21 rfl rfl)
theorem dX4_operatorByColour_22 : decode cX4_operatorByColour 22 = .ok (.getfield 7, 3) := dk_180 0 7 (dk_at dksX4_operatorByColour_1 0 rfl rfl)
theorem dX4_operatorByColour_25 : decode cX4_operatorByColour 25 = .ok (.bipush 25, 2) := dk_16 25 (dk_at dksX4_operatorByColour_1 3 rfl rfl)
theorem dX4_operatorByColour_27 : decode cX4_operatorByColour 27 = .ok (.iload 4, 2) := dk_21 4 (dk_at dksX4_operatorByColour_1 5 rfl rfl)
theorem dX4_operatorByColour_29 : decode cX4_operatorByColour 29 = .ok (.iadd, 1) := dk_96 (dk_at dksX4_operatorByColour_1 7 rfl rfl)
theorem dX4_operatorByColour_30 : decode cX4_operatorByColour 30 = .ok (.iaload, 1) := dk_46 (dk_at dksX4_operatorByColour_1 8 rfl rfl)
theorem dX4_operatorByColour_31 : decode cX4_operatorByColour 31 = .ok (.aload_n 0, 1) := dk_42 (dk_at dksX4_operatorByColour_1 9 rfl rfl)
theorem dX4_operatorByColour_32 : decode cX4_operatorByColour 32 = .ok (.getfield 7, 3) := dk_180 0 7 (dk_at dksX4_operatorByColour_1 10 rfl rfl)
theorem dX4_operatorByColour_35 : decode cX4_operatorByColour 35 = .ok (.bipush 25, 2) := dk_16 25 (dk_at dksX4_operatorByColour_1 13 rfl rfl)
theorem dX4_operatorByColour_37 : decode cX4_operatorByColour 37 = .ok (.iload_n 2, 1) := dk_28 (dk_at dksX4_operatorByColour_1 15 rfl rfl)
theorem dX4_operatorByColour_38 : decode cX4_operatorByColour 38 = .ok (.iadd, 1) := dk_96 (dk_at dksX4_operatorByColour_1 16 rfl rfl)
theorem dX4_operatorByColour_39 : decode cX4_operatorByColour 39 = .ok (.iaload, 1) := dk_46 (dk_at dksX4_operatorByColour_1 17 rfl rfl)
theorem dX4_operatorByColour_40 : decode cX4_operatorByColour 40 = .ok (.if_icmp .gt 31, 3) := dk_163 0 31 (dk_at dksX4_operatorByColour_1 18 rfl rfl)
theorem dX4_operatorByColour_43 : decode cX4_operatorByColour 43 = .ok (.aload_n 0, 1) := dk_42 (dk_at dksX4_operatorByColour_1 21 rfl rfl)
theorem dX4_operatorByColour_44 : decode cX4_operatorByColour 44 = .ok (.getfield 7, 3) := dk_180 0 7 (dk_at dksX4_operatorByColour_2 0 rfl rfl)
theorem dX4_operatorByColour_47 : decode cX4_operatorByColour 47 = .ok (.bipush 25, 2) := dk_16 25 (dk_at dksX4_operatorByColour_2 3 rfl rfl)
theorem dX4_operatorByColour_49 : decode cX4_operatorByColour 49 = .ok (.iload 4, 2) := dk_21 4 (dk_at dksX4_operatorByColour_2 5 rfl rfl)
theorem dX4_operatorByColour_51 : decode cX4_operatorByColour 51 = .ok (.iadd, 1) := dk_96 (dk_at dksX4_operatorByColour_2 7 rfl rfl)
theorem dX4_operatorByColour_52 : decode cX4_operatorByColour 52 = .ok (.iaload, 1) := dk_46 (dk_at dksX4_operatorByColour_2 8 rfl rfl)
theorem dX4_operatorByColour_53 : decode cX4_operatorByColour 53 = .ok (.aload_n 0, 1) := dk_42 (dk_at dksX4_operatorByColour_2 9 rfl rfl)
theorem dX4_operatorByColour_54 : decode cX4_operatorByColour 54 = .ok (.getfield 7, 3) := dk_180 0 7 (dk_at dksX4_operatorByColour_2 10 rfl rfl)
theorem dX4_operatorByColour_57 : decode cX4_operatorByColour 57 = .ok (.bipush 25, 2) := dk_16 25 (dk_at dksX4_operatorByColour_2 13 rfl rfl)
theorem dX4_operatorByColour_59 : decode cX4_operatorByColour 59 = .ok (.iload_n 2, 1) := dk_28 (dk_at dksX4_operatorByColour_2 15 rfl rfl)
theorem dX4_operatorByColour_60 : decode cX4_operatorByColour 60 = .ok (.iadd, 1) := dk_96 (dk_at dksX4_operatorByColour_2 16 rfl rfl)
theorem dX4_operatorByColour_61 : decode cX4_operatorByColour 61 = .ok (.iaload, 1) := dk_46 (dk_at dksX4_operatorByColour_2 17 rfl rfl)
theorem dX4_operatorByColour_62 : decode cX4_operatorByColour 62 = .ok (.if_icmp .ne 13, 3) := dk_160 0 13 (dk_at dksX4_operatorByColour_2 18 rfl rfl)
theorem dX4_operatorByColour_65 : decode cX4_operatorByColour 65 = .ok (.iload 4, 2) := dk_21 4 (dk_at dksX4_operatorByColour_2 21 rfl rfl)
theorem dX4_operatorByColour_67 : decode cX4_operatorByColour 67 = .ok (.iload_n 2, 1) := dk_28 (dk_at dksX4_operatorByColour_2 23 rfl rfl)
theorem dX4_operatorByColour_68 : decode cX4_operatorByColour 68 = .ok (.if_icmp .ge 7, 3) := dk_162 0 7 (dk_at dksX4_operatorByColour_3 0 rfl rfl)
theorem dX4_operatorByColour_71 : decode cX4_operatorByColour 71 = .ok (.iconst 1, 1) := dk_4 (dk_at dksX4_operatorByColour_3 3 rfl rfl)
theorem dX4_operatorByColour_72 : decode cX4_operatorByColour 72 = .ok (.goto 4, 3) := dk_167 0 4 (dk_at dksX4_operatorByColour_3 4 rfl rfl)
theorem dX4_operatorByColour_75 : decode cX4_operatorByColour 75 = .ok (.iconst 0, 1) := dk_3 (dk_at dksX4_operatorByColour_3 7 rfl rfl)
theorem dX4_operatorByColour_76 : decode cX4_operatorByColour 76 = .ok (.iadd, 1) := dk_96 (dk_at dksX4_operatorByColour_3 8 rfl rfl)
theorem dX4_operatorByColour_77 : decode cX4_operatorByColour 77 = .ok (.istore_n 3, 1) := dk_62 (dk_at dksX4_operatorByColour_3 9 rfl rfl)
theorem dX4_operatorByColour_78 : decode cX4_operatorByColour 78 = .ok (.iinc 4 1, 3) := dk_132 4 1 (dk_at dksX4_operatorByColour_3 10 rfl rfl)
theorem dX4_operatorByColour_81 : decode cX4_operatorByColour 81 = .ok (.goto (-68), 3) := dk_167 255 188 (dk_at dksX4_operatorByColour_3 13 rfl rfl)
theorem dX4_operatorByColour_84 : decode cX4_operatorByColour 84 = .ok (.iload_n 3, 1) := dk_29 (dk_at dksX4_operatorByColour_3 16 rfl rfl)
theorem dX4_operatorByColour_85 : decode cX4_operatorByColour 85 = .ok (.iload_n 1, 1) := dk_27 (dk_at dksX4_operatorByColour_3 17 rfl rfl)
theorem dX4_operatorByColour_86 : decode cX4_operatorByColour 86 = .ok (.if_icmp .eq 6, 3) := dk_159 0 6 (dk_at dksX4_operatorByColour_3 18 rfl rfl)
theorem dX4_operatorByColour_89 : decode cX4_operatorByColour 89 = .ok (.goto 13, 3) := dk_167 0 13 (dk_at dksX4_operatorByColour_3 21 rfl rfl)
theorem dX4_operatorByColour_92 : decode cX4_operatorByColour 92 = .ok (.aload_n 0, 1) := dk_42 (dk_at dksX4_operatorByColour_4 0 rfl rfl)
theorem dX4_operatorByColour_93 : decode cX4_operatorByColour 93 = .ok (.iconst 0, 1) := dk_3 (dk_at dksX4_operatorByColour_4 1 rfl rfl)
theorem dX4_operatorByColour_94 : decode cX4_operatorByColour 94 = .ok (.putfield 73, 3) := dk_181 0 73 (dk_at dksX4_operatorByColour_4 2 rfl rfl)
theorem dX4_operatorByColour_97 : decode cX4_operatorByColour 97 = .ok (.iload_n 2, 1) := dk_28 (dk_at dksX4_operatorByColour_4 5 rfl rfl)
theorem dX4_operatorByColour_98 : decode cX4_operatorByColour 98 = .ok (.invokestatic 150, 3) := dk_184 0 150 (dk_at dksX4_operatorByColour_4 6 rfl rfl)
theorem dX4_operatorByColour_101 : decode cX4_operatorByColour 101 = .ok (.ireturn, 1) := dk_172 (dk_at dksX4_operatorByColour_4 9 rfl rfl)
theorem dX4_operatorByColour_102 : decode cX4_operatorByColour 102 = .ok (.iinc 2 1, 3) := dk_132 2 1 (dk_at dksX4_operatorByColour_4 10 rfl rfl)
theorem dX4_operatorByColour_105 : decode cX4_operatorByColour 105 = .ok (.goto (-103), 3) := dk_167 255 153 (dk_at dksX4_operatorByColour_4 13 rfl rfl)
theorem dX4_operatorByColour_108 : decode cX4_operatorByColour 108 = .ok (.aload_n 0, 1) := dk_42 (dk_at dksX4_operatorByColour_4 16 rfl rfl)
theorem dX4_operatorByColour_109 : decode cX4_operatorByColour 109 = .ok (.iconst 1, 1) := dk_4 (dk_at dksX4_operatorByColour_4 17 rfl rfl)
theorem dX4_operatorByColour_110 : decode cX4_operatorByColour 110 = .ok (.putfield 73, 3) := dk_181 0 73 (dk_at dksX4_operatorByColour_4 18 rfl rfl)
theorem dX4_operatorByColour_113 : decode cX4_operatorByColour 113 = .ok (.bipush 32, 2) := dk_16 32 (dk_at dksX4_operatorByColour_4 21 rfl rfl)
theorem dX4_operatorByColour_115 : decode cX4_operatorByColour 115 = .ok (.ireturn, 1) := dk_172 (dk_at dksX4_operatorByColour_4 23 rfl rfl)
abbrev cX4_operator : ByteArray := prog_22_method_10_code
def yX4_operator : MethodName := ⟨RX4, "operator", "(I)C"⟩
def dkwX4_operator_2 : List UInt8 := [16, 43, 172, 16, 45, 172, 16, 42, 172, 16, 37, 172, 16, 94, 172, 16, 38, 172]
abbrev dktX4_operator_2 : List UInt8 := dkwX4_operator_2 ++ []
def dkwX4_operator_1 : List UInt8 := [170, 0, 0, 0, 0, 0, 50, 0, 0, 0, 0, 0, 0, 0, 4, 0, 0, 0, 35, 0, 0, 0, 38, 0, 0, 0, 41, 0, 0, 0, 44, 0, 0, 0, 47]
abbrev dktX4_operator_1 : List UInt8 := dkwX4_operator_1 ++ dktX4_operator_2
def dkwX4_operator_0 : List UInt8 := [26]
abbrev dktX4_operator_0 : List UInt8 := dkwX4_operator_0 ++ dktX4_operator_1
theorem dksX4_operator_0 : cX4_operator.data.toList.drop 0 = dktX4_operator_0 := by decide +kernel
theorem dksX4_operator_1 : cX4_operator.data.toList.drop 1 = dktX4_operator_1 := dk_seg dksX4_operator_0 1 rfl rfl
theorem dksX4_operator_2 : cX4_operator.data.toList.drop 36 = dktX4_operator_2 := dk_seg dksX4_operator_1 35 rfl rfl
theorem dX4_operator_0 : decode cX4_operator 0 = .ok (.iload_n 0, 1) := dk_26 (dk_at dksX4_operator_0 0 rfl rfl)
theorem dX4_operator_1 : decode cX4_operator 1 = .ok (.tableswitch 50 0 4 #[35, 38, 41, 44, 47], 35) := by decide +kernel
theorem dX4_operator_36 : decode cX4_operator 36 = .ok (.bipush 43, 2) := dk_16 43 (dk_at dksX4_operator_2 0 rfl rfl)
theorem dX4_operator_38 : decode cX4_operator 38 = .ok (.ireturn, 1) := dk_172 (dk_at dksX4_operator_2 2 rfl rfl)
theorem dX4_operator_39 : decode cX4_operator 39 = .ok (.bipush 45, 2) := dk_16 45 (dk_at dksX4_operator_2 3 rfl rfl)
theorem dX4_operator_41 : decode cX4_operator 41 = .ok (.ireturn, 1) := dk_172 (dk_at dksX4_operator_2 5 rfl rfl)
theorem dX4_operator_42 : decode cX4_operator 42 = .ok (.bipush 42, 2) := dk_16 42 (dk_at dksX4_operator_2 6 rfl rfl)
theorem dX4_operator_44 : decode cX4_operator 44 = .ok (.ireturn, 1) := dk_172 (dk_at dksX4_operator_2 8 rfl rfl)
theorem dX4_operator_45 : decode cX4_operator 45 = .ok (.bipush 37, 2) := dk_16 37 (dk_at dksX4_operator_2 9 rfl rfl)
theorem dX4_operator_47 : decode cX4_operator 47 = .ok (.ireturn, 1) := dk_172 (dk_at dksX4_operator_2 11 rfl rfl)
theorem dX4_operator_48 : decode cX4_operator 48 = .ok (.bipush 94, 2) := dk_16 94 (dk_at dksX4_operator_2 12 rfl rfl)
theorem dX4_operator_50 : decode cX4_operator 50 = .ok (.ireturn, 1) := dk_172 (dk_at dksX4_operator_2 14 rfl rfl)
theorem dX4_operator_51 : decode cX4_operator 51 = .ok (.bipush 38, 2) := dk_16 38 (dk_at dksX4_operator_2 15 rfl rfl)
theorem dX4_operator_53 : decode cX4_operator 53 = .ok (.ireturn, 1) := dk_172 (dk_at dksX4_operator_2 17 rfl rfl)
abbrev cX4_apply : ByteArray := prog_22_method_37_code
def yX4_apply : MethodName := ⟨RX4, "apply", "(CII)I"⟩
def dkwX4_apply_2 : List UInt8 := [184, 0, 158, 172]
abbrev dktX4_apply_2 : List UInt8 := dkwX4_apply_2 ++ []
def dkwX4_apply_1 : List UInt8 := [184, 0, 103, 153, 0, 7, 3, 167, 0, 4, 4, 182, 0, 123, 153, 0, 7, 3, 167, 0, 9, 27, 28, 29]
abbrev dktX4_apply_1 : List UInt8 := dkwX4_apply_1 ++ dktX4_apply_2
def dkwX4_apply_0 : List UInt8 := [42, 27, 184, 0, 144, 153, 0, 29, 28, 3, 17, 3, 231, 184, 0, 103, 153, 0, 18, 29, 3, 17, 3, 231]
abbrev dktX4_apply_0 : List UInt8 := dkwX4_apply_0 ++ dktX4_apply_1
theorem dksX4_apply_0 : cX4_apply.data.toList.drop 0 = dktX4_apply_0 := by decide +kernel
theorem dksX4_apply_1 : cX4_apply.data.toList.drop 24 = dktX4_apply_1 := dk_seg dksX4_apply_0 24 rfl rfl
theorem dksX4_apply_2 : cX4_apply.data.toList.drop 48 = dktX4_apply_2 := dk_seg dksX4_apply_1 24 rfl rfl
theorem dX4_apply_0 : decode cX4_apply 0 = .ok (.aload_n 0, 1) := dk_42 (dk_at dksX4_apply_0 0 rfl rfl)
theorem dX4_apply_1 : decode cX4_apply 1 = .ok (.iload_n 1, 1) := dk_27 (dk_at dksX4_apply_0 1 rfl rfl)
theorem dX4_apply_2 : decode cX4_apply 2 = .ok (.invokestatic 144, 3) := dk_184 0 144 (dk_at dksX4_apply_0 2 rfl rfl)
theorem dX4_apply_5 : decode cX4_apply 5 = .ok (.ifCond .eq 29, 3) := dk_153 0 29 (dk_at dksX4_apply_0 5 rfl rfl)
theorem dX4_apply_8 : decode cX4_apply 8 = .ok (.iload_n 2, 1) := dk_28 (dk_at dksX4_apply_0 8 rfl rfl)
theorem dX4_apply_9 : decode cX4_apply 9 = .ok (.iconst 0, 1) := dk_3 (dk_at dksX4_apply_0 9 rfl rfl)
theorem dX4_apply_10 : decode cX4_apply 10 = .ok (.sipush 999, 3) := dk_17 3 231 (dk_at dksX4_apply_0 10 rfl rfl)
theorem dX4_apply_13 : decode cX4_apply 13 = .ok (.invokestatic 103, 3) := dk_184 0 103 (dk_at dksX4_apply_0 13 rfl rfl)
theorem dX4_apply_16 : decode cX4_apply 16 = .ok (.ifCond .eq 18, 3) := dk_153 0 18 (dk_at dksX4_apply_0 16 rfl rfl)
theorem dX4_apply_19 : decode cX4_apply 19 = .ok (.iload_n 3, 1) := dk_29 (dk_at dksX4_apply_0 19 rfl rfl)
theorem dX4_apply_20 : decode cX4_apply 20 = .ok (.iconst 0, 1) := dk_3 (dk_at dksX4_apply_0 20 rfl rfl)
theorem dX4_apply_21 : decode cX4_apply 21 = .ok (.sipush 999, 3) := dk_17 3 231 (dk_at dksX4_apply_0 21 rfl rfl)
theorem dX4_apply_24 : decode cX4_apply 24 = .ok (.invokestatic 103, 3) := dk_184 0 103 (dk_at dksX4_apply_1 0 rfl rfl)
theorem dX4_apply_27 : decode cX4_apply 27 = .ok (.ifCond .eq 7, 3) := dk_153 0 7 (dk_at dksX4_apply_1 3 rfl rfl)
theorem dX4_apply_30 : decode cX4_apply 30 = .ok (.iconst 0, 1) := dk_3 (dk_at dksX4_apply_1 6 rfl rfl)
theorem dX4_apply_31 : decode cX4_apply 31 = .ok (.goto 4, 3) := dk_167 0 4 (dk_at dksX4_apply_1 7 rfl rfl)
theorem dX4_apply_34 : decode cX4_apply 34 = .ok (.iconst 1, 1) := dk_4 (dk_at dksX4_apply_1 10 rfl rfl)
theorem dX4_apply_35 : decode cX4_apply 35 = .ok (.invokevirtual 123, 3) := dk_182 0 123 (dk_at dksX4_apply_1 11 rfl rfl)
theorem dX4_apply_38 : decode cX4_apply 38 = .ok (.ifCond .eq 7, 3) := dk_153 0 7 (dk_at dksX4_apply_1 14 rfl rfl)
theorem dX4_apply_41 : decode cX4_apply 41 = .ok (.iconst 0, 1) := dk_3 (dk_at dksX4_apply_1 17 rfl rfl)
theorem dX4_apply_42 : decode cX4_apply 42 = .ok (.goto 9, 3) := dk_167 0 9 (dk_at dksX4_apply_1 18 rfl rfl)
theorem dX4_apply_45 : decode cX4_apply 45 = .ok (.iload_n 1, 1) := dk_27 (dk_at dksX4_apply_1 21 rfl rfl)
theorem dX4_apply_46 : decode cX4_apply 46 = .ok (.iload_n 2, 1) := dk_28 (dk_at dksX4_apply_1 22 rfl rfl)
theorem dX4_apply_47 : decode cX4_apply 47 = .ok (.iload_n 3, 1) := dk_29 (dk_at dksX4_apply_1 23 rfl rfl)
theorem dX4_apply_48 : decode cX4_apply 48 = .ok (.invokestatic 158, 3) := dk_184 0 158 (dk_at dksX4_apply_2 0 rfl rfl)
theorem dX4_apply_51 : decode cX4_apply 51 = .ok (.ireturn, 1) := dk_172 (dk_at dksX4_apply_2 3 rfl rfl)
abbrev cX4_makes : ByteArray := prog_22_method_36_code
def yX4_makes : MethodName := ⟨RX4, "makes", "(III)I"⟩
def dkwX4_makes_4 : List UInt8 := [104, 28, 96, 17, 3, 232, 112, 172]
abbrev dktX4_makes_4 : List UInt8 := dkwX4_makes_4 ++ []
def dkwX4_makes_3 : List UInt8 := [17, 3, 232, 112, 172, 27, 28, 184, 0, 154, 172, 27, 28, 96, 27, 28, 184, 0, 154, 100, 172, 16, 10, 27]
abbrev dktX4_makes_3 : List UInt8 := dkwX4_makes_3 ++ dktX4_makes_4
def dkwX4_makes_2 : List UInt8 := [27, 28, 96, 17, 3, 232, 112, 172, 27, 28, 100, 17, 3, 232, 96, 17, 3, 232, 112, 172, 27, 28, 104]
abbrev dktX4_makes_2 : List UInt8 := dkwX4_makes_2 ++ dktX4_makes_3
def dkwX4_makes_1 : List UInt8 := [171, 0, 0, 0, 0, 0, 95, 0, 0, 0, 5, 0, 0, 0, 100, 0, 0, 0, 59, 0, 0, 0, 103, 0, 0, 0, 79, 0, 0, 0, 108, 0, 0, 0, 85, 0, 0, 0, 112, 0, 0, 0, 71, 0, 0, 0, 115, 0, 0, 0, 51]
abbrev dktX4_makes_1 : List UInt8 := dkwX4_makes_1 ++ dktX4_makes_2
def dkwX4_makes_0 : List UInt8 := [26]
abbrev dktX4_makes_0 : List UInt8 := dkwX4_makes_0 ++ dktX4_makes_1
theorem dksX4_makes_0 : cX4_makes.data.toList.drop 0 = dktX4_makes_0 := by decide +kernel
theorem dksX4_makes_1 : cX4_makes.data.toList.drop 1 = dktX4_makes_1 := dk_seg dksX4_makes_0 1 rfl rfl
theorem dksX4_makes_2 : cX4_makes.data.toList.drop 52 = dktX4_makes_2 := dk_seg dksX4_makes_1 51 rfl rfl
theorem dksX4_makes_3 : cX4_makes.data.toList.drop 75 = dktX4_makes_3 := dk_seg dksX4_makes_2 23 rfl rfl
theorem dksX4_makes_4 : cX4_makes.data.toList.drop 99 = dktX4_makes_4 := dk_seg dksX4_makes_3 24 rfl rfl
theorem dX4_makes_0 : decode cX4_makes 0 = .ok (.iload_n 0, 1) := dk_26 (dk_at dksX4_makes_0 0 rfl rfl)
theorem dX4_makes_1 : decode cX4_makes 1 = .ok (.lookupswitch 95 #[(100, 59), (103, 79), (108, 85), (112, 71), (115, 51)], 51) := by decide +kernel
theorem dX4_makes_52 : decode cX4_makes 52 = .ok (.iload_n 1, 1) := dk_27 (dk_at dksX4_makes_2 0 rfl rfl)
theorem dX4_makes_53 : decode cX4_makes 53 = .ok (.iload_n 2, 1) := dk_28 (dk_at dksX4_makes_2 1 rfl rfl)
theorem dX4_makes_54 : decode cX4_makes 54 = .ok (.iadd, 1) := dk_96 (dk_at dksX4_makes_2 2 rfl rfl)
theorem dX4_makes_55 : decode cX4_makes 55 = .ok (.sipush 1000, 3) := dk_17 3 232 (dk_at dksX4_makes_2 3 rfl rfl)
theorem dX4_makes_58 : decode cX4_makes 58 = .ok (.irem, 1) := dk_112 (dk_at dksX4_makes_2 6 rfl rfl)
theorem dX4_makes_59 : decode cX4_makes 59 = .ok (.ireturn, 1) := dk_172 (dk_at dksX4_makes_2 7 rfl rfl)
theorem dX4_makes_60 : decode cX4_makes 60 = .ok (.iload_n 1, 1) := dk_27 (dk_at dksX4_makes_2 8 rfl rfl)
theorem dX4_makes_61 : decode cX4_makes 61 = .ok (.iload_n 2, 1) := dk_28 (dk_at dksX4_makes_2 9 rfl rfl)
theorem dX4_makes_62 : decode cX4_makes 62 = .ok (.isub, 1) := dk_100 (dk_at dksX4_makes_2 10 rfl rfl)
theorem dX4_makes_63 : decode cX4_makes 63 = .ok (.sipush 1000, 3) := dk_17 3 232 (dk_at dksX4_makes_2 11 rfl rfl)
theorem dX4_makes_66 : decode cX4_makes 66 = .ok (.iadd, 1) := dk_96 (dk_at dksX4_makes_2 14 rfl rfl)
theorem dX4_makes_67 : decode cX4_makes 67 = .ok (.sipush 1000, 3) := dk_17 3 232 (dk_at dksX4_makes_2 15 rfl rfl)
theorem dX4_makes_70 : decode cX4_makes 70 = .ok (.irem, 1) := dk_112 (dk_at dksX4_makes_2 18 rfl rfl)
theorem dX4_makes_71 : decode cX4_makes 71 = .ok (.ireturn, 1) := dk_172 (dk_at dksX4_makes_2 19 rfl rfl)
theorem dX4_makes_72 : decode cX4_makes 72 = .ok (.iload_n 1, 1) := dk_27 (dk_at dksX4_makes_2 20 rfl rfl)
theorem dX4_makes_73 : decode cX4_makes 73 = .ok (.iload_n 2, 1) := dk_28 (dk_at dksX4_makes_2 21 rfl rfl)
theorem dX4_makes_74 : decode cX4_makes 74 = .ok (.imul, 1) := dk_104 (dk_at dksX4_makes_2 22 rfl rfl)
theorem dX4_makes_75 : decode cX4_makes 75 = .ok (.sipush 1000, 3) := dk_17 3 232 (dk_at dksX4_makes_3 0 rfl rfl)
theorem dX4_makes_78 : decode cX4_makes 78 = .ok (.irem, 1) := dk_112 (dk_at dksX4_makes_3 3 rfl rfl)
theorem dX4_makes_79 : decode cX4_makes 79 = .ok (.ireturn, 1) := dk_172 (dk_at dksX4_makes_3 4 rfl rfl)
theorem dX4_makes_80 : decode cX4_makes 80 = .ok (.iload_n 1, 1) := dk_27 (dk_at dksX4_makes_3 5 rfl rfl)
theorem dX4_makes_81 : decode cX4_makes 81 = .ok (.iload_n 2, 1) := dk_28 (dk_at dksX4_makes_3 6 rfl rfl)
theorem dX4_makes_82 : decode cX4_makes 82 = .ok (.invokestatic 154, 3) := dk_184 0 154 (dk_at dksX4_makes_3 7 rfl rfl)
theorem dX4_makes_85 : decode cX4_makes 85 = .ok (.ireturn, 1) := dk_172 (dk_at dksX4_makes_3 10 rfl rfl)
theorem dX4_makes_86 : decode cX4_makes 86 = .ok (.iload_n 1, 1) := dk_27 (dk_at dksX4_makes_3 11 rfl rfl)
theorem dX4_makes_87 : decode cX4_makes 87 = .ok (.iload_n 2, 1) := dk_28 (dk_at dksX4_makes_3 12 rfl rfl)
theorem dX4_makes_88 : decode cX4_makes 88 = .ok (.iadd, 1) := dk_96 (dk_at dksX4_makes_3 13 rfl rfl)
theorem dX4_makes_89 : decode cX4_makes 89 = .ok (.iload_n 1, 1) := dk_27 (dk_at dksX4_makes_3 14 rfl rfl)
theorem dX4_makes_90 : decode cX4_makes 90 = .ok (.iload_n 2, 1) := dk_28 (dk_at dksX4_makes_3 15 rfl rfl)
theorem dX4_makes_91 : decode cX4_makes 91 = .ok (.invokestatic 154, 3) := dk_184 0 154 (dk_at dksX4_makes_3 16 rfl rfl)
theorem dX4_makes_94 : decode cX4_makes 94 = .ok (.isub, 1) := dk_100 (dk_at dksX4_makes_3 19 rfl rfl)
theorem dX4_makes_95 : decode cX4_makes 95 = .ok (.ireturn, 1) := dk_172 (dk_at dksX4_makes_3 20 rfl rfl)
theorem dX4_makes_96 : decode cX4_makes 96 = .ok (.bipush 10, 2) := dk_16 10 (dk_at dksX4_makes_3 21 rfl rfl)
theorem dX4_makes_98 : decode cX4_makes 98 = .ok (.iload_n 1, 1) := dk_27 (dk_at dksX4_makes_3 23 rfl rfl)
theorem dX4_makes_99 : decode cX4_makes 99 = .ok (.imul, 1) := dk_104 (dk_at dksX4_makes_4 0 rfl rfl)
theorem dX4_makes_100 : decode cX4_makes 100 = .ok (.iload_n 2, 1) := dk_28 (dk_at dksX4_makes_4 1 rfl rfl)
theorem dX4_makes_101 : decode cX4_makes 101 = .ok (.iadd, 1) := dk_96 (dk_at dksX4_makes_4 2 rfl rfl)
theorem dX4_makes_102 : decode cX4_makes 102 = .ok (.sipush 1000, 3) := dk_17 3 232 (dk_at dksX4_makes_4 3 rfl rfl)
theorem dX4_makes_105 : decode cX4_makes 105 = .ok (.irem, 1) := dk_112 (dk_at dksX4_makes_4 6 rfl rfl)
theorem dX4_makes_106 : decode cX4_makes 106 = .ok (.ireturn, 1) := dk_172 (dk_at dksX4_makes_4 7 rfl rfl)
abbrev cX4_most : ByteArray := prog_22_method_6_code
def yX4_most : MethodName := ⟨RX4, "most", "(II)I"⟩
def dkwX4_most_0 : List UInt8 := [26, 27, 164, 0, 7, 26, 167, 0, 4, 27, 172]
abbrev dktX4_most_0 : List UInt8 := dkwX4_most_0 ++ []
theorem dksX4_most_0 : cX4_most.data.toList.drop 0 = dktX4_most_0 := by decide +kernel
theorem dX4_most_0 : decode cX4_most 0 = .ok (.iload_n 0, 1) := dk_26 (dk_at dksX4_most_0 0 rfl rfl)
theorem dX4_most_1 : decode cX4_most 1 = .ok (.iload_n 1, 1) := dk_27 (dk_at dksX4_most_0 1 rfl rfl)
theorem dX4_most_2 : decode cX4_most 2 = .ok (.if_icmp .le 7, 3) := dk_164 0 7 (dk_at dksX4_most_0 2 rfl rfl)
theorem dX4_most_5 : decode cX4_most 5 = .ok (.iload_n 0, 1) := dk_26 (dk_at dksX4_most_0 5 rfl rfl)
theorem dX4_most_6 : decode cX4_most 6 = .ok (.goto 4, 3) := dk_167 0 4 (dk_at dksX4_most_0 6 rfl rfl)
theorem dX4_most_9 : decode cX4_most 9 = .ok (.iload_n 1, 1) := dk_27 (dk_at dksX4_most_0 9 rfl rfl)
theorem dX4_most_10 : decode cX4_most 10 = .ok (.ireturn, 1) := dk_172 (dk_at dksX4_most_0 10 rfl rfl)
abbrev cX4_value : ByteArray := prog_22_method_47_code
def yX4_value : MethodName := ⟨RX4, "value", "()I"⟩
theorem dX4_value_0 : decode cX4_value 0 = .ok (.aload_n 0, 1) := by decide +kernel
theorem dX4_value_1 : decode cX4_value 1 = .ok (.invokevirtual 189, 3) := by decide +kernel
theorem dX4_value_4 : decode cX4_value 4 = .ok (.ireturn, 1) := by decide +kernel
abbrev cX4_worthAll : ByteArray := prog_22_method_46_code
def yX4_worthAll : MethodName := ⟨RX4, "worthAll", "()I"⟩
def dkwX4_worthAll_0 : List UInt8 := [42, 182, 0, 185, 153, 0, 15, 42, 3, 42, 180, 0, 161, 182, 0, 176, 167, 0, 4, 3, 172]
abbrev dktX4_worthAll_0 : List UInt8 := dkwX4_worthAll_0 ++ []
theorem dksX4_worthAll_0 : cX4_worthAll.data.toList.drop 0 = dktX4_worthAll_0 := by decide +kernel
theorem dX4_worthAll_0 : decode cX4_worthAll 0 = .ok (.aload_n 0, 1) := dk_42 (dk_at dksX4_worthAll_0 0 rfl rfl)
theorem dX4_worthAll_1 : decode cX4_worthAll 1 = .ok (.invokevirtual 185, 3) := dk_182 0 185 (dk_at dksX4_worthAll_0 1 rfl rfl)
theorem dX4_worthAll_4 : decode cX4_worthAll 4 = .ok (.ifCond .eq 15, 3) := dk_153 0 15 (dk_at dksX4_worthAll_0 4 rfl rfl)
theorem dX4_worthAll_7 : decode cX4_worthAll 7 = .ok (.aload_n 0, 1) := dk_42 (dk_at dksX4_worthAll_0 7 rfl rfl)
theorem dX4_worthAll_8 : decode cX4_worthAll 8 = .ok (.iconst 0, 1) := dk_3 (dk_at dksX4_worthAll_0 8 rfl rfl)
theorem dX4_worthAll_9 : decode cX4_worthAll 9 = .ok (.aload_n 0, 1) := dk_42 (dk_at dksX4_worthAll_0 9 rfl rfl)
theorem dX4_worthAll_10 : decode cX4_worthAll 10 = .ok (.getfield 161, 3) := dk_180 0 161 (dk_at dksX4_worthAll_0 10 rfl rfl)
theorem dX4_worthAll_13 : decode cX4_worthAll 13 = .ok (.invokevirtual 176, 3) := dk_182 0 176 (dk_at dksX4_worthAll_0 13 rfl rfl)
theorem dX4_worthAll_16 : decode cX4_worthAll 16 = .ok (.goto 4, 3) := dk_167 0 4 (dk_at dksX4_worthAll_0 16 rfl rfl)
theorem dX4_worthAll_19 : decode cX4_worthAll 19 = .ok (.iconst 0, 1) := dk_3 (dk_at dksX4_worthAll_0 19 rfl rfl)
theorem dX4_worthAll_20 : decode cX4_worthAll 20 = .ok (.ireturn, 1) := dk_172 (dk_at dksX4_worthAll_0 20 rfl rfl)
abbrev cX4_isDraft : ByteArray := prog_22_method_38_code
def yX4_isDraft : MethodName := ⟨RX4, "isDraft", "()Z"⟩
def dkwX4_isDraft_2 : List UInt8 := [28, 42, 28, 182, 0, 117, 79, 42, 180, 0, 36, 28, 28, 79, 132, 2, 1, 167, 255, 227, 4, 172]
abbrev dktX4_isDraft_2 : List UInt8 := dkwX4_isDraft_2 ++ []
def dkwX4_isDraft_1 : List UInt8 := [42, 42, 180, 0, 7, 3, 46, 181, 0, 161, 3, 61, 28, 42, 180, 0, 161, 162, 0, 27, 42, 180, 0, 33]
abbrev dktX4_isDraft_1 : List UInt8 := dkwX4_isDraft_1 ++ dktX4_isDraft_2
def dkwX4_isDraft_0 : List UInt8 := [42, 182, 0, 141, 60, 27, 155, 0, 13, 42, 4, 5, 27, 182, 0, 126, 87, 3, 172, 42, 3, 181, 0, 73]
abbrev dktX4_isDraft_0 : List UInt8 := dkwX4_isDraft_0 ++ dktX4_isDraft_1
theorem dksX4_isDraft_0 : cX4_isDraft.data.toList.drop 0 = dktX4_isDraft_0 := by decide +kernel
theorem dksX4_isDraft_1 : cX4_isDraft.data.toList.drop 24 = dktX4_isDraft_1 := dk_seg dksX4_isDraft_0 24 rfl rfl
theorem dksX4_isDraft_2 : cX4_isDraft.data.toList.drop 48 = dktX4_isDraft_2 := dk_seg dksX4_isDraft_1 24 rfl rfl
theorem dX4_isDraft_0 : decode cX4_isDraft 0 = .ok (.aload_n 0, 1) := dk_42 (dk_at dksX4_isDraft_0 0 rfl rfl)
theorem dX4_isDraft_1 : decode cX4_isDraft 1 = .ok (.invokevirtual 141, 3) := dk_182 0 141 (dk_at dksX4_isDraft_0 1 rfl rfl)
theorem dX4_isDraft_4 : decode cX4_isDraft 4 = .ok (.istore_n 1, 1) := dk_60 (dk_at dksX4_isDraft_0 4 rfl rfl)
theorem dX4_isDraft_5 : decode cX4_isDraft 5 = .ok (.iload_n 1, 1) := dk_27 (dk_at dksX4_isDraft_0 5 rfl rfl)
theorem dX4_isDraft_6 : decode cX4_isDraft 6 = .ok (.ifCond .lt 13, 3) := dk_155 0 13 (dk_at dksX4_isDraft_0 6 rfl rfl)
theorem dX4_isDraft_9 : decode cX4_isDraft 9 = .ok (.aload_n 0, 1) := dk_42 (dk_at dksX4_isDraft_0 9 rfl rfl)
theorem dX4_isDraft_10 : decode cX4_isDraft 10 = .ok (.iconst 1, 1) := dk_4 (dk_at dksX4_isDraft_0 10 rfl rfl)
theorem dX4_isDraft_11 : decode cX4_isDraft 11 = .ok (.iconst 2, 1) := dk_5 (dk_at dksX4_isDraft_0 11 rfl rfl)
theorem dX4_isDraft_12 : decode cX4_isDraft 12 = .ok (.iload_n 1, 1) := dk_27 (dk_at dksX4_isDraft_0 12 rfl rfl)
theorem dX4_isDraft_13 : decode cX4_isDraft 13 = .ok (.invokevirtual 126, 3) := dk_182 0 126 (dk_at dksX4_isDraft_0 13 rfl rfl)
theorem dX4_isDraft_16 : decode cX4_isDraft 16 = .ok (.pop, 1) := dk_87 (dk_at dksX4_isDraft_0 16 rfl rfl)
theorem dX4_isDraft_17 : decode cX4_isDraft 17 = .ok (.iconst 0, 1) := dk_3 (dk_at dksX4_isDraft_0 17 rfl rfl)
theorem dX4_isDraft_18 : decode cX4_isDraft 18 = .ok (.ireturn, 1) := dk_172 (dk_at dksX4_isDraft_0 18 rfl rfl)
theorem dX4_isDraft_19 : decode cX4_isDraft 19 = .ok (.aload_n 0, 1) := dk_42 (dk_at dksX4_isDraft_0 19 rfl rfl)
theorem dX4_isDraft_20 : decode cX4_isDraft 20 = .ok (.iconst 0, 1) := dk_3 (dk_at dksX4_isDraft_0 20 rfl rfl)
theorem dX4_isDraft_21 : decode cX4_isDraft 21 = .ok (.putfield 73, 3) := dk_181 0 73 (dk_at dksX4_isDraft_0 21 rfl rfl)
theorem dX4_isDraft_24 : decode cX4_isDraft 24 = .ok (.aload_n 0, 1) := dk_42 (dk_at dksX4_isDraft_1 0 rfl rfl)
theorem dX4_isDraft_25 : decode cX4_isDraft 25 = .ok (.aload_n 0, 1) := dk_42 (dk_at dksX4_isDraft_1 1 rfl rfl)
theorem dX4_isDraft_26 : decode cX4_isDraft 26 = .ok (.getfield 7, 3) := dk_180 0 7 (dk_at dksX4_isDraft_1 2 rfl rfl)
theorem dX4_isDraft_29 : decode cX4_isDraft 29 = .ok (.iconst 0, 1) := dk_3 (dk_at dksX4_isDraft_1 5 rfl rfl)
theorem dX4_isDraft_30 : decode cX4_isDraft 30 = .ok (.iaload, 1) := dk_46 (dk_at dksX4_isDraft_1 6 rfl rfl)
theorem dX4_isDraft_31 : decode cX4_isDraft 31 = .ok (.putfield 161, 3) := dk_181 0 161 (dk_at dksX4_isDraft_1 7 rfl rfl)
theorem dX4_isDraft_34 : decode cX4_isDraft 34 = .ok (.iconst 0, 1) := dk_3 (dk_at dksX4_isDraft_1 10 rfl rfl)
theorem dX4_isDraft_35 : decode cX4_isDraft 35 = .ok (.istore_n 2, 1) := dk_61 (dk_at dksX4_isDraft_1 11 rfl rfl)
theorem dX4_isDraft_36 : decode cX4_isDraft 36 = .ok (.iload_n 2, 1) := dk_28 (dk_at dksX4_isDraft_1 12 rfl rfl)
theorem dX4_isDraft_37 : decode cX4_isDraft 37 = .ok (.aload_n 0, 1) := dk_42 (dk_at dksX4_isDraft_1 13 rfl rfl)
theorem dX4_isDraft_38 : decode cX4_isDraft 38 = .ok (.getfield 161, 3) := dk_180 0 161 (dk_at dksX4_isDraft_1 14 rfl rfl)
theorem dX4_isDraft_41 : decode cX4_isDraft 41 = .ok (.if_icmp .ge 27, 3) := dk_162 0 27 (dk_at dksX4_isDraft_1 17 rfl rfl)
theorem dX4_isDraft_44 : decode cX4_isDraft 44 = .ok (.aload_n 0, 1) := dk_42 (dk_at dksX4_isDraft_1 20 rfl rfl)
theorem dX4_isDraft_45 : decode cX4_isDraft 45 = .ok (.getfield 33, 3) := dk_180 0 33 (dk_at dksX4_isDraft_1 21 rfl rfl)
theorem dX4_isDraft_48 : decode cX4_isDraft 48 = .ok (.iload_n 2, 1) := dk_28 (dk_at dksX4_isDraft_2 0 rfl rfl)
theorem dX4_isDraft_49 : decode cX4_isDraft 49 = .ok (.aload_n 0, 1) := dk_42 (dk_at dksX4_isDraft_2 1 rfl rfl)
theorem dX4_isDraft_50 : decode cX4_isDraft 50 = .ok (.iload_n 2, 1) := dk_28 (dk_at dksX4_isDraft_2 2 rfl rfl)
theorem dX4_isDraft_51 : decode cX4_isDraft 51 = .ok (.invokevirtual 117, 3) := dk_182 0 117 (dk_at dksX4_isDraft_2 3 rfl rfl)
theorem dX4_isDraft_54 : decode cX4_isDraft 54 = .ok (.iastore, 1) := dk_79 (dk_at dksX4_isDraft_2 6 rfl rfl)
theorem dX4_isDraft_55 : decode cX4_isDraft 55 = .ok (.aload_n 0, 1) := dk_42 (dk_at dksX4_isDraft_2 7 rfl rfl)
theorem dX4_isDraft_56 : decode cX4_isDraft 56 = .ok (.getfield 36, 3) := dk_180 0 36 (dk_at dksX4_isDraft_2 8 rfl rfl)
theorem dX4_isDraft_59 : decode cX4_isDraft 59 = .ok (.iload_n 2, 1) := dk_28 (dk_at dksX4_isDraft_2 11 rfl rfl)
theorem dX4_isDraft_60 : decode cX4_isDraft 60 = .ok (.iload_n 2, 1) := dk_28 (dk_at dksX4_isDraft_2 12 rfl rfl)
theorem dX4_isDraft_61 : decode cX4_isDraft 61 = .ok (.iastore, 1) := dk_79 (dk_at dksX4_isDraft_2 13 rfl rfl)
theorem dX4_isDraft_62 : decode cX4_isDraft 62 = .ok (.iinc 2 1, 3) := dk_132 2 1 (dk_at dksX4_isDraft_2 14 rfl rfl)
theorem dX4_isDraft_65 : decode cX4_isDraft 65 = .ok (.goto (-29), 3) := dk_167 255 227 (dk_at dksX4_isDraft_2 17 rfl rfl)
theorem dX4_isDraft_68 : decode cX4_isDraft 68 = .ok (.iconst 1, 1) := dk_4 (dk_at dksX4_isDraft_2 20 rfl rfl)
theorem dX4_isDraft_69 : decode cX4_isDraft 69 = .ok (.ireturn, 1) := dk_172 (dk_at dksX4_isDraft_2 21 rfl rfl)
abbrev cX4_worth : ByteArray := prog_22_method_44_code
def yX4_worth : MethodName := ⟨RX4, "worth", "(II)I"⟩
def dkwX4_worth_4 : List UInt8 := [182, 0, 176, 167, 0, 13, 42, 42, 180, 0, 33, 27, 46, 182, 0, 179, 172]
abbrev dktX4_worth_4 : List UInt8 := dkwX4_worth_4 ++ []
def dkwX4_worth_3 : List UInt8 := [182, 0, 176, 100, 172, 42, 180, 0, 33, 27, 46, 16, 40, 160, 0, 16, 42, 27, 4, 96, 28, 4, 100]
abbrev dktX4_worth_3 : List UInt8 := dkwX4_worth_3 ++ dktX4_worth_4
def dkwX4_worth_2 : List UInt8 := [184, 0, 158, 172, 42, 180, 0, 33, 27, 46, 16, 126, 160, 0, 16, 17, 3, 231, 42, 27, 4, 96, 28]
abbrev dktX4_worth_2 : List UInt8 := dkwX4_worth_2 ++ dktX4_worth_3
def dkwX4_worth_1 : List UInt8 := [16, 32, 42, 180, 0, 33, 29, 46, 184, 0, 99, 96, 46, 21, 4, 42, 29, 4, 96, 28, 182, 0, 176]
abbrev dktX4_worth_1 : List UInt8 := dkwX4_worth_1 ++ dktX4_worth_2
def dkwX4_worth_0 : List UInt8 := [42, 27, 28, 182, 0, 173, 62, 29, 155, 0, 42, 42, 27, 29, 182, 0, 176, 54, 4, 42, 180, 0, 7]
abbrev dktX4_worth_0 : List UInt8 := dkwX4_worth_0 ++ dktX4_worth_1
theorem dksX4_worth_0 : cX4_worth.data.toList.drop 0 = dktX4_worth_0 := by decide +kernel
theorem dksX4_worth_1 : cX4_worth.data.toList.drop 23 = dktX4_worth_1 := dk_seg dksX4_worth_0 23 rfl rfl
theorem dksX4_worth_2 : cX4_worth.data.toList.drop 46 = dktX4_worth_2 := dk_seg dksX4_worth_1 23 rfl rfl
theorem dksX4_worth_3 : cX4_worth.data.toList.drop 69 = dktX4_worth_3 := dk_seg dksX4_worth_2 23 rfl rfl
theorem dksX4_worth_4 : cX4_worth.data.toList.drop 92 = dktX4_worth_4 := dk_seg dksX4_worth_3 23 rfl rfl
theorem dX4_worth_0 : decode cX4_worth 0 = .ok (.aload_n 0, 1) := dk_42 (dk_at dksX4_worth_0 0 rfl rfl)
theorem dX4_worth_1 : decode cX4_worth 1 = .ok (.iload_n 1, 1) := dk_27 (dk_at dksX4_worth_0 1 rfl rfl)
theorem dX4_worth_2 : decode cX4_worth 2 = .ok (.iload_n 2, 1) := dk_28 (dk_at dksX4_worth_0 2 rfl rfl)
theorem dX4_worth_3 : decode cX4_worth 3 = .ok (.invokevirtual 173, 3) := dk_182 0 173 (dk_at dksX4_worth_0 3 rfl rfl)
theorem dX4_worth_6 : decode cX4_worth 6 = .ok (.istore_n 3, 1) := dk_62 (dk_at dksX4_worth_0 6 rfl rfl)
theorem dX4_worth_7 : decode cX4_worth 7 = .ok (.iload_n 3, 1) := dk_29 (dk_at dksX4_worth_0 7 rfl rfl)
theorem dX4_worth_8 : decode cX4_worth 8 = .ok (.ifCond .lt 42, 3) := dk_155 0 42 (dk_at dksX4_worth_0 8 rfl rfl)
theorem dX4_worth_11 : decode cX4_worth 11 = .ok (.aload_n 0, 1) := dk_42 (dk_at dksX4_worth_0 11 rfl rfl)
theorem dX4_worth_12 : decode cX4_worth 12 = .ok (.iload_n 1, 1) := dk_27 (dk_at dksX4_worth_0 12 rfl rfl)
theorem dX4_worth_13 : decode cX4_worth 13 = .ok (.iload_n 3, 1) := dk_29 (dk_at dksX4_worth_0 13 rfl rfl)
theorem dX4_worth_14 : decode cX4_worth 14 = .ok (.invokevirtual 176, 3) := dk_182 0 176 (dk_at dksX4_worth_0 14 rfl rfl)
theorem dX4_worth_17 : decode cX4_worth 17 = .ok (.istore 4, 2) := dk_54 4 (dk_at dksX4_worth_0 17 rfl rfl)
theorem dX4_worth_19 : decode cX4_worth 19 = .ok (.aload_n 0, 1) := dk_42 (dk_at dksX4_worth_0 19 rfl rfl)
theorem dX4_worth_20 : decode cX4_worth 20 = .ok (.getfield 7, 3) := dk_180 0 7 (dk_at dksX4_worth_0 20 rfl rfl)
theorem dX4_worth_23 : decode cX4_worth 23 = .ok (.bipush 32, 2) := dk_16 32 (dk_at dksX4_worth_1 0 rfl rfl)
theorem dX4_worth_25 : decode cX4_worth 25 = .ok (.aload_n 0, 1) := dk_42 (dk_at dksX4_worth_1 2 rfl rfl)
theorem dX4_worth_26 : decode cX4_worth 26 = .ok (.getfield 33, 3) := dk_180 0 33 (dk_at dksX4_worth_1 3 rfl rfl)
theorem dX4_worth_29 : decode cX4_worth 29 = .ok (.iload_n 3, 1) := dk_29 (dk_at dksX4_worth_1 6 rfl rfl)
theorem dX4_worth_30 : decode cX4_worth 30 = .ok (.iaload, 1) := dk_46 (dk_at dksX4_worth_1 7 rfl rfl)
theorem dX4_worth_31 : decode cX4_worth 31 = .ok (.invokestatic 99, 3) := dk_184 0 99 (dk_at dksX4_worth_1 8 rfl rfl)
theorem dX4_worth_34 : decode cX4_worth 34 = .ok (.iadd, 1) := dk_96 (dk_at dksX4_worth_1 11 rfl rfl)
theorem dX4_worth_35 : decode cX4_worth 35 = .ok (.iaload, 1) := dk_46 (dk_at dksX4_worth_1 12 rfl rfl)
theorem dX4_worth_36 : decode cX4_worth 36 = .ok (.iload 4, 2) := dk_21 4 (dk_at dksX4_worth_1 13 rfl rfl)
theorem dX4_worth_38 : decode cX4_worth 38 = .ok (.aload_n 0, 1) := dk_42 (dk_at dksX4_worth_1 15 rfl rfl)
theorem dX4_worth_39 : decode cX4_worth 39 = .ok (.iload_n 3, 1) := dk_29 (dk_at dksX4_worth_1 16 rfl rfl)
theorem dX4_worth_40 : decode cX4_worth 40 = .ok (.iconst 1, 1) := dk_4 (dk_at dksX4_worth_1 17 rfl rfl)
theorem dX4_worth_41 : decode cX4_worth 41 = .ok (.iadd, 1) := dk_96 (dk_at dksX4_worth_1 18 rfl rfl)
theorem dX4_worth_42 : decode cX4_worth 42 = .ok (.iload_n 2, 1) := dk_28 (dk_at dksX4_worth_1 19 rfl rfl)
theorem dX4_worth_43 : decode cX4_worth 43 = .ok (.invokevirtual 176, 3) := dk_182 0 176 (dk_at dksX4_worth_1 20 rfl rfl)
theorem dX4_worth_46 : decode cX4_worth 46 = .ok (.invokestatic 158, 3) := dk_184 0 158 (dk_at dksX4_worth_2 0 rfl rfl)
theorem dX4_worth_49 : decode cX4_worth 49 = .ok (.ireturn, 1) := dk_172 (dk_at dksX4_worth_2 3 rfl rfl)
theorem dX4_worth_50 : decode cX4_worth 50 = .ok (.aload_n 0, 1) := dk_42 (dk_at dksX4_worth_2 4 rfl rfl)
theorem dX4_worth_51 : decode cX4_worth 51 = .ok (.getfield 33, 3) := dk_180 0 33 (dk_at dksX4_worth_2 5 rfl rfl)
theorem dX4_worth_54 : decode cX4_worth 54 = .ok (.iload_n 1, 1) := dk_27 (dk_at dksX4_worth_2 8 rfl rfl)
theorem dX4_worth_55 : decode cX4_worth 55 = .ok (.iaload, 1) := dk_46 (dk_at dksX4_worth_2 9 rfl rfl)
theorem dX4_worth_56 : decode cX4_worth 56 = .ok (.bipush 126, 2) := dk_16 126 (dk_at dksX4_worth_2 10 rfl rfl)
theorem dX4_worth_58 : decode cX4_worth 58 = .ok (.if_icmp .ne 16, 3) := dk_160 0 16 (dk_at dksX4_worth_2 12 rfl rfl)
theorem dX4_worth_61 : decode cX4_worth 61 = .ok (.sipush 999, 3) := dk_17 3 231 (dk_at dksX4_worth_2 15 rfl rfl)
theorem dX4_worth_64 : decode cX4_worth 64 = .ok (.aload_n 0, 1) := dk_42 (dk_at dksX4_worth_2 18 rfl rfl)
theorem dX4_worth_65 : decode cX4_worth 65 = .ok (.iload_n 1, 1) := dk_27 (dk_at dksX4_worth_2 19 rfl rfl)
theorem dX4_worth_66 : decode cX4_worth 66 = .ok (.iconst 1, 1) := dk_4 (dk_at dksX4_worth_2 20 rfl rfl)
theorem dX4_worth_67 : decode cX4_worth 67 = .ok (.iadd, 1) := dk_96 (dk_at dksX4_worth_2 21 rfl rfl)
theorem dX4_worth_68 : decode cX4_worth 68 = .ok (.iload_n 2, 1) := dk_28 (dk_at dksX4_worth_2 22 rfl rfl)
theorem dX4_worth_69 : decode cX4_worth 69 = .ok (.invokevirtual 176, 3) := dk_182 0 176 (dk_at dksX4_worth_3 0 rfl rfl)
theorem dX4_worth_72 : decode cX4_worth 72 = .ok (.isub, 1) := dk_100 (dk_at dksX4_worth_3 3 rfl rfl)
theorem dX4_worth_73 : decode cX4_worth 73 = .ok (.ireturn, 1) := dk_172 (dk_at dksX4_worth_3 4 rfl rfl)
theorem dX4_worth_74 : decode cX4_worth 74 = .ok (.aload_n 0, 1) := dk_42 (dk_at dksX4_worth_3 5 rfl rfl)
theorem dX4_worth_75 : decode cX4_worth 75 = .ok (.getfield 33, 3) := dk_180 0 33 (dk_at dksX4_worth_3 6 rfl rfl)
theorem dX4_worth_78 : decode cX4_worth 78 = .ok (.iload_n 1, 1) := dk_27 (dk_at dksX4_worth_3 9 rfl rfl)
theorem dX4_worth_79 : decode cX4_worth 79 = .ok (.iaload, 1) := dk_46 (dk_at dksX4_worth_3 10 rfl rfl)
theorem dX4_worth_80 : decode cX4_worth 80 = .ok (.bipush 40, 2) := dk_16 40 (dk_at dksX4_worth_3 11 rfl rfl)
theorem dX4_worth_82 : decode cX4_worth 82 = .ok (.if_icmp .ne 16, 3) := dk_160 0 16 (dk_at dksX4_worth_3 13 rfl rfl)
theorem dX4_worth_85 : decode cX4_worth 85 = .ok (.aload_n 0, 1) := dk_42 (dk_at dksX4_worth_3 16 rfl rfl)
theorem dX4_worth_86 : decode cX4_worth 86 = .ok (.iload_n 1, 1) := dk_27 (dk_at dksX4_worth_3 17 rfl rfl)
theorem dX4_worth_87 : decode cX4_worth 87 = .ok (.iconst 1, 1) := dk_4 (dk_at dksX4_worth_3 18 rfl rfl)
theorem dX4_worth_88 : decode cX4_worth 88 = .ok (.iadd, 1) := dk_96 (dk_at dksX4_worth_3 19 rfl rfl)
theorem dX4_worth_89 : decode cX4_worth 89 = .ok (.iload_n 2, 1) := dk_28 (dk_at dksX4_worth_3 20 rfl rfl)
theorem dX4_worth_90 : decode cX4_worth 90 = .ok (.iconst 1, 1) := dk_4 (dk_at dksX4_worth_3 21 rfl rfl)
theorem dX4_worth_91 : decode cX4_worth 91 = .ok (.isub, 1) := dk_100 (dk_at dksX4_worth_3 22 rfl rfl)
theorem dX4_worth_92 : decode cX4_worth 92 = .ok (.invokevirtual 176, 3) := dk_182 0 176 (dk_at dksX4_worth_4 0 rfl rfl)
theorem dX4_worth_95 : decode cX4_worth 95 = .ok (.goto 13, 3) := dk_167 0 13 (dk_at dksX4_worth_4 3 rfl rfl)
theorem dX4_worth_98 : decode cX4_worth 98 = .ok (.aload_n 0, 1) := dk_42 (dk_at dksX4_worth_4 6 rfl rfl)
theorem dX4_worth_99 : decode cX4_worth 99 = .ok (.aload_n 0, 1) := dk_42 (dk_at dksX4_worth_4 7 rfl rfl)
theorem dX4_worth_100 : decode cX4_worth 100 = .ok (.getfield 33, 3) := dk_180 0 33 (dk_at dksX4_worth_4 8 rfl rfl)
theorem dX4_worth_103 : decode cX4_worth 103 = .ok (.iload_n 1, 1) := dk_27 (dk_at dksX4_worth_4 11 rfl rfl)
theorem dX4_worth_104 : decode cX4_worth 104 = .ok (.iaload, 1) := dk_46 (dk_at dksX4_worth_4 12 rfl rfl)
theorem dX4_worth_105 : decode cX4_worth 105 = .ok (.invokevirtual 179, 3) := dk_182 0 179 (dk_at dksX4_worth_4 13 rfl rfl)
theorem dX4_worth_108 : decode cX4_worth 108 = .ok (.ireturn, 1) := dk_172 (dk_at dksX4_worth_4 16 rfl rfl)
abbrev cX4_split : ByteArray := prog_22_method_42_code
def yX4_split : MethodName := ⟨RX4, "split", "(II)I"⟩
def dkwX4_split_5 : List UInt8 := [182, 0, 170, 182, 0, 147, 154, 0, 6, 21, 4, 62, 132, 4, 1, 167, 255, 130]
abbrev dktX4_split_5 : List UInt8 := dkwX4_split_5 ++ []
def dkwX4_split_4 : List UInt8 := [182, 0, 170, 161, 0, 30, 42, 21, 4, 182, 0, 170, 42, 29, 182, 0, 170, 160, 0, 19, 42, 42, 21, 4]
abbrev dktX4_split_4 : List UInt8 := dkwX4_split_4 ++ dktX4_split_5
def dkwX4_split_3 : List UInt8 := [167, 255, 219, 21, 4, 28, 161, 0, 5, 29, 172, 29, 155, 0, 44, 42, 21, 4, 182, 0, 170, 42, 29]
abbrev dktX4_split_3 : List UInt8 := dkwX4_split_3 ++ dktX4_split_4
def dkwX4_split_2 : List UInt8 := [182, 0, 170, 42, 180, 0, 7, 16, 31, 46, 164, 0, 16, 42, 21, 4, 4, 96, 182, 0, 167, 54, 4]
abbrev dktX4_split_2 : List UInt8 := dkwX4_split_2 ++ dktX4_split_3
def dkwX4_split_1 : List UInt8 := [42, 21, 4, 182, 0, 167, 54, 4, 21, 5, 153, 0, 38, 21, 4, 28, 162, 0, 32, 42, 21, 4]
abbrev dktX4_split_1 : List UInt8 := dkwX4_split_1 ++ dktX4_split_2
def dkwX4_split_0 : List UInt8 := [2, 62, 27, 54, 4, 42, 180, 0, 33, 21, 4, 46, 16, 126, 160, 0, 7, 4, 167, 0, 4, 3, 54, 5]
abbrev dktX4_split_0 : List UInt8 := dkwX4_split_0 ++ dktX4_split_1
theorem dksX4_split_0 : cX4_split.data.toList.drop 0 = dktX4_split_0 := by decide +kernel
theorem dksX4_split_1 : cX4_split.data.toList.drop 24 = dktX4_split_1 := dk_seg dksX4_split_0 24 rfl rfl
theorem dksX4_split_2 : cX4_split.data.toList.drop 46 = dktX4_split_2 := dk_seg dksX4_split_1 22 rfl rfl
theorem dksX4_split_3 : cX4_split.data.toList.drop 69 = dktX4_split_3 := dk_seg dksX4_split_2 23 rfl rfl
theorem dksX4_split_4 : cX4_split.data.toList.drop 92 = dktX4_split_4 := dk_seg dksX4_split_3 23 rfl rfl
theorem dksX4_split_5 : cX4_split.data.toList.drop 116 = dktX4_split_5 := dk_seg dksX4_split_4 24 rfl rfl
theorem dX4_split_0 : decode cX4_split 0 = .ok (.iconst (-1), 1) := dk_2 (dk_at dksX4_split_0 0 rfl rfl)
theorem dX4_split_1 : decode cX4_split 1 = .ok (.istore_n 3, 1) := dk_62 (dk_at dksX4_split_0 1 rfl rfl)
theorem dX4_split_2 : decode cX4_split 2 = .ok (.iload_n 1, 1) := dk_27 (dk_at dksX4_split_0 2 rfl rfl)
theorem dX4_split_3 : decode cX4_split 3 = .ok (.istore 4, 2) := dk_54 4 (dk_at dksX4_split_0 3 rfl rfl)
theorem dX4_split_5 : decode cX4_split 5 = .ok (.aload_n 0, 1) := dk_42 (dk_at dksX4_split_0 5 rfl rfl)
theorem dX4_split_6 : decode cX4_split 6 = .ok (.getfield 33, 3) := dk_180 0 33 (dk_at dksX4_split_0 6 rfl rfl)
theorem dX4_split_9 : decode cX4_split 9 = .ok (.iload 4, 2) := dk_21 4 (dk_at dksX4_split_0 9 rfl rfl)
theorem dX4_split_11 : decode cX4_split 11 = .ok (.iaload, 1) := dk_46 (dk_at dksX4_split_0 11 rfl rfl)
theorem dX4_split_12 : decode cX4_split 12 = .ok (.bipush 126, 2) := dk_16 126 (dk_at dksX4_split_0 12 rfl rfl)
theorem dX4_split_14 : decode cX4_split 14 = .ok (.if_icmp .ne 7, 3) := dk_160 0 7 (dk_at dksX4_split_0 14 rfl rfl)
theorem dX4_split_17 : decode cX4_split 17 = .ok (.iconst 1, 1) := dk_4 (dk_at dksX4_split_0 17 rfl rfl)
theorem dX4_split_18 : decode cX4_split 18 = .ok (.goto 4, 3) := dk_167 0 4 (dk_at dksX4_split_0 18 rfl rfl)
theorem dX4_split_21 : decode cX4_split 21 = .ok (.iconst 0, 1) := dk_3 (dk_at dksX4_split_0 21 rfl rfl)
theorem dX4_split_22 : decode cX4_split 22 = .ok (.istore 5, 2) := dk_54 5 (dk_at dksX4_split_0 22 rfl rfl)
theorem dX4_split_24 : decode cX4_split 24 = .ok (.aload_n 0, 1) := dk_42 (dk_at dksX4_split_1 0 rfl rfl)
theorem dX4_split_25 : decode cX4_split 25 = .ok (.iload 4, 2) := dk_21 4 (dk_at dksX4_split_1 1 rfl rfl)
theorem dX4_split_27 : decode cX4_split 27 = .ok (.invokevirtual 167, 3) := dk_182 0 167 (dk_at dksX4_split_1 3 rfl rfl)
theorem dX4_split_30 : decode cX4_split 30 = .ok (.istore 4, 2) := dk_54 4 (dk_at dksX4_split_1 6 rfl rfl)
theorem dX4_split_32 : decode cX4_split 32 = .ok (.iload 5, 2) := dk_21 5 (dk_at dksX4_split_1 8 rfl rfl)
theorem dX4_split_34 : decode cX4_split 34 = .ok (.ifCond .eq 38, 3) := dk_153 0 38 (dk_at dksX4_split_1 10 rfl rfl)
theorem dX4_split_37 : decode cX4_split 37 = .ok (.iload 4, 2) := dk_21 4 (dk_at dksX4_split_1 13 rfl rfl)
theorem dX4_split_39 : decode cX4_split 39 = .ok (.iload_n 2, 1) := dk_28 (dk_at dksX4_split_1 15 rfl rfl)
theorem dX4_split_40 : decode cX4_split 40 = .ok (.if_icmp .ge 32, 3) := dk_162 0 32 (dk_at dksX4_split_1 16 rfl rfl)
theorem dX4_split_43 : decode cX4_split 43 = .ok (.aload_n 0, 1) := dk_42 (dk_at dksX4_split_1 19 rfl rfl)
theorem dX4_split_44 : decode cX4_split 44 = .ok (.iload 4, 2) := dk_21 4 (dk_at dksX4_split_1 20 rfl rfl)
theorem dX4_split_46 : decode cX4_split 46 = .ok (.invokevirtual 170, 3) := dk_182 0 170 (dk_at dksX4_split_2 0 rfl rfl)
theorem dX4_split_49 : decode cX4_split 49 = .ok (.aload_n 0, 1) := dk_42 (dk_at dksX4_split_2 3 rfl rfl)
theorem dX4_split_50 : decode cX4_split 50 = .ok (.getfield 7, 3) := dk_180 0 7 (dk_at dksX4_split_2 4 rfl rfl)
theorem dX4_split_53 : decode cX4_split 53 = .ok (.bipush 31, 2) := dk_16 31 (dk_at dksX4_split_2 7 rfl rfl)
theorem dX4_split_55 : decode cX4_split 55 = .ok (.iaload, 1) := dk_46 (dk_at dksX4_split_2 9 rfl rfl)
theorem dX4_split_56 : decode cX4_split 56 = .ok (.if_icmp .le 16, 3) := dk_164 0 16 (dk_at dksX4_split_2 10 rfl rfl)
theorem dX4_split_59 : decode cX4_split 59 = .ok (.aload_n 0, 1) := dk_42 (dk_at dksX4_split_2 13 rfl rfl)
theorem dX4_split_60 : decode cX4_split 60 = .ok (.iload 4, 2) := dk_21 4 (dk_at dksX4_split_2 14 rfl rfl)
theorem dX4_split_62 : decode cX4_split 62 = .ok (.iconst 1, 1) := dk_4 (dk_at dksX4_split_2 16 rfl rfl)
theorem dX4_split_63 : decode cX4_split 63 = .ok (.iadd, 1) := dk_96 (dk_at dksX4_split_2 17 rfl rfl)
theorem dX4_split_64 : decode cX4_split 64 = .ok (.invokevirtual 167, 3) := dk_182 0 167 (dk_at dksX4_split_2 18 rfl rfl)
theorem dX4_split_67 : decode cX4_split 67 = .ok (.istore 4, 2) := dk_54 4 (dk_at dksX4_split_2 21 rfl rfl)
theorem dX4_split_69 : decode cX4_split 69 = .ok (.goto (-37), 3) := dk_167 255 219 (dk_at dksX4_split_3 0 rfl rfl)
theorem dX4_split_72 : decode cX4_split 72 = .ok (.iload 4, 2) := dk_21 4 (dk_at dksX4_split_3 3 rfl rfl)
theorem dX4_split_74 : decode cX4_split 74 = .ok (.iload_n 2, 1) := dk_28 (dk_at dksX4_split_3 5 rfl rfl)
theorem dX4_split_75 : decode cX4_split 75 = .ok (.if_icmp .lt 5, 3) := dk_161 0 5 (dk_at dksX4_split_3 6 rfl rfl)
theorem dX4_split_78 : decode cX4_split 78 = .ok (.iload_n 3, 1) := dk_29 (dk_at dksX4_split_3 9 rfl rfl)
theorem dX4_split_79 : decode cX4_split 79 = .ok (.ireturn, 1) := dk_172 (dk_at dksX4_split_3 10 rfl rfl)
theorem dX4_split_80 : decode cX4_split 80 = .ok (.iload_n 3, 1) := dk_29 (dk_at dksX4_split_3 11 rfl rfl)
theorem dX4_split_81 : decode cX4_split 81 = .ok (.ifCond .lt 44, 3) := dk_155 0 44 (dk_at dksX4_split_3 12 rfl rfl)
theorem dX4_split_84 : decode cX4_split 84 = .ok (.aload_n 0, 1) := dk_42 (dk_at dksX4_split_3 15 rfl rfl)
theorem dX4_split_85 : decode cX4_split 85 = .ok (.iload 4, 2) := dk_21 4 (dk_at dksX4_split_3 16 rfl rfl)
theorem dX4_split_87 : decode cX4_split 87 = .ok (.invokevirtual 170, 3) := dk_182 0 170 (dk_at dksX4_split_3 18 rfl rfl)
theorem dX4_split_90 : decode cX4_split 90 = .ok (.aload_n 0, 1) := dk_42 (dk_at dksX4_split_3 21 rfl rfl)
theorem dX4_split_91 : decode cX4_split 91 = .ok (.iload_n 3, 1) := dk_29 (dk_at dksX4_split_3 22 rfl rfl)
theorem dX4_split_92 : decode cX4_split 92 = .ok (.invokevirtual 170, 3) := dk_182 0 170 (dk_at dksX4_split_4 0 rfl rfl)
theorem dX4_split_95 : decode cX4_split 95 = .ok (.if_icmp .lt 30, 3) := dk_161 0 30 (dk_at dksX4_split_4 3 rfl rfl)
theorem dX4_split_98 : decode cX4_split 98 = .ok (.aload_n 0, 1) := dk_42 (dk_at dksX4_split_4 6 rfl rfl)
theorem dX4_split_99 : decode cX4_split 99 = .ok (.iload 4, 2) := dk_21 4 (dk_at dksX4_split_4 7 rfl rfl)
theorem dX4_split_101 : decode cX4_split 101 = .ok (.invokevirtual 170, 3) := dk_182 0 170 (dk_at dksX4_split_4 9 rfl rfl)
theorem dX4_split_104 : decode cX4_split 104 = .ok (.aload_n 0, 1) := dk_42 (dk_at dksX4_split_4 12 rfl rfl)
theorem dX4_split_105 : decode cX4_split 105 = .ok (.iload_n 3, 1) := dk_29 (dk_at dksX4_split_4 13 rfl rfl)
theorem dX4_split_106 : decode cX4_split 106 = .ok (.invokevirtual 170, 3) := dk_182 0 170 (dk_at dksX4_split_4 14 rfl rfl)
theorem dX4_split_109 : decode cX4_split 109 = .ok (.if_icmp .ne 19, 3) := dk_160 0 19 (dk_at dksX4_split_4 17 rfl rfl)
theorem dX4_split_112 : decode cX4_split 112 = .ok (.aload_n 0, 1) := dk_42 (dk_at dksX4_split_4 20 rfl rfl)
theorem dX4_split_113 : decode cX4_split 113 = .ok (.aload_n 0, 1) := dk_42 (dk_at dksX4_split_4 21 rfl rfl)
theorem dX4_split_114 : decode cX4_split 114 = .ok (.iload 4, 2) := dk_21 4 (dk_at dksX4_split_4 22 rfl rfl)
theorem dX4_split_116 : decode cX4_split 116 = .ok (.invokevirtual 170, 3) := dk_182 0 170 (dk_at dksX4_split_5 0 rfl rfl)
theorem dX4_split_119 : decode cX4_split 119 = .ok (.invokevirtual 147, 3) := dk_182 0 147 (dk_at dksX4_split_5 3 rfl rfl)
theorem dX4_split_122 : decode cX4_split 122 = .ok (.ifCond .ne 6, 3) := dk_154 0 6 (dk_at dksX4_split_5 6 rfl rfl)
theorem dX4_split_125 : decode cX4_split 125 = .ok (.iload 4, 2) := dk_21 4 (dk_at dksX4_split_5 9 rfl rfl)
theorem dX4_split_127 : decode cX4_split 127 = .ok (.istore_n 3, 1) := dk_62 (dk_at dksX4_split_5 11 rfl rfl)
theorem dX4_split_128 : decode cX4_split 128 = .ok (.iinc 4 1, 3) := dk_132 4 1 (dk_at dksX4_split_5 12 rfl rfl)
theorem dX4_split_131 : decode cX4_split 131 = .ok (.goto (-126), 3) := dk_167 255 130 (dk_at dksX4_split_5 15 rfl rfl)
abbrev cX4_behind : ByteArray := prog_22_method_41_code
def yX4_behind : MethodName := ⟨RX4, "behind", "(I)I"⟩
def dkwX4_behind_1 : List UInt8 := [46, 16, 40, 160, 0, 13, 42, 28, 182, 0, 164, 4, 96, 167, 0, 6, 28, 4, 96, 172]
abbrev dktX4_behind_1 : List UInt8 := dkwX4_behind_1 ++ []
def dkwX4_behind_0 : List UInt8 := [27, 61, 42, 180, 0, 33, 28, 46, 16, 126, 160, 0, 9, 132, 2, 1, 167, 255, 242, 42, 180, 0, 33, 28]
abbrev dktX4_behind_0 : List UInt8 := dkwX4_behind_0 ++ dktX4_behind_1
theorem dksX4_behind_0 : cX4_behind.data.toList.drop 0 = dktX4_behind_0 := by decide +kernel
theorem dksX4_behind_1 : cX4_behind.data.toList.drop 24 = dktX4_behind_1 := dk_seg dksX4_behind_0 24 rfl rfl
theorem dX4_behind_0 : decode cX4_behind 0 = .ok (.iload_n 1, 1) := dk_27 (dk_at dksX4_behind_0 0 rfl rfl)
theorem dX4_behind_1 : decode cX4_behind 1 = .ok (.istore_n 2, 1) := dk_61 (dk_at dksX4_behind_0 1 rfl rfl)
theorem dX4_behind_2 : decode cX4_behind 2 = .ok (.aload_n 0, 1) := dk_42 (dk_at dksX4_behind_0 2 rfl rfl)
theorem dX4_behind_3 : decode cX4_behind 3 = .ok (.getfield 33, 3) := dk_180 0 33 (dk_at dksX4_behind_0 3 rfl rfl)
theorem dX4_behind_6 : decode cX4_behind 6 = .ok (.iload_n 2, 1) := dk_28 (dk_at dksX4_behind_0 6 rfl rfl)
theorem dX4_behind_7 : decode cX4_behind 7 = .ok (.iaload, 1) := dk_46 (dk_at dksX4_behind_0 7 rfl rfl)
theorem dX4_behind_8 : decode cX4_behind 8 = .ok (.bipush 126, 2) := dk_16 126 (dk_at dksX4_behind_0 8 rfl rfl)
theorem dX4_behind_10 : decode cX4_behind 10 = .ok (.if_icmp .ne 9, 3) := dk_160 0 9 (dk_at dksX4_behind_0 10 rfl rfl)
theorem dX4_behind_13 : decode cX4_behind 13 = .ok (.iinc 2 1, 3) := dk_132 2 1 (dk_at dksX4_behind_0 13 rfl rfl)
theorem dX4_behind_16 : decode cX4_behind 16 = .ok (.goto (-14), 3) := dk_167 255 242 (dk_at dksX4_behind_0 16 rfl rfl)
theorem dX4_behind_19 : decode cX4_behind 19 = .ok (.aload_n 0, 1) := dk_42 (dk_at dksX4_behind_0 19 rfl rfl)
theorem dX4_behind_20 : decode cX4_behind 20 = .ok (.getfield 33, 3) := dk_180 0 33 (dk_at dksX4_behind_0 20 rfl rfl)
theorem dX4_behind_23 : decode cX4_behind 23 = .ok (.iload_n 2, 1) := dk_28 (dk_at dksX4_behind_0 23 rfl rfl)
theorem dX4_behind_24 : decode cX4_behind 24 = .ok (.iaload, 1) := dk_46 (dk_at dksX4_behind_1 0 rfl rfl)
theorem dX4_behind_25 : decode cX4_behind 25 = .ok (.bipush 40, 2) := dk_16 40 (dk_at dksX4_behind_1 1 rfl rfl)
theorem dX4_behind_27 : decode cX4_behind 27 = .ok (.if_icmp .ne 13, 3) := dk_160 0 13 (dk_at dksX4_behind_1 3 rfl rfl)
theorem dX4_behind_30 : decode cX4_behind 30 = .ok (.aload_n 0, 1) := dk_42 (dk_at dksX4_behind_1 6 rfl rfl)
theorem dX4_behind_31 : decode cX4_behind 31 = .ok (.iload_n 2, 1) := dk_28 (dk_at dksX4_behind_1 7 rfl rfl)
theorem dX4_behind_32 : decode cX4_behind 32 = .ok (.invokevirtual 164, 3) := dk_182 0 164 (dk_at dksX4_behind_1 8 rfl rfl)
theorem dX4_behind_35 : decode cX4_behind 35 = .ok (.iconst 1, 1) := dk_4 (dk_at dksX4_behind_1 11 rfl rfl)
theorem dX4_behind_36 : decode cX4_behind 36 = .ok (.iadd, 1) := dk_96 (dk_at dksX4_behind_1 12 rfl rfl)
theorem dX4_behind_37 : decode cX4_behind 37 = .ok (.goto 6, 3) := dk_167 0 6 (dk_at dksX4_behind_1 13 rfl rfl)
theorem dX4_behind_40 : decode cX4_behind 40 = .ok (.iload_n 2, 1) := dk_28 (dk_at dksX4_behind_1 16 rfl rfl)
theorem dX4_behind_41 : decode cX4_behind 41 = .ok (.iconst 1, 1) := dk_4 (dk_at dksX4_behind_1 17 rfl rfl)
theorem dX4_behind_42 : decode cX4_behind 42 = .ok (.iadd, 1) := dk_96 (dk_at dksX4_behind_1 18 rfl rfl)
theorem dX4_behind_43 : decode cX4_behind 43 = .ok (.ireturn, 1) := dk_172 (dk_at dksX4_behind_1 19 rfl rfl)
abbrev cX4_closing : ByteArray := prog_22_method_40_code
def yX4_closing : MethodName := ⟨RX4, "closing", "(I)I"⟩
def dkwX4_closing_2 : List UInt8 := [167, 255, 213]
abbrev dktX4_closing_2 : List UInt8 := dkwX4_closing_2 ++ []
def dkwX4_closing_1 : List UInt8 := [29, 46, 16, 41, 160, 0, 7, 2, 167, 0, 4, 3, 96, 61, 28, 154, 0, 5, 29, 172, 132, 3, 1]
abbrev dktX4_closing_1 : List UInt8 := dkwX4_closing_1 ++ dktX4_closing_2
def dkwX4_closing_0 : List UInt8 := [3, 61, 27, 62, 28, 42, 180, 0, 33, 29, 46, 16, 40, 160, 0, 7, 4, 167, 0, 19, 42, 180, 0, 33]
abbrev dktX4_closing_0 : List UInt8 := dkwX4_closing_0 ++ dktX4_closing_1
theorem dksX4_closing_0 : cX4_closing.data.toList.drop 0 = dktX4_closing_0 := by decide +kernel
theorem dksX4_closing_1 : cX4_closing.data.toList.drop 24 = dktX4_closing_1 := dk_seg dksX4_closing_0 24 rfl rfl
theorem dksX4_closing_2 : cX4_closing.data.toList.drop 47 = dktX4_closing_2 := dk_seg dksX4_closing_1 23 rfl rfl
theorem dX4_closing_0 : decode cX4_closing 0 = .ok (.iconst 0, 1) := dk_3 (dk_at dksX4_closing_0 0 rfl rfl)
theorem dX4_closing_1 : decode cX4_closing 1 = .ok (.istore_n 2, 1) := dk_61 (dk_at dksX4_closing_0 1 rfl rfl)
theorem dX4_closing_2 : decode cX4_closing 2 = .ok (.iload_n 1, 1) := dk_27 (dk_at dksX4_closing_0 2 rfl rfl)
theorem dX4_closing_3 : decode cX4_closing 3 = .ok (.istore_n 3, 1) := dk_62 (dk_at dksX4_closing_0 3 rfl rfl)
theorem dX4_closing_4 : decode cX4_closing 4 = .ok (.iload_n 2, 1) := dk_28 (dk_at dksX4_closing_0 4 rfl rfl)
theorem dX4_closing_5 : decode cX4_closing 5 = .ok (.aload_n 0, 1) := dk_42 (dk_at dksX4_closing_0 5 rfl rfl)
theorem dX4_closing_6 : decode cX4_closing 6 = .ok (.getfield 33, 3) := dk_180 0 33 (dk_at dksX4_closing_0 6 rfl rfl)
theorem dX4_closing_9 : decode cX4_closing 9 = .ok (.iload_n 3, 1) := dk_29 (dk_at dksX4_closing_0 9 rfl rfl)
theorem dX4_closing_10 : decode cX4_closing 10 = .ok (.iaload, 1) := dk_46 (dk_at dksX4_closing_0 10 rfl rfl)
theorem dX4_closing_11 : decode cX4_closing 11 = .ok (.bipush 40, 2) := dk_16 40 (dk_at dksX4_closing_0 11 rfl rfl)
theorem dX4_closing_13 : decode cX4_closing 13 = .ok (.if_icmp .ne 7, 3) := dk_160 0 7 (dk_at dksX4_closing_0 13 rfl rfl)
theorem dX4_closing_16 : decode cX4_closing 16 = .ok (.iconst 1, 1) := dk_4 (dk_at dksX4_closing_0 16 rfl rfl)
theorem dX4_closing_17 : decode cX4_closing 17 = .ok (.goto 19, 3) := dk_167 0 19 (dk_at dksX4_closing_0 17 rfl rfl)
theorem dX4_closing_20 : decode cX4_closing 20 = .ok (.aload_n 0, 1) := dk_42 (dk_at dksX4_closing_0 20 rfl rfl)
theorem dX4_closing_21 : decode cX4_closing 21 = .ok (.getfield 33, 3) := dk_180 0 33 (dk_at dksX4_closing_0 21 rfl rfl)
theorem dX4_closing_24 : decode cX4_closing 24 = .ok (.iload_n 3, 1) := dk_29 (dk_at dksX4_closing_1 0 rfl rfl)
theorem dX4_closing_25 : decode cX4_closing 25 = .ok (.iaload, 1) := dk_46 (dk_at dksX4_closing_1 1 rfl rfl)
theorem dX4_closing_26 : decode cX4_closing 26 = .ok (.bipush 41, 2) := dk_16 41 (dk_at dksX4_closing_1 2 rfl rfl)
theorem dX4_closing_28 : decode cX4_closing 28 = .ok (.if_icmp .ne 7, 3) := dk_160 0 7 (dk_at dksX4_closing_1 4 rfl rfl)
theorem dX4_closing_31 : decode cX4_closing 31 = .ok (.iconst (-1), 1) := dk_2 (dk_at dksX4_closing_1 7 rfl rfl)
theorem dX4_closing_32 : decode cX4_closing 32 = .ok (.goto 4, 3) := dk_167 0 4 (dk_at dksX4_closing_1 8 rfl rfl)
theorem dX4_closing_35 : decode cX4_closing 35 = .ok (.iconst 0, 1) := dk_3 (dk_at dksX4_closing_1 11 rfl rfl)
theorem dX4_closing_36 : decode cX4_closing 36 = .ok (.iadd, 1) := dk_96 (dk_at dksX4_closing_1 12 rfl rfl)
theorem dX4_closing_37 : decode cX4_closing 37 = .ok (.istore_n 2, 1) := dk_61 (dk_at dksX4_closing_1 13 rfl rfl)
theorem dX4_closing_38 : decode cX4_closing 38 = .ok (.iload_n 2, 1) := dk_28 (dk_at dksX4_closing_1 14 rfl rfl)
theorem dX4_closing_39 : decode cX4_closing 39 = .ok (.ifCond .ne 5, 3) := dk_154 0 5 (dk_at dksX4_closing_1 15 rfl rfl)
theorem dX4_closing_42 : decode cX4_closing 42 = .ok (.iload_n 3, 1) := dk_29 (dk_at dksX4_closing_1 18 rfl rfl)
theorem dX4_closing_43 : decode cX4_closing 43 = .ok (.ireturn, 1) := dk_172 (dk_at dksX4_closing_1 19 rfl rfl)
theorem dX4_closing_44 : decode cX4_closing 44 = .ok (.iinc 3 1, 3) := dk_132 3 1 (dk_at dksX4_closing_1 20 rfl rfl)
theorem dX4_closing_47 : decode cX4_closing 47 = .ok (.goto (-43), 3) := dk_167 255 213 (dk_at dksX4_closing_2 0 rfl rfl)
abbrev cX4_shade : ByteArray := prog_22_method_39_code
def yX4_shade : MethodName := ⟨RX4, "shade", "(I)I"⟩
def dkwX4_shade_0 : List UInt8 := [42, 180, 0, 7, 16, 25, 42, 180, 0, 33, 27, 46, 184, 0, 99, 96, 46, 172]
abbrev dktX4_shade_0 : List UInt8 := dkwX4_shade_0 ++ []
theorem dksX4_shade_0 : cX4_shade.data.toList.drop 0 = dktX4_shade_0 := by decide +kernel
theorem dX4_shade_0 : decode cX4_shade 0 = .ok (.aload_n 0, 1) := dk_42 (dk_at dksX4_shade_0 0 rfl rfl)
theorem dX4_shade_1 : decode cX4_shade 1 = .ok (.getfield 7, 3) := dk_180 0 7 (dk_at dksX4_shade_0 1 rfl rfl)
theorem dX4_shade_4 : decode cX4_shade 4 = .ok (.bipush 25, 2) := dk_16 25 (dk_at dksX4_shade_0 4 rfl rfl)
theorem dX4_shade_6 : decode cX4_shade 6 = .ok (.aload_n 0, 1) := dk_42 (dk_at dksX4_shade_0 6 rfl rfl)
theorem dX4_shade_7 : decode cX4_shade 7 = .ok (.getfield 33, 3) := dk_180 0 33 (dk_at dksX4_shade_0 7 rfl rfl)
theorem dX4_shade_10 : decode cX4_shade 10 = .ok (.iload_n 1, 1) := dk_27 (dk_at dksX4_shade_0 10 rfl rfl)
theorem dX4_shade_11 : decode cX4_shade 11 = .ok (.iaload, 1) := dk_46 (dk_at dksX4_shade_0 11 rfl rfl)
theorem dX4_shade_12 : decode cX4_shade 12 = .ok (.invokestatic 99, 3) := dk_184 0 99 (dk_at dksX4_shade_0 12 rfl rfl)
theorem dX4_shade_15 : decode cX4_shade 15 = .ok (.iadd, 1) := dk_96 (dk_at dksX4_shade_0 15 rfl rfl)
theorem dX4_shade_16 : decode cX4_shade 16 = .ok (.iaload, 1) := dk_46 (dk_at dksX4_shade_0 16 rfl rfl)
theorem dX4_shade_17 : decode cX4_shade 17 = .ok (.ireturn, 1) := dk_172 (dk_at dksX4_shade_0 17 rfl rfl)
abbrev cX4_operandValue : ByteArray := prog_22_method_43_code
def yX4_operandValue : MethodName := ⟨RX4, "operandValue", "(I)I"⟩
def dkwX4_operandValue_1 : List UInt8 := [16, 48, 100, 172]
abbrev dktX4_operandValue_1 : List UInt8 := dkwX4_operandValue_1 ++ []
def dkwX4_operandValue_0 : List UInt8 := [27, 184, 0, 107, 153, 0, 18, 42, 180, 0, 7, 16, 39, 27, 96, 16, 65, 100, 46, 167, 0, 7, 27]
abbrev dktX4_operandValue_0 : List UInt8 := dkwX4_operandValue_0 ++ dktX4_operandValue_1
theorem dksX4_operandValue_0 : cX4_operandValue.data.toList.drop 0 = dktX4_operandValue_0 := by decide +kernel
theorem dksX4_operandValue_1 : cX4_operandValue.data.toList.drop 23 = dktX4_operandValue_1 := dk_seg dksX4_operandValue_0 23 rfl rfl
theorem dX4_operandValue_0 : decode cX4_operandValue 0 = .ok (.iload_n 1, 1) := dk_27 (dk_at dksX4_operandValue_0 0 rfl rfl)
theorem dX4_operandValue_1 : decode cX4_operandValue 1 = .ok (.invokestatic 107, 3) := dk_184 0 107 (dk_at dksX4_operandValue_0 1 rfl rfl)
theorem dX4_operandValue_4 : decode cX4_operandValue 4 = .ok (.ifCond .eq 18, 3) := dk_153 0 18 (dk_at dksX4_operandValue_0 4 rfl rfl)
theorem dX4_operandValue_7 : decode cX4_operandValue 7 = .ok (.aload_n 0, 1) := dk_42 (dk_at dksX4_operandValue_0 7 rfl rfl)
theorem dX4_operandValue_8 : decode cX4_operandValue 8 = .ok (.getfield 7, 3) := dk_180 0 7 (dk_at dksX4_operandValue_0 8 rfl rfl)
theorem dX4_operandValue_11 : decode cX4_operandValue 11 = .ok (.bipush 39, 2) := dk_16 39 (dk_at dksX4_operandValue_0 11 rfl rfl)
theorem dX4_operandValue_13 : decode cX4_operandValue 13 = .ok (.iload_n 1, 1) := dk_27 (dk_at dksX4_operandValue_0 13 rfl rfl)
theorem dX4_operandValue_14 : decode cX4_operandValue 14 = .ok (.iadd, 1) := dk_96 (dk_at dksX4_operandValue_0 14 rfl rfl)
theorem dX4_operandValue_15 : decode cX4_operandValue 15 = .ok (.bipush 65, 2) := dk_16 65 (dk_at dksX4_operandValue_0 15 rfl rfl)
theorem dX4_operandValue_17 : decode cX4_operandValue 17 = .ok (.isub, 1) := dk_100 (dk_at dksX4_operandValue_0 17 rfl rfl)
theorem dX4_operandValue_18 : decode cX4_operandValue 18 = .ok (.iaload, 1) := dk_46 (dk_at dksX4_operandValue_0 18 rfl rfl)
theorem dX4_operandValue_19 : decode cX4_operandValue 19 = .ok (.goto 7, 3) := dk_167 0 7 (dk_at dksX4_operandValue_0 19 rfl rfl)
theorem dX4_operandValue_22 : decode cX4_operandValue 22 = .ok (.iload_n 1, 1) := dk_27 (dk_at dksX4_operandValue_0 22 rfl rfl)
theorem dX4_operandValue_23 : decode cX4_operandValue 23 = .ok (.bipush 48, 2) := dk_16 48 (dk_at dksX4_operandValue_1 0 rfl rfl)
theorem dX4_operandValue_25 : decode cX4_operandValue 25 = .ok (.isub, 1) := dk_100 (dk_at dksX4_operandValue_1 2 rfl rfl)
theorem dX4_operandValue_26 : decode cX4_operandValue 26 = .ok (.ireturn, 1) := dk_172 (dk_at dksX4_operandValue_1 3 rfl rfl)
abbrev cX4_valueByRows : ByteArray := prog_22_method_48_code
def yX4_valueByRows : MethodName := ⟨RX4, "valueByRows", "()I"⟩
theorem dX4_valueByRows_0 : decode cX4_valueByRows 0 = .ok (.aload_n 0, 1) := by decide +kernel
theorem dX4_valueByRows_1 : decode cX4_valueByRows 1 = .ok (.invokevirtual 189, 3) := by decide +kernel
theorem dX4_valueByRows_4 : decode cX4_valueByRows 4 = .ok (.ireturn, 1) := by decide +kernel
abbrev cX4_lastApplied : ByteArray := prog_22_method_49_code
def yX4_lastApplied : MethodName := ⟨RX4, "lastApplied", "()I"⟩
def dkwX4_lastApplied_3 : List UInt8 := [3, 182, 0, 123, 153, 0, 5, 3, 172, 29, 156, 0, 7, 27, 167, 0, 4, 29, 172]
abbrev dktX4_lastApplied_3 : List UInt8 := dkwX4_lastApplied_3 ++ []
def dkwX4_lastApplied_2 : List UInt8 := [182, 0, 173, 62, 42, 29, 156, 0, 18, 42, 180, 0, 33, 27, 46, 16, 126, 159, 0, 7, 5, 167, 0, 4]
abbrev dktX4_lastApplied_2 : List UInt8 := dkwX4_lastApplied_2 ++ dktX4_lastApplied_3
def dkwX4_lastApplied_1 : List UInt8 := [160, 0, 21, 42, 27, 28, 182, 0, 173, 156, 0, 12, 132, 1, 1, 132, 2, 255, 167, 255, 230, 42, 27, 28]
abbrev dktX4_lastApplied_1 : List UInt8 := dkwX4_lastApplied_1 ++ dktX4_lastApplied_2
def dkwX4_lastApplied_0 : List UInt8 := [42, 182, 0, 185, 154, 0, 5, 3, 172, 3, 60, 42, 180, 0, 161, 61, 42, 180, 0, 33, 27, 46, 16, 40]
abbrev dktX4_lastApplied_0 : List UInt8 := dkwX4_lastApplied_0 ++ dktX4_lastApplied_1
theorem dksX4_lastApplied_0 : cX4_lastApplied.data.toList.drop 0 = dktX4_lastApplied_0 := by decide +kernel
theorem dksX4_lastApplied_1 : cX4_lastApplied.data.toList.drop 24 = dktX4_lastApplied_1 := dk_seg dksX4_lastApplied_0 24 rfl rfl
theorem dksX4_lastApplied_2 : cX4_lastApplied.data.toList.drop 48 = dktX4_lastApplied_2 := dk_seg dksX4_lastApplied_1 24 rfl rfl
theorem dksX4_lastApplied_3 : cX4_lastApplied.data.toList.drop 72 = dktX4_lastApplied_3 := dk_seg dksX4_lastApplied_2 24 rfl rfl
theorem dX4_lastApplied_0 : decode cX4_lastApplied 0 = .ok (.aload_n 0, 1) := dk_42 (dk_at dksX4_lastApplied_0 0 rfl rfl)
theorem dX4_lastApplied_1 : decode cX4_lastApplied 1 = .ok (.invokevirtual 185, 3) := dk_182 0 185 (dk_at dksX4_lastApplied_0 1 rfl rfl)
theorem dX4_lastApplied_4 : decode cX4_lastApplied 4 = .ok (.ifCond .ne 5, 3) := dk_154 0 5 (dk_at dksX4_lastApplied_0 4 rfl rfl)
theorem dX4_lastApplied_7 : decode cX4_lastApplied 7 = .ok (.iconst 0, 1) := dk_3 (dk_at dksX4_lastApplied_0 7 rfl rfl)
theorem dX4_lastApplied_8 : decode cX4_lastApplied 8 = .ok (.ireturn, 1) := dk_172 (dk_at dksX4_lastApplied_0 8 rfl rfl)
theorem dX4_lastApplied_9 : decode cX4_lastApplied 9 = .ok (.iconst 0, 1) := dk_3 (dk_at dksX4_lastApplied_0 9 rfl rfl)
theorem dX4_lastApplied_10 : decode cX4_lastApplied 10 = .ok (.istore_n 1, 1) := dk_60 (dk_at dksX4_lastApplied_0 10 rfl rfl)
theorem dX4_lastApplied_11 : decode cX4_lastApplied 11 = .ok (.aload_n 0, 1) := dk_42 (dk_at dksX4_lastApplied_0 11 rfl rfl)
theorem dX4_lastApplied_12 : decode cX4_lastApplied 12 = .ok (.getfield 161, 3) := dk_180 0 161 (dk_at dksX4_lastApplied_0 12 rfl rfl)
theorem dX4_lastApplied_15 : decode cX4_lastApplied 15 = .ok (.istore_n 2, 1) := dk_61 (dk_at dksX4_lastApplied_0 15 rfl rfl)
theorem dX4_lastApplied_16 : decode cX4_lastApplied 16 = .ok (.aload_n 0, 1) := dk_42 (dk_at dksX4_lastApplied_0 16 rfl rfl)
theorem dX4_lastApplied_17 : decode cX4_lastApplied 17 = .ok (.getfield 33, 3) := dk_180 0 33 (dk_at dksX4_lastApplied_0 17 rfl rfl)
theorem dX4_lastApplied_20 : decode cX4_lastApplied 20 = .ok (.iload_n 1, 1) := dk_27 (dk_at dksX4_lastApplied_0 20 rfl rfl)
theorem dX4_lastApplied_21 : decode cX4_lastApplied 21 = .ok (.iaload, 1) := dk_46 (dk_at dksX4_lastApplied_0 21 rfl rfl)
theorem dX4_lastApplied_22 : decode cX4_lastApplied 22 = .ok (.bipush 40, 2) := dk_16 40 (dk_at dksX4_lastApplied_0 22 rfl rfl)
theorem dX4_lastApplied_24 : decode cX4_lastApplied 24 = .ok (.if_icmp .ne 21, 3) := dk_160 0 21 (dk_at dksX4_lastApplied_1 0 rfl rfl)
theorem dX4_lastApplied_27 : decode cX4_lastApplied 27 = .ok (.aload_n 0, 1) := dk_42 (dk_at dksX4_lastApplied_1 3 rfl rfl)
theorem dX4_lastApplied_28 : decode cX4_lastApplied 28 = .ok (.iload_n 1, 1) := dk_27 (dk_at dksX4_lastApplied_1 4 rfl rfl)
theorem dX4_lastApplied_29 : decode cX4_lastApplied 29 = .ok (.iload_n 2, 1) := dk_28 (dk_at dksX4_lastApplied_1 5 rfl rfl)
theorem dX4_lastApplied_30 : decode cX4_lastApplied 30 = .ok (.invokevirtual 173, 3) := dk_182 0 173 (dk_at dksX4_lastApplied_1 6 rfl rfl)
theorem dX4_lastApplied_33 : decode cX4_lastApplied 33 = .ok (.ifCond .ge 12, 3) := dk_156 0 12 (dk_at dksX4_lastApplied_1 9 rfl rfl)
theorem dX4_lastApplied_36 : decode cX4_lastApplied 36 = .ok (.iinc 1 1, 3) := dk_132 1 1 (dk_at dksX4_lastApplied_1 12 rfl rfl)
theorem dX4_lastApplied_39 : decode cX4_lastApplied 39 = .ok (.iinc 2 (-1), 3) := dk_132 2 255 (dk_at dksX4_lastApplied_1 15 rfl rfl)
theorem dX4_lastApplied_42 : decode cX4_lastApplied 42 = .ok (.goto (-26), 3) := dk_167 255 230 (dk_at dksX4_lastApplied_1 18 rfl rfl)
theorem dX4_lastApplied_45 : decode cX4_lastApplied 45 = .ok (.aload_n 0, 1) := dk_42 (dk_at dksX4_lastApplied_1 21 rfl rfl)
theorem dX4_lastApplied_46 : decode cX4_lastApplied 46 = .ok (.iload_n 1, 1) := dk_27 (dk_at dksX4_lastApplied_1 22 rfl rfl)
theorem dX4_lastApplied_47 : decode cX4_lastApplied 47 = .ok (.iload_n 2, 1) := dk_28 (dk_at dksX4_lastApplied_1 23 rfl rfl)
theorem dX4_lastApplied_48 : decode cX4_lastApplied 48 = .ok (.invokevirtual 173, 3) := dk_182 0 173 (dk_at dksX4_lastApplied_2 0 rfl rfl)
theorem dX4_lastApplied_51 : decode cX4_lastApplied 51 = .ok (.istore_n 3, 1) := dk_62 (dk_at dksX4_lastApplied_2 3 rfl rfl)
theorem dX4_lastApplied_52 : decode cX4_lastApplied 52 = .ok (.aload_n 0, 1) := dk_42 (dk_at dksX4_lastApplied_2 4 rfl rfl)
theorem dX4_lastApplied_53 : decode cX4_lastApplied 53 = .ok (.iload_n 3, 1) := dk_29 (dk_at dksX4_lastApplied_2 5 rfl rfl)
theorem dX4_lastApplied_54 : decode cX4_lastApplied 54 = .ok (.ifCond .ge 18, 3) := dk_156 0 18 (dk_at dksX4_lastApplied_2 6 rfl rfl)
theorem dX4_lastApplied_57 : decode cX4_lastApplied 57 = .ok (.aload_n 0, 1) := dk_42 (dk_at dksX4_lastApplied_2 9 rfl rfl)
theorem dX4_lastApplied_58 : decode cX4_lastApplied 58 = .ok (.getfield 33, 3) := dk_180 0 33 (dk_at dksX4_lastApplied_2 10 rfl rfl)
theorem dX4_lastApplied_61 : decode cX4_lastApplied 61 = .ok (.iload_n 1, 1) := dk_27 (dk_at dksX4_lastApplied_2 13 rfl rfl)
theorem dX4_lastApplied_62 : decode cX4_lastApplied 62 = .ok (.iaload, 1) := dk_46 (dk_at dksX4_lastApplied_2 14 rfl rfl)
theorem dX4_lastApplied_63 : decode cX4_lastApplied 63 = .ok (.bipush 126, 2) := dk_16 126 (dk_at dksX4_lastApplied_2 15 rfl rfl)
theorem dX4_lastApplied_65 : decode cX4_lastApplied 65 = .ok (.if_icmp .eq 7, 3) := dk_159 0 7 (dk_at dksX4_lastApplied_2 17 rfl rfl)
theorem dX4_lastApplied_68 : decode cX4_lastApplied 68 = .ok (.iconst 2, 1) := dk_5 (dk_at dksX4_lastApplied_2 20 rfl rfl)
theorem dX4_lastApplied_69 : decode cX4_lastApplied 69 = .ok (.goto 4, 3) := dk_167 0 4 (dk_at dksX4_lastApplied_2 21 rfl rfl)
theorem dX4_lastApplied_72 : decode cX4_lastApplied 72 = .ok (.iconst 0, 1) := dk_3 (dk_at dksX4_lastApplied_3 0 rfl rfl)
theorem dX4_lastApplied_73 : decode cX4_lastApplied 73 = .ok (.invokevirtual 123, 3) := dk_182 0 123 (dk_at dksX4_lastApplied_3 1 rfl rfl)
theorem dX4_lastApplied_76 : decode cX4_lastApplied 76 = .ok (.ifCond .eq 5, 3) := dk_153 0 5 (dk_at dksX4_lastApplied_3 4 rfl rfl)
theorem dX4_lastApplied_79 : decode cX4_lastApplied 79 = .ok (.iconst 0, 1) := dk_3 (dk_at dksX4_lastApplied_3 7 rfl rfl)
theorem dX4_lastApplied_80 : decode cX4_lastApplied 80 = .ok (.ireturn, 1) := dk_172 (dk_at dksX4_lastApplied_3 8 rfl rfl)
theorem dX4_lastApplied_81 : decode cX4_lastApplied 81 = .ok (.iload_n 3, 1) := dk_29 (dk_at dksX4_lastApplied_3 9 rfl rfl)
theorem dX4_lastApplied_82 : decode cX4_lastApplied 82 = .ok (.ifCond .ge 7, 3) := dk_156 0 7 (dk_at dksX4_lastApplied_3 10 rfl rfl)
theorem dX4_lastApplied_85 : decode cX4_lastApplied 85 = .ok (.iload_n 1, 1) := dk_27 (dk_at dksX4_lastApplied_3 13 rfl rfl)
theorem dX4_lastApplied_86 : decode cX4_lastApplied 86 = .ok (.goto 4, 3) := dk_167 0 4 (dk_at dksX4_lastApplied_3 14 rfl rfl)
theorem dX4_lastApplied_89 : decode cX4_lastApplied 89 = .ok (.iload_n 3, 1) := dk_29 (dk_at dksX4_lastApplied_3 17 rfl rfl)
theorem dX4_lastApplied_90 : decode cX4_lastApplied 90 = .ok (.ireturn, 1) := dk_172 (dk_at dksX4_lastApplied_3 18 rfl rfl)
abbrev cX4_height : ByteArray := prog_22_method_50_code
def yX4_height : MethodName := ⟨RX4, "height", "()I"⟩
def dkwX4_height_0 : List UInt8 := [42, 182, 0, 185, 153, 0, 15, 42, 3, 42, 180, 0, 161, 182, 0, 182, 167, 0, 4, 3, 172]
abbrev dktX4_height_0 : List UInt8 := dkwX4_height_0 ++ []
theorem dksX4_height_0 : cX4_height.data.toList.drop 0 = dktX4_height_0 := by decide +kernel
theorem dX4_height_0 : decode cX4_height 0 = .ok (.aload_n 0, 1) := dk_42 (dk_at dksX4_height_0 0 rfl rfl)
theorem dX4_height_1 : decode cX4_height 1 = .ok (.invokevirtual 185, 3) := dk_182 0 185 (dk_at dksX4_height_0 1 rfl rfl)
theorem dX4_height_4 : decode cX4_height 4 = .ok (.ifCond .eq 15, 3) := dk_153 0 15 (dk_at dksX4_height_0 4 rfl rfl)
theorem dX4_height_7 : decode cX4_height 7 = .ok (.aload_n 0, 1) := dk_42 (dk_at dksX4_height_0 7 rfl rfl)
theorem dX4_height_8 : decode cX4_height 8 = .ok (.iconst 0, 1) := dk_3 (dk_at dksX4_height_0 8 rfl rfl)
theorem dX4_height_9 : decode cX4_height 9 = .ok (.aload_n 0, 1) := dk_42 (dk_at dksX4_height_0 9 rfl rfl)
theorem dX4_height_10 : decode cX4_height 10 = .ok (.getfield 161, 3) := dk_180 0 161 (dk_at dksX4_height_0 10 rfl rfl)
theorem dX4_height_13 : decode cX4_height 13 = .ok (.invokevirtual 182, 3) := dk_182 0 182 (dk_at dksX4_height_0 13 rfl rfl)
theorem dX4_height_16 : decode cX4_height 16 = .ok (.goto 4, 3) := dk_167 0 4 (dk_at dksX4_height_0 16 rfl rfl)
theorem dX4_height_19 : decode cX4_height 19 = .ok (.iconst 0, 1) := dk_3 (dk_at dksX4_height_0 19 rfl rfl)
theorem dX4_height_20 : decode cX4_height 20 = .ok (.ireturn, 1) := dk_172 (dk_at dksX4_height_0 20 rfl rfl)
abbrev cX4_tall : ByteArray := prog_22_method_45_code
def yX4_tall : MethodName := ⟨RX4, "tall", "(II)I"⟩
def dkwX4_tall_3 : List UInt8 := [28, 4, 100, 182, 0, 182, 167, 0, 4, 3, 172]
abbrev dktX4_tall_3 : List UInt8 := dkwX4_tall_3 ++ []
def dkwX4_tall_2 : List UInt8 := [27, 4, 96, 28, 182, 0, 182, 96, 172, 42, 180, 0, 33, 27, 46, 16, 40, 160, 0, 16, 42, 27, 4, 96]
abbrev dktX4_tall_2 : List UInt8 := dkwX4_tall_2 ++ dktX4_tall_3
def dkwX4_tall_1 : List UInt8 := [4, 96, 28, 182, 0, 182, 184, 0, 154, 96, 172, 42, 180, 0, 33, 27, 46, 16, 126, 160, 0, 14, 4, 42]
abbrev dktX4_tall_1 : List UInt8 := dkwX4_tall_1 ++ dktX4_tall_2
def dkwX4_tall_0 : List UInt8 := [42, 27, 28, 182, 0, 173, 62, 29, 155, 0, 27, 42, 27, 29, 182, 0, 182, 54, 4, 4, 21, 4, 42, 29]
abbrev dktX4_tall_0 : List UInt8 := dkwX4_tall_0 ++ dktX4_tall_1
theorem dksX4_tall_0 : cX4_tall.data.toList.drop 0 = dktX4_tall_0 := by decide +kernel
theorem dksX4_tall_1 : cX4_tall.data.toList.drop 24 = dktX4_tall_1 := dk_seg dksX4_tall_0 24 rfl rfl
theorem dksX4_tall_2 : cX4_tall.data.toList.drop 48 = dktX4_tall_2 := dk_seg dksX4_tall_1 24 rfl rfl
theorem dksX4_tall_3 : cX4_tall.data.toList.drop 72 = dktX4_tall_3 := dk_seg dksX4_tall_2 24 rfl rfl
theorem dX4_tall_0 : decode cX4_tall 0 = .ok (.aload_n 0, 1) := dk_42 (dk_at dksX4_tall_0 0 rfl rfl)
theorem dX4_tall_1 : decode cX4_tall 1 = .ok (.iload_n 1, 1) := dk_27 (dk_at dksX4_tall_0 1 rfl rfl)
theorem dX4_tall_2 : decode cX4_tall 2 = .ok (.iload_n 2, 1) := dk_28 (dk_at dksX4_tall_0 2 rfl rfl)
theorem dX4_tall_3 : decode cX4_tall 3 = .ok (.invokevirtual 173, 3) := dk_182 0 173 (dk_at dksX4_tall_0 3 rfl rfl)
theorem dX4_tall_6 : decode cX4_tall 6 = .ok (.istore_n 3, 1) := dk_62 (dk_at dksX4_tall_0 6 rfl rfl)
theorem dX4_tall_7 : decode cX4_tall 7 = .ok (.iload_n 3, 1) := dk_29 (dk_at dksX4_tall_0 7 rfl rfl)
theorem dX4_tall_8 : decode cX4_tall 8 = .ok (.ifCond .lt 27, 3) := dk_155 0 27 (dk_at dksX4_tall_0 8 rfl rfl)
theorem dX4_tall_11 : decode cX4_tall 11 = .ok (.aload_n 0, 1) := dk_42 (dk_at dksX4_tall_0 11 rfl rfl)
theorem dX4_tall_12 : decode cX4_tall 12 = .ok (.iload_n 1, 1) := dk_27 (dk_at dksX4_tall_0 12 rfl rfl)
theorem dX4_tall_13 : decode cX4_tall 13 = .ok (.iload_n 3, 1) := dk_29 (dk_at dksX4_tall_0 13 rfl rfl)
theorem dX4_tall_14 : decode cX4_tall 14 = .ok (.invokevirtual 182, 3) := dk_182 0 182 (dk_at dksX4_tall_0 14 rfl rfl)
theorem dX4_tall_17 : decode cX4_tall 17 = .ok (.istore 4, 2) := dk_54 4 (dk_at dksX4_tall_0 17 rfl rfl)
theorem dX4_tall_19 : decode cX4_tall 19 = .ok (.iconst 1, 1) := dk_4 (dk_at dksX4_tall_0 19 rfl rfl)
theorem dX4_tall_20 : decode cX4_tall 20 = .ok (.iload 4, 2) := dk_21 4 (dk_at dksX4_tall_0 20 rfl rfl)
theorem dX4_tall_22 : decode cX4_tall 22 = .ok (.aload_n 0, 1) := dk_42 (dk_at dksX4_tall_0 22 rfl rfl)
theorem dX4_tall_23 : decode cX4_tall 23 = .ok (.iload_n 3, 1) := dk_29 (dk_at dksX4_tall_0 23 rfl rfl)
theorem dX4_tall_24 : decode cX4_tall 24 = .ok (.iconst 1, 1) := dk_4 (dk_at dksX4_tall_1 0 rfl rfl)
theorem dX4_tall_25 : decode cX4_tall 25 = .ok (.iadd, 1) := dk_96 (dk_at dksX4_tall_1 1 rfl rfl)
theorem dX4_tall_26 : decode cX4_tall 26 = .ok (.iload_n 2, 1) := dk_28 (dk_at dksX4_tall_1 2 rfl rfl)
theorem dX4_tall_27 : decode cX4_tall 27 = .ok (.invokevirtual 182, 3) := dk_182 0 182 (dk_at dksX4_tall_1 3 rfl rfl)
theorem dX4_tall_30 : decode cX4_tall 30 = .ok (.invokestatic 154, 3) := dk_184 0 154 (dk_at dksX4_tall_1 6 rfl rfl)
theorem dX4_tall_33 : decode cX4_tall 33 = .ok (.iadd, 1) := dk_96 (dk_at dksX4_tall_1 9 rfl rfl)
theorem dX4_tall_34 : decode cX4_tall 34 = .ok (.ireturn, 1) := dk_172 (dk_at dksX4_tall_1 10 rfl rfl)
theorem dX4_tall_35 : decode cX4_tall 35 = .ok (.aload_n 0, 1) := dk_42 (dk_at dksX4_tall_1 11 rfl rfl)
theorem dX4_tall_36 : decode cX4_tall 36 = .ok (.getfield 33, 3) := dk_180 0 33 (dk_at dksX4_tall_1 12 rfl rfl)
theorem dX4_tall_39 : decode cX4_tall 39 = .ok (.iload_n 1, 1) := dk_27 (dk_at dksX4_tall_1 15 rfl rfl)
theorem dX4_tall_40 : decode cX4_tall 40 = .ok (.iaload, 1) := dk_46 (dk_at dksX4_tall_1 16 rfl rfl)
theorem dX4_tall_41 : decode cX4_tall 41 = .ok (.bipush 126, 2) := dk_16 126 (dk_at dksX4_tall_1 17 rfl rfl)
theorem dX4_tall_43 : decode cX4_tall 43 = .ok (.if_icmp .ne 14, 3) := dk_160 0 14 (dk_at dksX4_tall_1 19 rfl rfl)
theorem dX4_tall_46 : decode cX4_tall 46 = .ok (.iconst 1, 1) := dk_4 (dk_at dksX4_tall_1 22 rfl rfl)
theorem dX4_tall_47 : decode cX4_tall 47 = .ok (.aload_n 0, 1) := dk_42 (dk_at dksX4_tall_1 23 rfl rfl)
theorem dX4_tall_48 : decode cX4_tall 48 = .ok (.iload_n 1, 1) := dk_27 (dk_at dksX4_tall_2 0 rfl rfl)
theorem dX4_tall_49 : decode cX4_tall 49 = .ok (.iconst 1, 1) := dk_4 (dk_at dksX4_tall_2 1 rfl rfl)
theorem dX4_tall_50 : decode cX4_tall 50 = .ok (.iadd, 1) := dk_96 (dk_at dksX4_tall_2 2 rfl rfl)
theorem dX4_tall_51 : decode cX4_tall 51 = .ok (.iload_n 2, 1) := dk_28 (dk_at dksX4_tall_2 3 rfl rfl)
theorem dX4_tall_52 : decode cX4_tall 52 = .ok (.invokevirtual 182, 3) := dk_182 0 182 (dk_at dksX4_tall_2 4 rfl rfl)
theorem dX4_tall_55 : decode cX4_tall 55 = .ok (.iadd, 1) := dk_96 (dk_at dksX4_tall_2 7 rfl rfl)
theorem dX4_tall_56 : decode cX4_tall 56 = .ok (.ireturn, 1) := dk_172 (dk_at dksX4_tall_2 8 rfl rfl)
theorem dX4_tall_57 : decode cX4_tall 57 = .ok (.aload_n 0, 1) := dk_42 (dk_at dksX4_tall_2 9 rfl rfl)
theorem dX4_tall_58 : decode cX4_tall 58 = .ok (.getfield 33, 3) := dk_180 0 33 (dk_at dksX4_tall_2 10 rfl rfl)
theorem dX4_tall_61 : decode cX4_tall 61 = .ok (.iload_n 1, 1) := dk_27 (dk_at dksX4_tall_2 13 rfl rfl)
theorem dX4_tall_62 : decode cX4_tall 62 = .ok (.iaload, 1) := dk_46 (dk_at dksX4_tall_2 14 rfl rfl)
theorem dX4_tall_63 : decode cX4_tall 63 = .ok (.bipush 40, 2) := dk_16 40 (dk_at dksX4_tall_2 15 rfl rfl)
theorem dX4_tall_65 : decode cX4_tall 65 = .ok (.if_icmp .ne 16, 3) := dk_160 0 16 (dk_at dksX4_tall_2 17 rfl rfl)
theorem dX4_tall_68 : decode cX4_tall 68 = .ok (.aload_n 0, 1) := dk_42 (dk_at dksX4_tall_2 20 rfl rfl)
theorem dX4_tall_69 : decode cX4_tall 69 = .ok (.iload_n 1, 1) := dk_27 (dk_at dksX4_tall_2 21 rfl rfl)
theorem dX4_tall_70 : decode cX4_tall 70 = .ok (.iconst 1, 1) := dk_4 (dk_at dksX4_tall_2 22 rfl rfl)
theorem dX4_tall_71 : decode cX4_tall 71 = .ok (.iadd, 1) := dk_96 (dk_at dksX4_tall_2 23 rfl rfl)
theorem dX4_tall_72 : decode cX4_tall 72 = .ok (.iload_n 2, 1) := dk_28 (dk_at dksX4_tall_3 0 rfl rfl)
theorem dX4_tall_73 : decode cX4_tall 73 = .ok (.iconst 1, 1) := dk_4 (dk_at dksX4_tall_3 1 rfl rfl)
theorem dX4_tall_74 : decode cX4_tall 74 = .ok (.isub, 1) := dk_100 (dk_at dksX4_tall_3 2 rfl rfl)
theorem dX4_tall_75 : decode cX4_tall 75 = .ok (.invokevirtual 182, 3) := dk_182 0 182 (dk_at dksX4_tall_3 3 rfl rfl)
theorem dX4_tall_78 : decode cX4_tall 78 = .ok (.goto 4, 3) := dk_167 0 4 (dk_at dksX4_tall_3 6 rfl rfl)
theorem dX4_tall_81 : decode cX4_tall 81 = .ok (.iconst 0, 1) := dk_3 (dk_at dksX4_tall_3 9 rfl rfl)
theorem dX4_tall_82 : decode cX4_tall 82 = .ok (.ireturn, 1) := dk_172 (dk_at dksX4_tall_3 10 rfl rfl)
abbrev cX4_keep : ByteArray := prog_22_method_51_code
def yX4_keep : MethodName := ⟨RX4, "keep", "(C)I"⟩
def dkwX4_keep_3 : List UInt8 := [16, 39, 27, 96, 16, 65, 100, 29, 79, 28, 172]
abbrev dktX4_keep_3 : List UInt8 := dkwX4_keep_3 ++ []
def dkwX4_keep_2 : List UInt8 := [46, 61, 42, 3, 42, 180, 0, 161, 182, 0, 176, 62, 42, 42, 180, 0, 7, 182, 0, 134, 42, 180, 0, 7]
abbrev dktX4_keep_2 : List UInt8 := dkwX4_keep_2 ++ dktX4_keep_3
def dkwX4_keep_1 : List UInt8 := [182, 0, 185, 154, 0, 10, 42, 5, 181, 0, 73, 3, 172, 42, 180, 0, 7, 16, 39, 27, 96, 16, 65, 100]
abbrev dktX4_keep_1 : List UInt8 := dkwX4_keep_1 ++ dktX4_keep_2
def dkwX4_keep_0 : List UInt8 := [42, 27, 184, 0, 107, 153, 0, 7, 3, 167, 0, 4, 4, 182, 0, 123, 153, 0, 5, 3, 172, 42]
abbrev dktX4_keep_0 : List UInt8 := dkwX4_keep_0 ++ dktX4_keep_1
theorem dksX4_keep_0 : cX4_keep.data.toList.drop 0 = dktX4_keep_0 := by decide +kernel
theorem dksX4_keep_1 : cX4_keep.data.toList.drop 22 = dktX4_keep_1 := dk_seg dksX4_keep_0 22 rfl rfl
theorem dksX4_keep_2 : cX4_keep.data.toList.drop 46 = dktX4_keep_2 := dk_seg dksX4_keep_1 24 rfl rfl
theorem dksX4_keep_3 : cX4_keep.data.toList.drop 70 = dktX4_keep_3 := dk_seg dksX4_keep_2 24 rfl rfl
theorem dX4_keep_0 : decode cX4_keep 0 = .ok (.aload_n 0, 1) := dk_42 (dk_at dksX4_keep_0 0 rfl rfl)
theorem dX4_keep_1 : decode cX4_keep 1 = .ok (.iload_n 1, 1) := dk_27 (dk_at dksX4_keep_0 1 rfl rfl)
theorem dX4_keep_2 : decode cX4_keep 2 = .ok (.invokestatic 107, 3) := dk_184 0 107 (dk_at dksX4_keep_0 2 rfl rfl)
theorem dX4_keep_5 : decode cX4_keep 5 = .ok (.ifCond .eq 7, 3) := dk_153 0 7 (dk_at dksX4_keep_0 5 rfl rfl)
theorem dX4_keep_8 : decode cX4_keep 8 = .ok (.iconst 0, 1) := dk_3 (dk_at dksX4_keep_0 8 rfl rfl)
theorem dX4_keep_9 : decode cX4_keep 9 = .ok (.goto 4, 3) := dk_167 0 4 (dk_at dksX4_keep_0 9 rfl rfl)
theorem dX4_keep_12 : decode cX4_keep 12 = .ok (.iconst 1, 1) := dk_4 (dk_at dksX4_keep_0 12 rfl rfl)
theorem dX4_keep_13 : decode cX4_keep 13 = .ok (.invokevirtual 123, 3) := dk_182 0 123 (dk_at dksX4_keep_0 13 rfl rfl)
theorem dX4_keep_16 : decode cX4_keep 16 = .ok (.ifCond .eq 5, 3) := dk_153 0 5 (dk_at dksX4_keep_0 16 rfl rfl)
theorem dX4_keep_19 : decode cX4_keep 19 = .ok (.iconst 0, 1) := dk_3 (dk_at dksX4_keep_0 19 rfl rfl)
theorem dX4_keep_20 : decode cX4_keep 20 = .ok (.ireturn, 1) := dk_172 (dk_at dksX4_keep_0 20 rfl rfl)
theorem dX4_keep_21 : decode cX4_keep 21 = .ok (.aload_n 0, 1) := dk_42 (dk_at dksX4_keep_0 21 rfl rfl)
theorem dX4_keep_22 : decode cX4_keep 22 = .ok (.invokevirtual 185, 3) := dk_182 0 185 (dk_at dksX4_keep_1 0 rfl rfl)
theorem dX4_keep_25 : decode cX4_keep 25 = .ok (.ifCond .ne 10, 3) := dk_154 0 10 (dk_at dksX4_keep_1 3 rfl rfl)
theorem dX4_keep_28 : decode cX4_keep 28 = .ok (.aload_n 0, 1) := dk_42 (dk_at dksX4_keep_1 6 rfl rfl)
theorem dX4_keep_29 : decode cX4_keep 29 = .ok (.iconst 2, 1) := dk_5 (dk_at dksX4_keep_1 7 rfl rfl)
theorem dX4_keep_30 : decode cX4_keep 30 = .ok (.putfield 73, 3) := dk_181 0 73 (dk_at dksX4_keep_1 8 rfl rfl)
theorem dX4_keep_33 : decode cX4_keep 33 = .ok (.iconst 0, 1) := dk_3 (dk_at dksX4_keep_1 11 rfl rfl)
theorem dX4_keep_34 : decode cX4_keep 34 = .ok (.ireturn, 1) := dk_172 (dk_at dksX4_keep_1 12 rfl rfl)
theorem dX4_keep_35 : decode cX4_keep 35 = .ok (.aload_n 0, 1) := dk_42 (dk_at dksX4_keep_1 13 rfl rfl)
theorem dX4_keep_36 : decode cX4_keep 36 = .ok (.getfield 7, 3) := dk_180 0 7 (dk_at dksX4_keep_1 14 rfl rfl)
theorem dX4_keep_39 : decode cX4_keep 39 = .ok (.bipush 39, 2) := dk_16 39 (dk_at dksX4_keep_1 17 rfl rfl)
theorem dX4_keep_41 : decode cX4_keep 41 = .ok (.iload_n 1, 1) := dk_27 (dk_at dksX4_keep_1 19 rfl rfl)
theorem dX4_keep_42 : decode cX4_keep 42 = .ok (.iadd, 1) := dk_96 (dk_at dksX4_keep_1 20 rfl rfl)
theorem dX4_keep_43 : decode cX4_keep 43 = .ok (.bipush 65, 2) := dk_16 65 (dk_at dksX4_keep_1 21 rfl rfl)
theorem dX4_keep_45 : decode cX4_keep 45 = .ok (.isub, 1) := dk_100 (dk_at dksX4_keep_1 23 rfl rfl)
theorem dX4_keep_46 : decode cX4_keep 46 = .ok (.iaload, 1) := dk_46 (dk_at dksX4_keep_2 0 rfl rfl)
theorem dX4_keep_47 : decode cX4_keep 47 = .ok (.istore_n 2, 1) := dk_61 (dk_at dksX4_keep_2 1 rfl rfl)
theorem dX4_keep_48 : decode cX4_keep 48 = .ok (.aload_n 0, 1) := dk_42 (dk_at dksX4_keep_2 2 rfl rfl)
theorem dX4_keep_49 : decode cX4_keep 49 = .ok (.iconst 0, 1) := dk_3 (dk_at dksX4_keep_2 3 rfl rfl)
theorem dX4_keep_50 : decode cX4_keep 50 = .ok (.aload_n 0, 1) := dk_42 (dk_at dksX4_keep_2 4 rfl rfl)
theorem dX4_keep_51 : decode cX4_keep 51 = .ok (.getfield 161, 3) := dk_180 0 161 (dk_at dksX4_keep_2 5 rfl rfl)
theorem dX4_keep_54 : decode cX4_keep 54 = .ok (.invokevirtual 176, 3) := dk_182 0 176 (dk_at dksX4_keep_2 8 rfl rfl)
theorem dX4_keep_57 : decode cX4_keep 57 = .ok (.istore_n 3, 1) := dk_62 (dk_at dksX4_keep_2 11 rfl rfl)
theorem dX4_keep_58 : decode cX4_keep 58 = .ok (.aload_n 0, 1) := dk_42 (dk_at dksX4_keep_2 12 rfl rfl)
theorem dX4_keep_59 : decode cX4_keep 59 = .ok (.aload_n 0, 1) := dk_42 (dk_at dksX4_keep_2 13 rfl rfl)
theorem dX4_keep_60 : decode cX4_keep 60 = .ok (.getfield 7, 3) := dk_180 0 7 (dk_at dksX4_keep_2 14 rfl rfl)
theorem dX4_keep_63 : decode cX4_keep 63 = .ok (.invokevirtual 134, 3) := dk_182 0 134 (dk_at dksX4_keep_2 17 rfl rfl)
theorem dX4_keep_66 : decode cX4_keep 66 = .ok (.aload_n 0, 1) := dk_42 (dk_at dksX4_keep_2 20 rfl rfl)
theorem dX4_keep_67 : decode cX4_keep 67 = .ok (.getfield 7, 3) := dk_180 0 7 (dk_at dksX4_keep_2 21 rfl rfl)
theorem dX4_keep_70 : decode cX4_keep 70 = .ok (.bipush 39, 2) := dk_16 39 (dk_at dksX4_keep_3 0 rfl rfl)
theorem dX4_keep_72 : decode cX4_keep 72 = .ok (.iload_n 1, 1) := dk_27 (dk_at dksX4_keep_3 2 rfl rfl)
theorem dX4_keep_73 : decode cX4_keep 73 = .ok (.iadd, 1) := dk_96 (dk_at dksX4_keep_3 3 rfl rfl)
theorem dX4_keep_74 : decode cX4_keep 74 = .ok (.bipush 65, 2) := dk_16 65 (dk_at dksX4_keep_3 4 rfl rfl)
theorem dX4_keep_76 : decode cX4_keep 76 = .ok (.isub, 1) := dk_100 (dk_at dksX4_keep_3 6 rfl rfl)
theorem dX4_keep_77 : decode cX4_keep 77 = .ok (.iload_n 3, 1) := dk_29 (dk_at dksX4_keep_3 7 rfl rfl)
theorem dX4_keep_78 : decode cX4_keep 78 = .ok (.iastore, 1) := dk_79 (dk_at dksX4_keep_3 8 rfl rfl)
theorem dX4_keep_79 : decode cX4_keep 79 = .ok (.iload_n 2, 1) := dk_28 (dk_at dksX4_keep_3 9 rfl rfl)
theorem dX4_keep_80 : decode cX4_keep 80 = .ok (.ireturn, 1) := dk_172 (dk_at dksX4_keep_3 10 rfl rfl)
abbrev cX4_sky : ByteArray := prog_22_method_52_code
def yX4_sky : MethodName := ⟨RX4, "sky", "(C)I"⟩
def dkwX4_sky_1 : List UInt8 := [180, 0, 7, 16, 39, 27, 96, 16, 65, 100, 46, 172]
abbrev dktX4_sky_1 : List UInt8 := dkwX4_sky_1 ++ []
def dkwX4_sky_0 : List UInt8 := [42, 27, 184, 0, 107, 153, 0, 7, 3, 167, 0, 4, 4, 182, 0, 123, 153, 0, 7, 3, 167, 0, 15, 42]
abbrev dktX4_sky_0 : List UInt8 := dkwX4_sky_0 ++ dktX4_sky_1
theorem dksX4_sky_0 : cX4_sky.data.toList.drop 0 = dktX4_sky_0 := by decide +kernel
theorem dksX4_sky_1 : cX4_sky.data.toList.drop 24 = dktX4_sky_1 := dk_seg dksX4_sky_0 24 rfl rfl
theorem dX4_sky_0 : decode cX4_sky 0 = .ok (.aload_n 0, 1) := dk_42 (dk_at dksX4_sky_0 0 rfl rfl)
theorem dX4_sky_1 : decode cX4_sky 1 = .ok (.iload_n 1, 1) := dk_27 (dk_at dksX4_sky_0 1 rfl rfl)
theorem dX4_sky_2 : decode cX4_sky 2 = .ok (.invokestatic 107, 3) := dk_184 0 107 (dk_at dksX4_sky_0 2 rfl rfl)
theorem dX4_sky_5 : decode cX4_sky 5 = .ok (.ifCond .eq 7, 3) := dk_153 0 7 (dk_at dksX4_sky_0 5 rfl rfl)
theorem dX4_sky_8 : decode cX4_sky 8 = .ok (.iconst 0, 1) := dk_3 (dk_at dksX4_sky_0 8 rfl rfl)
theorem dX4_sky_9 : decode cX4_sky 9 = .ok (.goto 4, 3) := dk_167 0 4 (dk_at dksX4_sky_0 9 rfl rfl)
theorem dX4_sky_12 : decode cX4_sky 12 = .ok (.iconst 1, 1) := dk_4 (dk_at dksX4_sky_0 12 rfl rfl)
theorem dX4_sky_13 : decode cX4_sky 13 = .ok (.invokevirtual 123, 3) := dk_182 0 123 (dk_at dksX4_sky_0 13 rfl rfl)
theorem dX4_sky_16 : decode cX4_sky 16 = .ok (.ifCond .eq 7, 3) := dk_153 0 7 (dk_at dksX4_sky_0 16 rfl rfl)
theorem dX4_sky_19 : decode cX4_sky 19 = .ok (.iconst 0, 1) := dk_3 (dk_at dksX4_sky_0 19 rfl rfl)
theorem dX4_sky_20 : decode cX4_sky 20 = .ok (.goto 15, 3) := dk_167 0 15 (dk_at dksX4_sky_0 20 rfl rfl)
theorem dX4_sky_23 : decode cX4_sky 23 = .ok (.aload_n 0, 1) := dk_42 (dk_at dksX4_sky_0 23 rfl rfl)
theorem dX4_sky_24 : decode cX4_sky 24 = .ok (.getfield 7, 3) := dk_180 0 7 (dk_at dksX4_sky_1 0 rfl rfl)
theorem dX4_sky_27 : decode cX4_sky 27 = .ok (.bipush 39, 2) := dk_16 39 (dk_at dksX4_sky_1 3 rfl rfl)
theorem dX4_sky_29 : decode cX4_sky 29 = .ok (.iload_n 1, 1) := dk_27 (dk_at dksX4_sky_1 5 rfl rfl)
theorem dX4_sky_30 : decode cX4_sky 30 = .ok (.iadd, 1) := dk_96 (dk_at dksX4_sky_1 6 rfl rfl)
theorem dX4_sky_31 : decode cX4_sky 31 = .ok (.bipush 65, 2) := dk_16 65 (dk_at dksX4_sky_1 7 rfl rfl)
theorem dX4_sky_33 : decode cX4_sky 33 = .ok (.isub, 1) := dk_100 (dk_at dksX4_sky_1 9 rfl rfl)
theorem dX4_sky_34 : decode cX4_sky 34 = .ok (.iaload, 1) := dk_46 (dk_at dksX4_sky_1 10 rfl rfl)
theorem dX4_sky_35 : decode cX4_sky 35 = .ok (.ireturn, 1) := dk_172 (dk_at dksX4_sky_1 11 rfl rfl)
abbrev cX4_pairs : ByteArray := prog_22_method_61_code
def yX4_pairs : MethodName := ⟨RX4, "pairs", "()I"⟩
def dkwX4_pairs_2 : List UInt8 := [172]
abbrev dktX4_pairs_2 : List UInt8 := dkwX4_pairs_2 ++ []
def dkwX4_pairs_1 : List UInt8 := [180, 0, 33, 28, 46, 16, 40, 160, 0, 7, 4, 167, 0, 4, 3, 96, 60, 132, 2, 1, 167, 255, 226, 27]
abbrev dktX4_pairs_1 : List UInt8 := dkwX4_pairs_1 ++ dktX4_pairs_2
def dkwX4_pairs_0 : List UInt8 := [42, 182, 0, 185, 154, 0, 5, 3, 172, 3, 60, 3, 61, 28, 42, 180, 0, 161, 162, 0, 28, 27, 42]
abbrev dktX4_pairs_0 : List UInt8 := dkwX4_pairs_0 ++ dktX4_pairs_1
theorem dksX4_pairs_0 : cX4_pairs.data.toList.drop 0 = dktX4_pairs_0 := by decide +kernel
theorem dksX4_pairs_1 : cX4_pairs.data.toList.drop 23 = dktX4_pairs_1 := dk_seg dksX4_pairs_0 23 rfl rfl
theorem dksX4_pairs_2 : cX4_pairs.data.toList.drop 47 = dktX4_pairs_2 := dk_seg dksX4_pairs_1 24 rfl rfl
theorem dX4_pairs_0 : decode cX4_pairs 0 = .ok (.aload_n 0, 1) := dk_42 (dk_at dksX4_pairs_0 0 rfl rfl)
theorem dX4_pairs_1 : decode cX4_pairs 1 = .ok (.invokevirtual 185, 3) := dk_182 0 185 (dk_at dksX4_pairs_0 1 rfl rfl)
theorem dX4_pairs_4 : decode cX4_pairs 4 = .ok (.ifCond .ne 5, 3) := dk_154 0 5 (dk_at dksX4_pairs_0 4 rfl rfl)
theorem dX4_pairs_7 : decode cX4_pairs 7 = .ok (.iconst 0, 1) := dk_3 (dk_at dksX4_pairs_0 7 rfl rfl)
theorem dX4_pairs_8 : decode cX4_pairs 8 = .ok (.ireturn, 1) := dk_172 (dk_at dksX4_pairs_0 8 rfl rfl)
theorem dX4_pairs_9 : decode cX4_pairs 9 = .ok (.iconst 0, 1) := dk_3 (dk_at dksX4_pairs_0 9 rfl rfl)
theorem dX4_pairs_10 : decode cX4_pairs 10 = .ok (.istore_n 1, 1) := dk_60 (dk_at dksX4_pairs_0 10 rfl rfl)
theorem dX4_pairs_11 : decode cX4_pairs 11 = .ok (.iconst 0, 1) := dk_3 (dk_at dksX4_pairs_0 11 rfl rfl)
theorem dX4_pairs_12 : decode cX4_pairs 12 = .ok (.istore_n 2, 1) := dk_61 (dk_at dksX4_pairs_0 12 rfl rfl)
theorem dX4_pairs_13 : decode cX4_pairs 13 = .ok (.iload_n 2, 1) := dk_28 (dk_at dksX4_pairs_0 13 rfl rfl)
theorem dX4_pairs_14 : decode cX4_pairs 14 = .ok (.aload_n 0, 1) := dk_42 (dk_at dksX4_pairs_0 14 rfl rfl)
theorem dX4_pairs_15 : decode cX4_pairs 15 = .ok (.getfield 161, 3) := dk_180 0 161 (dk_at dksX4_pairs_0 15 rfl rfl)
theorem dX4_pairs_18 : decode cX4_pairs 18 = .ok (.if_icmp .ge 28, 3) := dk_162 0 28 (dk_at dksX4_pairs_0 18 rfl rfl)
theorem dX4_pairs_21 : decode cX4_pairs 21 = .ok (.iload_n 1, 1) := dk_27 (dk_at dksX4_pairs_0 21 rfl rfl)
theorem dX4_pairs_22 : decode cX4_pairs 22 = .ok (.aload_n 0, 1) := dk_42 (dk_at dksX4_pairs_0 22 rfl rfl)
theorem dX4_pairs_23 : decode cX4_pairs 23 = .ok (.getfield 33, 3) := dk_180 0 33 (dk_at dksX4_pairs_1 0 rfl rfl)
theorem dX4_pairs_26 : decode cX4_pairs 26 = .ok (.iload_n 2, 1) := dk_28 (dk_at dksX4_pairs_1 3 rfl rfl)
theorem dX4_pairs_27 : decode cX4_pairs 27 = .ok (.iaload, 1) := dk_46 (dk_at dksX4_pairs_1 4 rfl rfl)
theorem dX4_pairs_28 : decode cX4_pairs 28 = .ok (.bipush 40, 2) := dk_16 40 (dk_at dksX4_pairs_1 5 rfl rfl)
theorem dX4_pairs_30 : decode cX4_pairs 30 = .ok (.if_icmp .ne 7, 3) := dk_160 0 7 (dk_at dksX4_pairs_1 7 rfl rfl)
theorem dX4_pairs_33 : decode cX4_pairs 33 = .ok (.iconst 1, 1) := dk_4 (dk_at dksX4_pairs_1 10 rfl rfl)
theorem dX4_pairs_34 : decode cX4_pairs 34 = .ok (.goto 4, 3) := dk_167 0 4 (dk_at dksX4_pairs_1 11 rfl rfl)
theorem dX4_pairs_37 : decode cX4_pairs 37 = .ok (.iconst 0, 1) := dk_3 (dk_at dksX4_pairs_1 14 rfl rfl)
theorem dX4_pairs_38 : decode cX4_pairs 38 = .ok (.iadd, 1) := dk_96 (dk_at dksX4_pairs_1 15 rfl rfl)
theorem dX4_pairs_39 : decode cX4_pairs 39 = .ok (.istore_n 1, 1) := dk_60 (dk_at dksX4_pairs_1 16 rfl rfl)
theorem dX4_pairs_40 : decode cX4_pairs 40 = .ok (.iinc 2 1, 3) := dk_132 2 1 (dk_at dksX4_pairs_1 17 rfl rfl)
theorem dX4_pairs_43 : decode cX4_pairs 43 = .ok (.goto (-30), 3) := dk_167 255 226 (dk_at dksX4_pairs_1 20 rfl rfl)
theorem dX4_pairs_46 : decode cX4_pairs 46 = .ok (.iload_n 1, 1) := dk_27 (dk_at dksX4_pairs_1 23 rfl rfl)
theorem dX4_pairs_47 : decode cX4_pairs 47 = .ok (.ireturn, 1) := dk_172 (dk_at dksX4_pairs_2 0 rfl rfl)
abbrev cX4_neededPairs : ByteArray := prog_22_method_62_code
def yX4_neededPairs : MethodName := ⟨RX4, "neededPairs", "()I"⟩
def dkwX4_neededPairs_2 : List UInt8 := [4, 167, 0, 4, 3, 96, 60, 132, 2, 1, 167, 255, 217, 27, 172]
abbrev dktX4_neededPairs_2 : List UInt8 := dkwX4_neededPairs_2 ++ []
def dkwX4_neededPairs_1 : List UInt8 := [162, 0, 37, 27, 42, 180, 0, 33, 28, 46, 16, 40, 160, 0, 16, 42, 28, 3, 182, 0, 216, 154, 0, 7]
abbrev dktX4_neededPairs_1 : List UInt8 := dkwX4_neededPairs_1 ++ dktX4_neededPairs_2
def dkwX4_neededPairs_0 : List UInt8 := [42, 182, 0, 185, 154, 0, 5, 3, 172, 42, 182, 0, 213, 3, 60, 3, 61, 28, 42, 180, 0, 161]
abbrev dktX4_neededPairs_0 : List UInt8 := dkwX4_neededPairs_0 ++ dktX4_neededPairs_1
theorem dksX4_neededPairs_0 : cX4_neededPairs.data.toList.drop 0 = dktX4_neededPairs_0 := by decide +kernel
theorem dksX4_neededPairs_1 : cX4_neededPairs.data.toList.drop 22 = dktX4_neededPairs_1 := dk_seg dksX4_neededPairs_0 22 rfl rfl
theorem dksX4_neededPairs_2 : cX4_neededPairs.data.toList.drop 46 = dktX4_neededPairs_2 := dk_seg dksX4_neededPairs_1 24 rfl rfl
theorem dX4_neededPairs_0 : decode cX4_neededPairs 0 = .ok (.aload_n 0, 1) := dk_42 (dk_at dksX4_neededPairs_0 0 rfl rfl)
theorem dX4_neededPairs_1 : decode cX4_neededPairs 1 = .ok (.invokevirtual 185, 3) := dk_182 0 185 (dk_at dksX4_neededPairs_0 1 rfl rfl)
theorem dX4_neededPairs_4 : decode cX4_neededPairs 4 = .ok (.ifCond .ne 5, 3) := dk_154 0 5 (dk_at dksX4_neededPairs_0 4 rfl rfl)
theorem dX4_neededPairs_7 : decode cX4_neededPairs 7 = .ok (.iconst 0, 1) := dk_3 (dk_at dksX4_neededPairs_0 7 rfl rfl)
theorem dX4_neededPairs_8 : decode cX4_neededPairs 8 = .ok (.ireturn, 1) := dk_172 (dk_at dksX4_neededPairs_0 8 rfl rfl)
theorem dX4_neededPairs_9 : decode cX4_neededPairs 9 = .ok (.aload_n 0, 1) := dk_42 (dk_at dksX4_neededPairs_0 9 rfl rfl)
theorem dX4_neededPairs_10 : decode cX4_neededPairs 10 = .ok (.invokevirtual 213, 3) := dk_182 0 213 (dk_at dksX4_neededPairs_0 10 rfl rfl)
theorem dX4_neededPairs_13 : decode cX4_neededPairs 13 = .ok (.iconst 0, 1) := dk_3 (dk_at dksX4_neededPairs_0 13 rfl rfl)
theorem dX4_neededPairs_14 : decode cX4_neededPairs 14 = .ok (.istore_n 1, 1) := dk_60 (dk_at dksX4_neededPairs_0 14 rfl rfl)
theorem dX4_neededPairs_15 : decode cX4_neededPairs 15 = .ok (.iconst 0, 1) := dk_3 (dk_at dksX4_neededPairs_0 15 rfl rfl)
theorem dX4_neededPairs_16 : decode cX4_neededPairs 16 = .ok (.istore_n 2, 1) := dk_61 (dk_at dksX4_neededPairs_0 16 rfl rfl)
theorem dX4_neededPairs_17 : decode cX4_neededPairs 17 = .ok (.iload_n 2, 1) := dk_28 (dk_at dksX4_neededPairs_0 17 rfl rfl)
theorem dX4_neededPairs_18 : decode cX4_neededPairs 18 = .ok (.aload_n 0, 1) := dk_42 (dk_at dksX4_neededPairs_0 18 rfl rfl)
theorem dX4_neededPairs_19 : decode cX4_neededPairs 19 = .ok (.getfield 161, 3) := dk_180 0 161 (dk_at dksX4_neededPairs_0 19 rfl rfl)
theorem dX4_neededPairs_22 : decode cX4_neededPairs 22 = .ok (.if_icmp .ge 37, 3) := dk_162 0 37 (dk_at dksX4_neededPairs_1 0 rfl rfl)
theorem dX4_neededPairs_25 : decode cX4_neededPairs 25 = .ok (.iload_n 1, 1) := dk_27 (dk_at dksX4_neededPairs_1 3 rfl rfl)
theorem dX4_neededPairs_26 : decode cX4_neededPairs 26 = .ok (.aload_n 0, 1) := dk_42 (dk_at dksX4_neededPairs_1 4 rfl rfl)
theorem dX4_neededPairs_27 : decode cX4_neededPairs 27 = .ok (.getfield 33, 3) := dk_180 0 33 (dk_at dksX4_neededPairs_1 5 rfl rfl)
theorem dX4_neededPairs_30 : decode cX4_neededPairs 30 = .ok (.iload_n 2, 1) := dk_28 (dk_at dksX4_neededPairs_1 8 rfl rfl)
theorem dX4_neededPairs_31 : decode cX4_neededPairs 31 = .ok (.iaload, 1) := dk_46 (dk_at dksX4_neededPairs_1 9 rfl rfl)
theorem dX4_neededPairs_32 : decode cX4_neededPairs 32 = .ok (.bipush 40, 2) := dk_16 40 (dk_at dksX4_neededPairs_1 10 rfl rfl)
theorem dX4_neededPairs_34 : decode cX4_neededPairs 34 = .ok (.if_icmp .ne 16, 3) := dk_160 0 16 (dk_at dksX4_neededPairs_1 12 rfl rfl)
theorem dX4_neededPairs_37 : decode cX4_neededPairs 37 = .ok (.aload_n 0, 1) := dk_42 (dk_at dksX4_neededPairs_1 15 rfl rfl)
theorem dX4_neededPairs_38 : decode cX4_neededPairs 38 = .ok (.iload_n 2, 1) := dk_28 (dk_at dksX4_neededPairs_1 16 rfl rfl)
theorem dX4_neededPairs_39 : decode cX4_neededPairs 39 = .ok (.iconst 0, 1) := dk_3 (dk_at dksX4_neededPairs_1 17 rfl rfl)
theorem dX4_neededPairs_40 : decode cX4_neededPairs 40 = .ok (.invokevirtual 216, 3) := dk_182 0 216 (dk_at dksX4_neededPairs_1 18 rfl rfl)
theorem dX4_neededPairs_43 : decode cX4_neededPairs 43 = .ok (.ifCond .ne 7, 3) := dk_154 0 7 (dk_at dksX4_neededPairs_1 21 rfl rfl)
theorem dX4_neededPairs_46 : decode cX4_neededPairs 46 = .ok (.iconst 1, 1) := dk_4 (dk_at dksX4_neededPairs_2 0 rfl rfl)
theorem dX4_neededPairs_47 : decode cX4_neededPairs 47 = .ok (.goto 4, 3) := dk_167 0 4 (dk_at dksX4_neededPairs_2 1 rfl rfl)
theorem dX4_neededPairs_50 : decode cX4_neededPairs 50 = .ok (.iconst 0, 1) := dk_3 (dk_at dksX4_neededPairs_2 4 rfl rfl)
theorem dX4_neededPairs_51 : decode cX4_neededPairs 51 = .ok (.iadd, 1) := dk_96 (dk_at dksX4_neededPairs_2 5 rfl rfl)
theorem dX4_neededPairs_52 : decode cX4_neededPairs 52 = .ok (.istore_n 1, 1) := dk_60 (dk_at dksX4_neededPairs_2 6 rfl rfl)
theorem dX4_neededPairs_53 : decode cX4_neededPairs 53 = .ok (.iinc 2 1, 3) := dk_132 2 1 (dk_at dksX4_neededPairs_2 7 rfl rfl)
theorem dX4_neededPairs_56 : decode cX4_neededPairs 56 = .ok (.goto (-39), 3) := dk_167 255 217 (dk_at dksX4_neededPairs_2 10 rfl rfl)
theorem dX4_neededPairs_59 : decode cX4_neededPairs 59 = .ok (.iload_n 1, 1) := dk_27 (dk_at dksX4_neededPairs_2 13 rfl rfl)
theorem dX4_neededPairs_60 : decode cX4_neededPairs 60 = .ok (.ireturn, 1) := dk_172 (dk_at dksX4_neededPairs_2 14 rfl rfl)
abbrev cX4_remembers : ByteArray := prog_22_method_56_code
def yX4_remembers : MethodName := ⟨RX4, "remembers", "()V"⟩
def dkwX4_remembers_1 : List UInt8 := [42, 180, 0, 48, 27, 42, 180, 0, 42, 27, 46, 79, 132, 1, 1, 167, 255, 223, 177]
abbrev dktX4_remembers_1 : List UInt8 := dkwX4_remembers_1 ++ []
def dkwX4_remembers_0 : List UInt8 := [42, 182, 0, 199, 3, 60, 27, 16, 24, 162, 0, 33, 42, 180, 0, 45, 27, 42, 180, 0, 39, 27, 46, 79]
abbrev dktX4_remembers_0 : List UInt8 := dkwX4_remembers_0 ++ dktX4_remembers_1
theorem dksX4_remembers_0 : cX4_remembers.data.toList.drop 0 = dktX4_remembers_0 := by decide +kernel
theorem dksX4_remembers_1 : cX4_remembers.data.toList.drop 24 = dktX4_remembers_1 := dk_seg dksX4_remembers_0 24 rfl rfl
theorem dX4_remembers_0 : decode cX4_remembers 0 = .ok (.aload_n 0, 1) := dk_42 (dk_at dksX4_remembers_0 0 rfl rfl)
theorem dX4_remembers_1 : decode cX4_remembers 1 = .ok (.invokevirtual 199, 3) := dk_182 0 199 (dk_at dksX4_remembers_0 1 rfl rfl)
theorem dX4_remembers_4 : decode cX4_remembers 4 = .ok (.iconst 0, 1) := dk_3 (dk_at dksX4_remembers_0 4 rfl rfl)
theorem dX4_remembers_5 : decode cX4_remembers 5 = .ok (.istore_n 1, 1) := dk_60 (dk_at dksX4_remembers_0 5 rfl rfl)
theorem dX4_remembers_6 : decode cX4_remembers 6 = .ok (.iload_n 1, 1) := dk_27 (dk_at dksX4_remembers_0 6 rfl rfl)
theorem dX4_remembers_7 : decode cX4_remembers 7 = .ok (.bipush 24, 2) := dk_16 24 (dk_at dksX4_remembers_0 7 rfl rfl)
theorem dX4_remembers_9 : decode cX4_remembers 9 = .ok (.if_icmp .ge 33, 3) := dk_162 0 33 (dk_at dksX4_remembers_0 9 rfl rfl)
theorem dX4_remembers_12 : decode cX4_remembers 12 = .ok (.aload_n 0, 1) := dk_42 (dk_at dksX4_remembers_0 12 rfl rfl)
theorem dX4_remembers_13 : decode cX4_remembers 13 = .ok (.getfield 45, 3) := dk_180 0 45 (dk_at dksX4_remembers_0 13 rfl rfl)
theorem dX4_remembers_16 : decode cX4_remembers 16 = .ok (.iload_n 1, 1) := dk_27 (dk_at dksX4_remembers_0 16 rfl rfl)
theorem dX4_remembers_17 : decode cX4_remembers 17 = .ok (.aload_n 0, 1) := dk_42 (dk_at dksX4_remembers_0 17 rfl rfl)
theorem dX4_remembers_18 : decode cX4_remembers 18 = .ok (.getfield 39, 3) := dk_180 0 39 (dk_at dksX4_remembers_0 18 rfl rfl)
theorem dX4_remembers_21 : decode cX4_remembers 21 = .ok (.iload_n 1, 1) := dk_27 (dk_at dksX4_remembers_0 21 rfl rfl)
theorem dX4_remembers_22 : decode cX4_remembers 22 = .ok (.iaload, 1) := dk_46 (dk_at dksX4_remembers_0 22 rfl rfl)
theorem dX4_remembers_23 : decode cX4_remembers 23 = .ok (.iastore, 1) := dk_79 (dk_at dksX4_remembers_0 23 rfl rfl)
theorem dX4_remembers_24 : decode cX4_remembers 24 = .ok (.aload_n 0, 1) := dk_42 (dk_at dksX4_remembers_1 0 rfl rfl)
theorem dX4_remembers_25 : decode cX4_remembers 25 = .ok (.getfield 48, 3) := dk_180 0 48 (dk_at dksX4_remembers_1 1 rfl rfl)
theorem dX4_remembers_28 : decode cX4_remembers 28 = .ok (.iload_n 1, 1) := dk_27 (dk_at dksX4_remembers_1 4 rfl rfl)
theorem dX4_remembers_29 : decode cX4_remembers 29 = .ok (.aload_n 0, 1) := dk_42 (dk_at dksX4_remembers_1 5 rfl rfl)
theorem dX4_remembers_30 : decode cX4_remembers 30 = .ok (.getfield 42, 3) := dk_180 0 42 (dk_at dksX4_remembers_1 6 rfl rfl)
theorem dX4_remembers_33 : decode cX4_remembers 33 = .ok (.iload_n 1, 1) := dk_27 (dk_at dksX4_remembers_1 9 rfl rfl)
theorem dX4_remembers_34 : decode cX4_remembers 34 = .ok (.iaload, 1) := dk_46 (dk_at dksX4_remembers_1 10 rfl rfl)
theorem dX4_remembers_35 : decode cX4_remembers 35 = .ok (.iastore, 1) := dk_79 (dk_at dksX4_remembers_1 11 rfl rfl)
theorem dX4_remembers_36 : decode cX4_remembers 36 = .ok (.iinc 1 1, 3) := dk_132 1 1 (dk_at dksX4_remembers_1 12 rfl rfl)
theorem dX4_remembers_39 : decode cX4_remembers 39 = .ok (.goto (-33), 3) := dk_167 255 223 (dk_at dksX4_remembers_1 15 rfl rfl)
theorem dX4_remembers_42 : decode cX4_remembers 42 = .ok (.return_, 1) := dk_177 (dk_at dksX4_remembers_1 18 rfl rfl)
abbrev cX4_appliesAll : ByteArray := prog_22_method_55_code
def yX4_appliesAll : MethodName := ⟨RX4, "appliesAll", "()V"⟩
def dkwX4_appliesAll_1 : List UInt8 := [132, 1, 1, 167, 255, 233, 42, 3, 42, 180, 0, 161, 182, 0, 195, 177]
abbrev dktX4_appliesAll_1 : List UInt8 := dkwX4_appliesAll_1 ++ []
def dkwX4_appliesAll_0 : List UInt8 := [3, 60, 27, 16, 24, 162, 0, 23, 42, 180, 0, 39, 27, 3, 79, 42, 180, 0, 42, 27, 3, 79]
abbrev dktX4_appliesAll_0 : List UInt8 := dkwX4_appliesAll_0 ++ dktX4_appliesAll_1
theorem dksX4_appliesAll_0 : cX4_appliesAll.data.toList.drop 0 = dktX4_appliesAll_0 := by decide +kernel
theorem dksX4_appliesAll_1 : cX4_appliesAll.data.toList.drop 22 = dktX4_appliesAll_1 := dk_seg dksX4_appliesAll_0 22 rfl rfl
theorem dX4_appliesAll_0 : decode cX4_appliesAll 0 = .ok (.iconst 0, 1) := dk_3 (dk_at dksX4_appliesAll_0 0 rfl rfl)
theorem dX4_appliesAll_1 : decode cX4_appliesAll 1 = .ok (.istore_n 1, 1) := dk_60 (dk_at dksX4_appliesAll_0 1 rfl rfl)
theorem dX4_appliesAll_2 : decode cX4_appliesAll 2 = .ok (.iload_n 1, 1) := dk_27 (dk_at dksX4_appliesAll_0 2 rfl rfl)
theorem dX4_appliesAll_3 : decode cX4_appliesAll 3 = .ok (.bipush 24, 2) := dk_16 24 (dk_at dksX4_appliesAll_0 3 rfl rfl)
theorem dX4_appliesAll_5 : decode cX4_appliesAll 5 = .ok (.if_icmp .ge 23, 3) := dk_162 0 23 (dk_at dksX4_appliesAll_0 5 rfl rfl)
theorem dX4_appliesAll_8 : decode cX4_appliesAll 8 = .ok (.aload_n 0, 1) := dk_42 (dk_at dksX4_appliesAll_0 8 rfl rfl)
theorem dX4_appliesAll_9 : decode cX4_appliesAll 9 = .ok (.getfield 39, 3) := dk_180 0 39 (dk_at dksX4_appliesAll_0 9 rfl rfl)
theorem dX4_appliesAll_12 : decode cX4_appliesAll 12 = .ok (.iload_n 1, 1) := dk_27 (dk_at dksX4_appliesAll_0 12 rfl rfl)
theorem dX4_appliesAll_13 : decode cX4_appliesAll 13 = .ok (.iconst 0, 1) := dk_3 (dk_at dksX4_appliesAll_0 13 rfl rfl)
theorem dX4_appliesAll_14 : decode cX4_appliesAll 14 = .ok (.iastore, 1) := dk_79 (dk_at dksX4_appliesAll_0 14 rfl rfl)
theorem dX4_appliesAll_15 : decode cX4_appliesAll 15 = .ok (.aload_n 0, 1) := dk_42 (dk_at dksX4_appliesAll_0 15 rfl rfl)
theorem dX4_appliesAll_16 : decode cX4_appliesAll 16 = .ok (.getfield 42, 3) := dk_180 0 42 (dk_at dksX4_appliesAll_0 16 rfl rfl)
theorem dX4_appliesAll_19 : decode cX4_appliesAll 19 = .ok (.iload_n 1, 1) := dk_27 (dk_at dksX4_appliesAll_0 19 rfl rfl)
theorem dX4_appliesAll_20 : decode cX4_appliesAll 20 = .ok (.iconst 0, 1) := dk_3 (dk_at dksX4_appliesAll_0 20 rfl rfl)
theorem dX4_appliesAll_21 : decode cX4_appliesAll 21 = .ok (.iastore, 1) := dk_79 (dk_at dksX4_appliesAll_0 21 rfl rfl)
theorem dX4_appliesAll_22 : decode cX4_appliesAll 22 = .ok (.iinc 1 1, 3) := dk_132 1 1 (dk_at dksX4_appliesAll_1 0 rfl rfl)
theorem dX4_appliesAll_25 : decode cX4_appliesAll 25 = .ok (.goto (-23), 3) := dk_167 255 233 (dk_at dksX4_appliesAll_1 3 rfl rfl)
theorem dX4_appliesAll_28 : decode cX4_appliesAll 28 = .ok (.aload_n 0, 1) := dk_42 (dk_at dksX4_appliesAll_1 6 rfl rfl)
theorem dX4_appliesAll_29 : decode cX4_appliesAll 29 = .ok (.iconst 0, 1) := dk_3 (dk_at dksX4_appliesAll_1 7 rfl rfl)
theorem dX4_appliesAll_30 : decode cX4_appliesAll 30 = .ok (.aload_n 0, 1) := dk_42 (dk_at dksX4_appliesAll_1 8 rfl rfl)
theorem dX4_appliesAll_31 : decode cX4_appliesAll 31 = .ok (.getfield 161, 3) := dk_180 0 161 (dk_at dksX4_appliesAll_1 9 rfl rfl)
theorem dX4_appliesAll_34 : decode cX4_appliesAll 34 = .ok (.invokevirtual 195, 3) := dk_182 0 195 (dk_at dksX4_appliesAll_1 12 rfl rfl)
theorem dX4_appliesAll_37 : decode cX4_appliesAll 37 = .ok (.return_, 1) := dk_177 (dk_at dksX4_appliesAll_1 15 rfl rfl)
abbrev cX4_applies : ByteArray := prog_22_method_54_code
def yX4_applies : MethodName := ⟨RX4, "applies", "(II)V"⟩
def dkwX4_applies_5 : List UInt8 := [182, 0, 195, 177]
abbrev dktX4_applies_5 : List UInt8 := dkwX4_applies_5 ++ []
def dkwX4_applies_4 : List UInt8 := [4, 96, 28, 182, 0, 195, 42, 180, 0, 33, 27, 46, 16, 40, 160, 0, 13, 42, 27, 4, 96, 28, 4, 100]
abbrev dktX4_applies_4 : List UInt8 := dkwX4_applies_4 ++ dktX4_applies_5
def dkwX4_applies_3 : List UInt8 := [160, 0, 30, 42, 180, 0, 42, 42, 180, 0, 36, 27, 46, 42, 27, 4, 96, 28, 182, 0, 192, 79, 42, 27]
abbrev dktX4_applies_3 : List UInt8 := dkwX4_applies_3 ++ dktX4_applies_4
def dkwX4_applies_2 : List UInt8 := [27, 29, 182, 0, 195, 42, 29, 4, 96, 28, 182, 0, 195, 177, 42, 180, 0, 33, 27, 46, 16, 126]
abbrev dktX4_applies_2 : List UInt8 := dkwX4_applies_2 ++ dktX4_applies_3
def dkwX4_applies_1 : List UInt8 := [182, 0, 192, 79, 42, 180, 0, 42, 42, 180, 0, 36, 29, 46, 42, 29, 4, 96, 28, 182, 0, 192, 79, 42]
abbrev dktX4_applies_1 : List UInt8 := dkwX4_applies_1 ++ dktX4_applies_2
def dkwX4_applies_0 : List UInt8 := [42, 27, 28, 182, 0, 173, 62, 29, 155, 0, 54, 42, 180, 0, 39, 42, 180, 0, 36, 29, 46, 42, 27, 29]
abbrev dktX4_applies_0 : List UInt8 := dkwX4_applies_0 ++ dktX4_applies_1
theorem dksX4_applies_0 : cX4_applies.data.toList.drop 0 = dktX4_applies_0 := by decide +kernel
theorem dksX4_applies_1 : cX4_applies.data.toList.drop 24 = dktX4_applies_1 := dk_seg dksX4_applies_0 24 rfl rfl
theorem dksX4_applies_2 : cX4_applies.data.toList.drop 48 = dktX4_applies_2 := dk_seg dksX4_applies_1 24 rfl rfl
theorem dksX4_applies_3 : cX4_applies.data.toList.drop 70 = dktX4_applies_3 := dk_seg dksX4_applies_2 22 rfl rfl
theorem dksX4_applies_4 : cX4_applies.data.toList.drop 94 = dktX4_applies_4 := dk_seg dksX4_applies_3 24 rfl rfl
theorem dksX4_applies_5 : cX4_applies.data.toList.drop 118 = dktX4_applies_5 := dk_seg dksX4_applies_4 24 rfl rfl
theorem dX4_applies_0 : decode cX4_applies 0 = .ok (.aload_n 0, 1) := dk_42 (dk_at dksX4_applies_0 0 rfl rfl)
theorem dX4_applies_1 : decode cX4_applies 1 = .ok (.iload_n 1, 1) := dk_27 (dk_at dksX4_applies_0 1 rfl rfl)
theorem dX4_applies_2 : decode cX4_applies 2 = .ok (.iload_n 2, 1) := dk_28 (dk_at dksX4_applies_0 2 rfl rfl)
theorem dX4_applies_3 : decode cX4_applies 3 = .ok (.invokevirtual 173, 3) := dk_182 0 173 (dk_at dksX4_applies_0 3 rfl rfl)
theorem dX4_applies_6 : decode cX4_applies 6 = .ok (.istore_n 3, 1) := dk_62 (dk_at dksX4_applies_0 6 rfl rfl)
theorem dX4_applies_7 : decode cX4_applies 7 = .ok (.iload_n 3, 1) := dk_29 (dk_at dksX4_applies_0 7 rfl rfl)
theorem dX4_applies_8 : decode cX4_applies 8 = .ok (.ifCond .lt 54, 3) := dk_155 0 54 (dk_at dksX4_applies_0 8 rfl rfl)
theorem dX4_applies_11 : decode cX4_applies 11 = .ok (.aload_n 0, 1) := dk_42 (dk_at dksX4_applies_0 11 rfl rfl)
theorem dX4_applies_12 : decode cX4_applies 12 = .ok (.getfield 39, 3) := dk_180 0 39 (dk_at dksX4_applies_0 12 rfl rfl)
theorem dX4_applies_15 : decode cX4_applies 15 = .ok (.aload_n 0, 1) := dk_42 (dk_at dksX4_applies_0 15 rfl rfl)
theorem dX4_applies_16 : decode cX4_applies 16 = .ok (.getfield 36, 3) := dk_180 0 36 (dk_at dksX4_applies_0 16 rfl rfl)
theorem dX4_applies_19 : decode cX4_applies 19 = .ok (.iload_n 3, 1) := dk_29 (dk_at dksX4_applies_0 19 rfl rfl)
theorem dX4_applies_20 : decode cX4_applies 20 = .ok (.iaload, 1) := dk_46 (dk_at dksX4_applies_0 20 rfl rfl)
theorem dX4_applies_21 : decode cX4_applies 21 = .ok (.aload_n 0, 1) := dk_42 (dk_at dksX4_applies_0 21 rfl rfl)
theorem dX4_applies_22 : decode cX4_applies 22 = .ok (.iload_n 1, 1) := dk_27 (dk_at dksX4_applies_0 22 rfl rfl)
theorem dX4_applies_23 : decode cX4_applies 23 = .ok (.iload_n 3, 1) := dk_29 (dk_at dksX4_applies_0 23 rfl rfl)
theorem dX4_applies_24 : decode cX4_applies 24 = .ok (.invokevirtual 192, 3) := dk_182 0 192 (dk_at dksX4_applies_1 0 rfl rfl)
theorem dX4_applies_27 : decode cX4_applies 27 = .ok (.iastore, 1) := dk_79 (dk_at dksX4_applies_1 3 rfl rfl)
theorem dX4_applies_28 : decode cX4_applies 28 = .ok (.aload_n 0, 1) := dk_42 (dk_at dksX4_applies_1 4 rfl rfl)
theorem dX4_applies_29 : decode cX4_applies 29 = .ok (.getfield 42, 3) := dk_180 0 42 (dk_at dksX4_applies_1 5 rfl rfl)
theorem dX4_applies_32 : decode cX4_applies 32 = .ok (.aload_n 0, 1) := dk_42 (dk_at dksX4_applies_1 8 rfl rfl)
theorem dX4_applies_33 : decode cX4_applies 33 = .ok (.getfield 36, 3) := dk_180 0 36 (dk_at dksX4_applies_1 9 rfl rfl)
theorem dX4_applies_36 : decode cX4_applies 36 = .ok (.iload_n 3, 1) := dk_29 (dk_at dksX4_applies_1 12 rfl rfl)
theorem dX4_applies_37 : decode cX4_applies 37 = .ok (.iaload, 1) := dk_46 (dk_at dksX4_applies_1 13 rfl rfl)
theorem dX4_applies_38 : decode cX4_applies 38 = .ok (.aload_n 0, 1) := dk_42 (dk_at dksX4_applies_1 14 rfl rfl)
theorem dX4_applies_39 : decode cX4_applies 39 = .ok (.iload_n 3, 1) := dk_29 (dk_at dksX4_applies_1 15 rfl rfl)
theorem dX4_applies_40 : decode cX4_applies 40 = .ok (.iconst 1, 1) := dk_4 (dk_at dksX4_applies_1 16 rfl rfl)
theorem dX4_applies_41 : decode cX4_applies 41 = .ok (.iadd, 1) := dk_96 (dk_at dksX4_applies_1 17 rfl rfl)
theorem dX4_applies_42 : decode cX4_applies 42 = .ok (.iload_n 2, 1) := dk_28 (dk_at dksX4_applies_1 18 rfl rfl)
theorem dX4_applies_43 : decode cX4_applies 43 = .ok (.invokevirtual 192, 3) := dk_182 0 192 (dk_at dksX4_applies_1 19 rfl rfl)
theorem dX4_applies_46 : decode cX4_applies 46 = .ok (.iastore, 1) := dk_79 (dk_at dksX4_applies_1 22 rfl rfl)
theorem dX4_applies_47 : decode cX4_applies 47 = .ok (.aload_n 0, 1) := dk_42 (dk_at dksX4_applies_1 23 rfl rfl)
theorem dX4_applies_48 : decode cX4_applies 48 = .ok (.iload_n 1, 1) := dk_27 (dk_at dksX4_applies_2 0 rfl rfl)
theorem dX4_applies_49 : decode cX4_applies 49 = .ok (.iload_n 3, 1) := dk_29 (dk_at dksX4_applies_2 1 rfl rfl)
theorem dX4_applies_50 : decode cX4_applies 50 = .ok (.invokevirtual 195, 3) := dk_182 0 195 (dk_at dksX4_applies_2 2 rfl rfl)
theorem dX4_applies_53 : decode cX4_applies 53 = .ok (.aload_n 0, 1) := dk_42 (dk_at dksX4_applies_2 5 rfl rfl)
theorem dX4_applies_54 : decode cX4_applies 54 = .ok (.iload_n 3, 1) := dk_29 (dk_at dksX4_applies_2 6 rfl rfl)
theorem dX4_applies_55 : decode cX4_applies 55 = .ok (.iconst 1, 1) := dk_4 (dk_at dksX4_applies_2 7 rfl rfl)
theorem dX4_applies_56 : decode cX4_applies 56 = .ok (.iadd, 1) := dk_96 (dk_at dksX4_applies_2 8 rfl rfl)
theorem dX4_applies_57 : decode cX4_applies 57 = .ok (.iload_n 2, 1) := dk_28 (dk_at dksX4_applies_2 9 rfl rfl)
theorem dX4_applies_58 : decode cX4_applies 58 = .ok (.invokevirtual 195, 3) := dk_182 0 195 (dk_at dksX4_applies_2 10 rfl rfl)
theorem dX4_applies_61 : decode cX4_applies 61 = .ok (.return_, 1) := dk_177 (dk_at dksX4_applies_2 13 rfl rfl)
theorem dX4_applies_62 : decode cX4_applies 62 = .ok (.aload_n 0, 1) := dk_42 (dk_at dksX4_applies_2 14 rfl rfl)
theorem dX4_applies_63 : decode cX4_applies 63 = .ok (.getfield 33, 3) := dk_180 0 33 (dk_at dksX4_applies_2 15 rfl rfl)
theorem dX4_applies_66 : decode cX4_applies 66 = .ok (.iload_n 1, 1) := dk_27 (dk_at dksX4_applies_2 18 rfl rfl)
theorem dX4_applies_67 : decode cX4_applies 67 = .ok (.iaload, 1) := dk_46 (dk_at dksX4_applies_2 19 rfl rfl)
theorem dX4_applies_68 : decode cX4_applies 68 = .ok (.bipush 126, 2) := dk_16 126 (dk_at dksX4_applies_2 20 rfl rfl)
theorem dX4_applies_70 : decode cX4_applies 70 = .ok (.if_icmp .ne 30, 3) := dk_160 0 30 (dk_at dksX4_applies_3 0 rfl rfl)
theorem dX4_applies_73 : decode cX4_applies 73 = .ok (.aload_n 0, 1) := dk_42 (dk_at dksX4_applies_3 3 rfl rfl)
theorem dX4_applies_74 : decode cX4_applies 74 = .ok (.getfield 42, 3) := dk_180 0 42 (dk_at dksX4_applies_3 4 rfl rfl)
theorem dX4_applies_77 : decode cX4_applies 77 = .ok (.aload_n 0, 1) := dk_42 (dk_at dksX4_applies_3 7 rfl rfl)
theorem dX4_applies_78 : decode cX4_applies 78 = .ok (.getfield 36, 3) := dk_180 0 36 (dk_at dksX4_applies_3 8 rfl rfl)
theorem dX4_applies_81 : decode cX4_applies 81 = .ok (.iload_n 1, 1) := dk_27 (dk_at dksX4_applies_3 11 rfl rfl)
theorem dX4_applies_82 : decode cX4_applies 82 = .ok (.iaload, 1) := dk_46 (dk_at dksX4_applies_3 12 rfl rfl)
theorem dX4_applies_83 : decode cX4_applies 83 = .ok (.aload_n 0, 1) := dk_42 (dk_at dksX4_applies_3 13 rfl rfl)
theorem dX4_applies_84 : decode cX4_applies 84 = .ok (.iload_n 1, 1) := dk_27 (dk_at dksX4_applies_3 14 rfl rfl)
theorem dX4_applies_85 : decode cX4_applies 85 = .ok (.iconst 1, 1) := dk_4 (dk_at dksX4_applies_3 15 rfl rfl)
theorem dX4_applies_86 : decode cX4_applies 86 = .ok (.iadd, 1) := dk_96 (dk_at dksX4_applies_3 16 rfl rfl)
theorem dX4_applies_87 : decode cX4_applies 87 = .ok (.iload_n 2, 1) := dk_28 (dk_at dksX4_applies_3 17 rfl rfl)
theorem dX4_applies_88 : decode cX4_applies 88 = .ok (.invokevirtual 192, 3) := dk_182 0 192 (dk_at dksX4_applies_3 18 rfl rfl)
theorem dX4_applies_91 : decode cX4_applies 91 = .ok (.iastore, 1) := dk_79 (dk_at dksX4_applies_3 21 rfl rfl)
theorem dX4_applies_92 : decode cX4_applies 92 = .ok (.aload_n 0, 1) := dk_42 (dk_at dksX4_applies_3 22 rfl rfl)
theorem dX4_applies_93 : decode cX4_applies 93 = .ok (.iload_n 1, 1) := dk_27 (dk_at dksX4_applies_3 23 rfl rfl)
theorem dX4_applies_94 : decode cX4_applies 94 = .ok (.iconst 1, 1) := dk_4 (dk_at dksX4_applies_4 0 rfl rfl)
theorem dX4_applies_95 : decode cX4_applies 95 = .ok (.iadd, 1) := dk_96 (dk_at dksX4_applies_4 1 rfl rfl)
theorem dX4_applies_96 : decode cX4_applies 96 = .ok (.iload_n 2, 1) := dk_28 (dk_at dksX4_applies_4 2 rfl rfl)
theorem dX4_applies_97 : decode cX4_applies 97 = .ok (.invokevirtual 195, 3) := dk_182 0 195 (dk_at dksX4_applies_4 3 rfl rfl)
theorem dX4_applies_100 : decode cX4_applies 100 = .ok (.aload_n 0, 1) := dk_42 (dk_at dksX4_applies_4 6 rfl rfl)
theorem dX4_applies_101 : decode cX4_applies 101 = .ok (.getfield 33, 3) := dk_180 0 33 (dk_at dksX4_applies_4 7 rfl rfl)
theorem dX4_applies_104 : decode cX4_applies 104 = .ok (.iload_n 1, 1) := dk_27 (dk_at dksX4_applies_4 10 rfl rfl)
theorem dX4_applies_105 : decode cX4_applies 105 = .ok (.iaload, 1) := dk_46 (dk_at dksX4_applies_4 11 rfl rfl)
theorem dX4_applies_106 : decode cX4_applies 106 = .ok (.bipush 40, 2) := dk_16 40 (dk_at dksX4_applies_4 12 rfl rfl)
theorem dX4_applies_108 : decode cX4_applies 108 = .ok (.if_icmp .ne 13, 3) := dk_160 0 13 (dk_at dksX4_applies_4 14 rfl rfl)
theorem dX4_applies_111 : decode cX4_applies 111 = .ok (.aload_n 0, 1) := dk_42 (dk_at dksX4_applies_4 17 rfl rfl)
theorem dX4_applies_112 : decode cX4_applies 112 = .ok (.iload_n 1, 1) := dk_27 (dk_at dksX4_applies_4 18 rfl rfl)
theorem dX4_applies_113 : decode cX4_applies 113 = .ok (.iconst 1, 1) := dk_4 (dk_at dksX4_applies_4 19 rfl rfl)
theorem dX4_applies_114 : decode cX4_applies 114 = .ok (.iadd, 1) := dk_96 (dk_at dksX4_applies_4 20 rfl rfl)
theorem dX4_applies_115 : decode cX4_applies 115 = .ok (.iload_n 2, 1) := dk_28 (dk_at dksX4_applies_4 21 rfl rfl)
theorem dX4_applies_116 : decode cX4_applies 116 = .ok (.iconst 1, 1) := dk_4 (dk_at dksX4_applies_4 22 rfl rfl)
theorem dX4_applies_117 : decode cX4_applies 117 = .ok (.isub, 1) := dk_100 (dk_at dksX4_applies_4 23 rfl rfl)
theorem dX4_applies_118 : decode cX4_applies 118 = .ok (.invokevirtual 195, 3) := dk_182 0 195 (dk_at dksX4_applies_5 0 rfl rfl)
theorem dX4_applies_121 : decode cX4_applies 121 = .ok (.return_, 1) := dk_177 (dk_at dksX4_applies_5 3 rfl rfl)
abbrev cX4_placesOf : ByteArray := prog_22_method_53_code
def yX4_placesOf : MethodName := ⟨RX4, "placesOf", "(II)I"⟩
def dkwX4_placesOf_2 : List UInt8 := [29, 172]
abbrev dktX4_placesOf_2 : List UInt8 := dkwX4_placesOf_2 ++ []
def dkwX4_placesOf_1 : List UInt8 := [153, 0, 7, 3, 167, 0, 12, 4, 42, 180, 0, 36, 21, 4, 46, 120, 128, 62, 132, 4, 1, 167, 255, 218]
abbrev dktX4_placesOf_1 : List UInt8 := dkwX4_placesOf_1 ++ dktX4_placesOf_2
def dkwX4_placesOf_0 : List UInt8 := [3, 62, 27, 54, 4, 21, 4, 28, 162, 0, 38, 29, 42, 180, 0, 33, 21, 4, 46, 184, 0, 114]
abbrev dktX4_placesOf_0 : List UInt8 := dkwX4_placesOf_0 ++ dktX4_placesOf_1
theorem dksX4_placesOf_0 : cX4_placesOf.data.toList.drop 0 = dktX4_placesOf_0 := by decide +kernel
theorem dksX4_placesOf_1 : cX4_placesOf.data.toList.drop 22 = dktX4_placesOf_1 := dk_seg dksX4_placesOf_0 22 rfl rfl
theorem dksX4_placesOf_2 : cX4_placesOf.data.toList.drop 46 = dktX4_placesOf_2 := dk_seg dksX4_placesOf_1 24 rfl rfl
theorem dX4_placesOf_0 : decode cX4_placesOf 0 = .ok (.iconst 0, 1) := dk_3 (dk_at dksX4_placesOf_0 0 rfl rfl)
theorem dX4_placesOf_1 : decode cX4_placesOf 1 = .ok (.istore_n 3, 1) := dk_62 (dk_at dksX4_placesOf_0 1 rfl rfl)
theorem dX4_placesOf_2 : decode cX4_placesOf 2 = .ok (.iload_n 1, 1) := dk_27 (dk_at dksX4_placesOf_0 2 rfl rfl)
theorem dX4_placesOf_3 : decode cX4_placesOf 3 = .ok (.istore 4, 2) := dk_54 4 (dk_at dksX4_placesOf_0 3 rfl rfl)
theorem dX4_placesOf_5 : decode cX4_placesOf 5 = .ok (.iload 4, 2) := dk_21 4 (dk_at dksX4_placesOf_0 5 rfl rfl)
theorem dX4_placesOf_7 : decode cX4_placesOf 7 = .ok (.iload_n 2, 1) := dk_28 (dk_at dksX4_placesOf_0 7 rfl rfl)
theorem dX4_placesOf_8 : decode cX4_placesOf 8 = .ok (.if_icmp .ge 38, 3) := dk_162 0 38 (dk_at dksX4_placesOf_0 8 rfl rfl)
theorem dX4_placesOf_11 : decode cX4_placesOf 11 = .ok (.iload_n 3, 1) := dk_29 (dk_at dksX4_placesOf_0 11 rfl rfl)
theorem dX4_placesOf_12 : decode cX4_placesOf 12 = .ok (.aload_n 0, 1) := dk_42 (dk_at dksX4_placesOf_0 12 rfl rfl)
theorem dX4_placesOf_13 : decode cX4_placesOf 13 = .ok (.getfield 33, 3) := dk_180 0 33 (dk_at dksX4_placesOf_0 13 rfl rfl)
theorem dX4_placesOf_16 : decode cX4_placesOf 16 = .ok (.iload 4, 2) := dk_21 4 (dk_at dksX4_placesOf_0 16 rfl rfl)
theorem dX4_placesOf_18 : decode cX4_placesOf 18 = .ok (.iaload, 1) := dk_46 (dk_at dksX4_placesOf_0 18 rfl rfl)
theorem dX4_placesOf_19 : decode cX4_placesOf 19 = .ok (.invokestatic 114, 3) := dk_184 0 114 (dk_at dksX4_placesOf_0 19 rfl rfl)
theorem dX4_placesOf_22 : decode cX4_placesOf 22 = .ok (.ifCond .eq 7, 3) := dk_153 0 7 (dk_at dksX4_placesOf_1 0 rfl rfl)
theorem dX4_placesOf_25 : decode cX4_placesOf 25 = .ok (.iconst 0, 1) := dk_3 (dk_at dksX4_placesOf_1 3 rfl rfl)
theorem dX4_placesOf_26 : decode cX4_placesOf 26 = .ok (.goto 12, 3) := dk_167 0 12 (dk_at dksX4_placesOf_1 4 rfl rfl)
theorem dX4_placesOf_29 : decode cX4_placesOf 29 = .ok (.iconst 1, 1) := dk_4 (dk_at dksX4_placesOf_1 7 rfl rfl)
theorem dX4_placesOf_30 : decode cX4_placesOf 30 = .ok (.aload_n 0, 1) := dk_42 (dk_at dksX4_placesOf_1 8 rfl rfl)
theorem dX4_placesOf_31 : decode cX4_placesOf 31 = .ok (.getfield 36, 3) := dk_180 0 36 (dk_at dksX4_placesOf_1 9 rfl rfl)
theorem dX4_placesOf_34 : decode cX4_placesOf 34 = .ok (.iload 4, 2) := dk_21 4 (dk_at dksX4_placesOf_1 12 rfl rfl)
theorem dX4_placesOf_36 : decode cX4_placesOf 36 = .ok (.iaload, 1) := dk_46 (dk_at dksX4_placesOf_1 14 rfl rfl)
theorem dX4_placesOf_37 : decode cX4_placesOf 37 = .ok (.ishl, 1) := dk_120 (dk_at dksX4_placesOf_1 15 rfl rfl)
theorem dX4_placesOf_38 : decode cX4_placesOf 38 = .ok (.ior, 1) := dk_128 (dk_at dksX4_placesOf_1 16 rfl rfl)
theorem dX4_placesOf_39 : decode cX4_placesOf 39 = .ok (.istore_n 3, 1) := dk_62 (dk_at dksX4_placesOf_1 17 rfl rfl)
theorem dX4_placesOf_40 : decode cX4_placesOf 40 = .ok (.iinc 4 1, 3) := dk_132 4 1 (dk_at dksX4_placesOf_1 18 rfl rfl)
theorem dX4_placesOf_43 : decode cX4_placesOf 43 = .ok (.goto (-38), 3) := dk_167 255 218 (dk_at dksX4_placesOf_1 21 rfl rfl)
theorem dX4_placesOf_46 : decode cX4_placesOf 46 = .ok (.iload_n 3, 1) := dk_29 (dk_at dksX4_placesOf_2 0 rfl rfl)
theorem dX4_placesOf_47 : decode cX4_placesOf 47 = .ok (.ireturn, 1) := dk_172 (dk_at dksX4_placesOf_2 1 rfl rfl)
abbrev cX4_isIdle : ByteArray := prog_22_method_60_code
def yX4_isIdle : MethodName := ⟨RX4, "isIdle", "(IZ)Z"⟩
def dkwX4_isIdle_2 : List UInt8 := [172, 42, 27, 16, 40, 21, 4, 182, 0, 209, 42, 29, 16, 41, 21, 5, 182, 0, 209, 21, 6, 172]
abbrev dktX4_isIdle_2 : List UInt8 := dkwX4_isIdle_2 ++ []
def dkwX4_isIdle_1 : List UInt8 := [182, 0, 202, 42, 27, 182, 0, 202, 42, 182, 0, 206, 54, 6, 21, 6, 153, 0, 9, 28, 153, 0, 5, 4]
abbrev dktX4_isIdle_1 : List UInt8 := dkwX4_isIdle_1 ++ dktX4_isIdle_2
def dkwX4_isIdle_0 : List UInt8 := [42, 27, 182, 0, 164, 62, 42, 180, 0, 36, 27, 46, 54, 4, 42, 180, 0, 36, 29, 46, 54, 5, 42, 29]
abbrev dktX4_isIdle_0 : List UInt8 := dkwX4_isIdle_0 ++ dktX4_isIdle_1
theorem dksX4_isIdle_0 : cX4_isIdle.data.toList.drop 0 = dktX4_isIdle_0 := by decide +kernel
theorem dksX4_isIdle_1 : cX4_isIdle.data.toList.drop 24 = dktX4_isIdle_1 := dk_seg dksX4_isIdle_0 24 rfl rfl
theorem dksX4_isIdle_2 : cX4_isIdle.data.toList.drop 48 = dktX4_isIdle_2 := dk_seg dksX4_isIdle_1 24 rfl rfl
theorem dX4_isIdle_0 : decode cX4_isIdle 0 = .ok (.aload_n 0, 1) := dk_42 (dk_at dksX4_isIdle_0 0 rfl rfl)
theorem dX4_isIdle_1 : decode cX4_isIdle 1 = .ok (.iload_n 1, 1) := dk_27 (dk_at dksX4_isIdle_0 1 rfl rfl)
theorem dX4_isIdle_2 : decode cX4_isIdle 2 = .ok (.invokevirtual 164, 3) := dk_182 0 164 (dk_at dksX4_isIdle_0 2 rfl rfl)
theorem dX4_isIdle_5 : decode cX4_isIdle 5 = .ok (.istore_n 3, 1) := dk_62 (dk_at dksX4_isIdle_0 5 rfl rfl)
theorem dX4_isIdle_6 : decode cX4_isIdle 6 = .ok (.aload_n 0, 1) := dk_42 (dk_at dksX4_isIdle_0 6 rfl rfl)
theorem dX4_isIdle_7 : decode cX4_isIdle 7 = .ok (.getfield 36, 3) := dk_180 0 36 (dk_at dksX4_isIdle_0 7 rfl rfl)
theorem dX4_isIdle_10 : decode cX4_isIdle 10 = .ok (.iload_n 1, 1) := dk_27 (dk_at dksX4_isIdle_0 10 rfl rfl)
theorem dX4_isIdle_11 : decode cX4_isIdle 11 = .ok (.iaload, 1) := dk_46 (dk_at dksX4_isIdle_0 11 rfl rfl)
theorem dX4_isIdle_12 : decode cX4_isIdle 12 = .ok (.istore 4, 2) := dk_54 4 (dk_at dksX4_isIdle_0 12 rfl rfl)
theorem dX4_isIdle_14 : decode cX4_isIdle 14 = .ok (.aload_n 0, 1) := dk_42 (dk_at dksX4_isIdle_0 14 rfl rfl)
theorem dX4_isIdle_15 : decode cX4_isIdle 15 = .ok (.getfield 36, 3) := dk_180 0 36 (dk_at dksX4_isIdle_0 15 rfl rfl)
theorem dX4_isIdle_18 : decode cX4_isIdle 18 = .ok (.iload_n 3, 1) := dk_29 (dk_at dksX4_isIdle_0 18 rfl rfl)
theorem dX4_isIdle_19 : decode cX4_isIdle 19 = .ok (.iaload, 1) := dk_46 (dk_at dksX4_isIdle_0 19 rfl rfl)
theorem dX4_isIdle_20 : decode cX4_isIdle 20 = .ok (.istore 5, 2) := dk_54 5 (dk_at dksX4_isIdle_0 20 rfl rfl)
theorem dX4_isIdle_22 : decode cX4_isIdle 22 = .ok (.aload_n 0, 1) := dk_42 (dk_at dksX4_isIdle_0 22 rfl rfl)
theorem dX4_isIdle_23 : decode cX4_isIdle 23 = .ok (.iload_n 3, 1) := dk_29 (dk_at dksX4_isIdle_0 23 rfl rfl)
theorem dX4_isIdle_24 : decode cX4_isIdle 24 = .ok (.invokevirtual 202, 3) := dk_182 0 202 (dk_at dksX4_isIdle_1 0 rfl rfl)
theorem dX4_isIdle_27 : decode cX4_isIdle 27 = .ok (.aload_n 0, 1) := dk_42 (dk_at dksX4_isIdle_1 3 rfl rfl)
theorem dX4_isIdle_28 : decode cX4_isIdle 28 = .ok (.iload_n 1, 1) := dk_27 (dk_at dksX4_isIdle_1 4 rfl rfl)
theorem dX4_isIdle_29 : decode cX4_isIdle 29 = .ok (.invokevirtual 202, 3) := dk_182 0 202 (dk_at dksX4_isIdle_1 5 rfl rfl)
theorem dX4_isIdle_32 : decode cX4_isIdle 32 = .ok (.aload_n 0, 1) := dk_42 (dk_at dksX4_isIdle_1 8 rfl rfl)
theorem dX4_isIdle_33 : decode cX4_isIdle 33 = .ok (.invokevirtual 206, 3) := dk_182 0 206 (dk_at dksX4_isIdle_1 9 rfl rfl)
theorem dX4_isIdle_36 : decode cX4_isIdle 36 = .ok (.istore 6, 2) := dk_54 6 (dk_at dksX4_isIdle_1 12 rfl rfl)
theorem dX4_isIdle_38 : decode cX4_isIdle 38 = .ok (.iload 6, 2) := dk_21 6 (dk_at dksX4_isIdle_1 14 rfl rfl)
theorem dX4_isIdle_40 : decode cX4_isIdle 40 = .ok (.ifCond .eq 9, 3) := dk_153 0 9 (dk_at dksX4_isIdle_1 16 rfl rfl)
theorem dX4_isIdle_43 : decode cX4_isIdle 43 = .ok (.iload_n 2, 1) := dk_28 (dk_at dksX4_isIdle_1 19 rfl rfl)
theorem dX4_isIdle_44 : decode cX4_isIdle 44 = .ok (.ifCond .eq 5, 3) := dk_153 0 5 (dk_at dksX4_isIdle_1 20 rfl rfl)
theorem dX4_isIdle_47 : decode cX4_isIdle 47 = .ok (.iconst 1, 1) := dk_4 (dk_at dksX4_isIdle_1 23 rfl rfl)
theorem dX4_isIdle_48 : decode cX4_isIdle 48 = .ok (.ireturn, 1) := dk_172 (dk_at dksX4_isIdle_2 0 rfl rfl)
theorem dX4_isIdle_49 : decode cX4_isIdle 49 = .ok (.aload_n 0, 1) := dk_42 (dk_at dksX4_isIdle_2 1 rfl rfl)
theorem dX4_isIdle_50 : decode cX4_isIdle 50 = .ok (.iload_n 1, 1) := dk_27 (dk_at dksX4_isIdle_2 2 rfl rfl)
theorem dX4_isIdle_51 : decode cX4_isIdle 51 = .ok (.bipush 40, 2) := dk_16 40 (dk_at dksX4_isIdle_2 3 rfl rfl)
theorem dX4_isIdle_53 : decode cX4_isIdle 53 = .ok (.iload 4, 2) := dk_21 4 (dk_at dksX4_isIdle_2 5 rfl rfl)
theorem dX4_isIdle_55 : decode cX4_isIdle 55 = .ok (.invokevirtual 209, 3) := dk_182 0 209 (dk_at dksX4_isIdle_2 7 rfl rfl)
theorem dX4_isIdle_58 : decode cX4_isIdle 58 = .ok (.aload_n 0, 1) := dk_42 (dk_at dksX4_isIdle_2 10 rfl rfl)
theorem dX4_isIdle_59 : decode cX4_isIdle 59 = .ok (.iload_n 3, 1) := dk_29 (dk_at dksX4_isIdle_2 11 rfl rfl)
theorem dX4_isIdle_60 : decode cX4_isIdle 60 = .ok (.bipush 41, 2) := dk_16 41 (dk_at dksX4_isIdle_2 12 rfl rfl)
theorem dX4_isIdle_62 : decode cX4_isIdle 62 = .ok (.iload 5, 2) := dk_21 5 (dk_at dksX4_isIdle_2 14 rfl rfl)
theorem dX4_isIdle_64 : decode cX4_isIdle 64 = .ok (.invokevirtual 209, 3) := dk_182 0 209 (dk_at dksX4_isIdle_2 16 rfl rfl)
theorem dX4_isIdle_67 : decode cX4_isIdle 67 = .ok (.iload 6, 2) := dk_21 6 (dk_at dksX4_isIdle_2 19 rfl rfl)
theorem dX4_isIdle_69 : decode cX4_isIdle 69 = .ok (.ireturn, 1) := dk_172 (dk_at dksX4_isIdle_2 21 rfl rfl)
abbrev cX4_takes : ByteArray := prog_22_method_58_code
def yX4_takes : MethodName := ⟨RX4, "takes", "(I)V"⟩
def dkwX4_takes_2 : List UInt8 := [132, 2, 1, 167, 255, 217, 177]
abbrev dktX4_takes_2 : List UInt8 := dkwX4_takes_2 ++ []
def dkwX4_takes_1 : List UInt8 := [28, 42, 180, 0, 33, 28, 4, 96, 46, 79, 42, 180, 0, 36, 28, 42, 180, 0, 36, 28, 4, 96, 46, 79]
abbrev dktX4_takes_1 : List UInt8 := dkwX4_takes_1 ++ dktX4_takes_2
def dkwX4_takes_0 : List UInt8 := [42, 89, 180, 0, 161, 4, 100, 181, 0, 161, 27, 61, 28, 42, 180, 0, 161, 162, 0, 37, 42, 180, 0, 33]
abbrev dktX4_takes_0 : List UInt8 := dkwX4_takes_0 ++ dktX4_takes_1
theorem dksX4_takes_0 : cX4_takes.data.toList.drop 0 = dktX4_takes_0 := by decide +kernel
theorem dksX4_takes_1 : cX4_takes.data.toList.drop 24 = dktX4_takes_1 := dk_seg dksX4_takes_0 24 rfl rfl
theorem dksX4_takes_2 : cX4_takes.data.toList.drop 48 = dktX4_takes_2 := dk_seg dksX4_takes_1 24 rfl rfl
theorem dX4_takes_0 : decode cX4_takes 0 = .ok (.aload_n 0, 1) := dk_42 (dk_at dksX4_takes_0 0 rfl rfl)
theorem dX4_takes_1 : decode cX4_takes 1 = .ok (.dup, 1) := dk_89 (dk_at dksX4_takes_0 1 rfl rfl)
theorem dX4_takes_2 : decode cX4_takes 2 = .ok (.getfield 161, 3) := dk_180 0 161 (dk_at dksX4_takes_0 2 rfl rfl)
theorem dX4_takes_5 : decode cX4_takes 5 = .ok (.iconst 1, 1) := dk_4 (dk_at dksX4_takes_0 5 rfl rfl)
theorem dX4_takes_6 : decode cX4_takes 6 = .ok (.isub, 1) := dk_100 (dk_at dksX4_takes_0 6 rfl rfl)
theorem dX4_takes_7 : decode cX4_takes 7 = .ok (.putfield 161, 3) := dk_181 0 161 (dk_at dksX4_takes_0 7 rfl rfl)
theorem dX4_takes_10 : decode cX4_takes 10 = .ok (.iload_n 1, 1) := dk_27 (dk_at dksX4_takes_0 10 rfl rfl)
theorem dX4_takes_11 : decode cX4_takes 11 = .ok (.istore_n 2, 1) := dk_61 (dk_at dksX4_takes_0 11 rfl rfl)
theorem dX4_takes_12 : decode cX4_takes 12 = .ok (.iload_n 2, 1) := dk_28 (dk_at dksX4_takes_0 12 rfl rfl)
theorem dX4_takes_13 : decode cX4_takes 13 = .ok (.aload_n 0, 1) := dk_42 (dk_at dksX4_takes_0 13 rfl rfl)
theorem dX4_takes_14 : decode cX4_takes 14 = .ok (.getfield 161, 3) := dk_180 0 161 (dk_at dksX4_takes_0 14 rfl rfl)
theorem dX4_takes_17 : decode cX4_takes 17 = .ok (.if_icmp .ge 37, 3) := dk_162 0 37 (dk_at dksX4_takes_0 17 rfl rfl)
theorem dX4_takes_20 : decode cX4_takes 20 = .ok (.aload_n 0, 1) := dk_42 (dk_at dksX4_takes_0 20 rfl rfl)
theorem dX4_takes_21 : decode cX4_takes 21 = .ok (.getfield 33, 3) := dk_180 0 33 (dk_at dksX4_takes_0 21 rfl rfl)
theorem dX4_takes_24 : decode cX4_takes 24 = .ok (.iload_n 2, 1) := dk_28 (dk_at dksX4_takes_1 0 rfl rfl)
theorem dX4_takes_25 : decode cX4_takes 25 = .ok (.aload_n 0, 1) := dk_42 (dk_at dksX4_takes_1 1 rfl rfl)
theorem dX4_takes_26 : decode cX4_takes 26 = .ok (.getfield 33, 3) := dk_180 0 33 (dk_at dksX4_takes_1 2 rfl rfl)
theorem dX4_takes_29 : decode cX4_takes 29 = .ok (.iload_n 2, 1) := dk_28 (dk_at dksX4_takes_1 5 rfl rfl)
theorem dX4_takes_30 : decode cX4_takes 30 = .ok (.iconst 1, 1) := dk_4 (dk_at dksX4_takes_1 6 rfl rfl)
theorem dX4_takes_31 : decode cX4_takes 31 = .ok (.iadd, 1) := dk_96 (dk_at dksX4_takes_1 7 rfl rfl)
theorem dX4_takes_32 : decode cX4_takes 32 = .ok (.iaload, 1) := dk_46 (dk_at dksX4_takes_1 8 rfl rfl)
theorem dX4_takes_33 : decode cX4_takes 33 = .ok (.iastore, 1) := dk_79 (dk_at dksX4_takes_1 9 rfl rfl)
theorem dX4_takes_34 : decode cX4_takes 34 = .ok (.aload_n 0, 1) := dk_42 (dk_at dksX4_takes_1 10 rfl rfl)
theorem dX4_takes_35 : decode cX4_takes 35 = .ok (.getfield 36, 3) := dk_180 0 36 (dk_at dksX4_takes_1 11 rfl rfl)
theorem dX4_takes_38 : decode cX4_takes 38 = .ok (.iload_n 2, 1) := dk_28 (dk_at dksX4_takes_1 14 rfl rfl)
theorem dX4_takes_39 : decode cX4_takes 39 = .ok (.aload_n 0, 1) := dk_42 (dk_at dksX4_takes_1 15 rfl rfl)
theorem dX4_takes_40 : decode cX4_takes 40 = .ok (.getfield 36, 3) := dk_180 0 36 (dk_at dksX4_takes_1 16 rfl rfl)
theorem dX4_takes_43 : decode cX4_takes 43 = .ok (.iload_n 2, 1) := dk_28 (dk_at dksX4_takes_1 19 rfl rfl)
theorem dX4_takes_44 : decode cX4_takes 44 = .ok (.iconst 1, 1) := dk_4 (dk_at dksX4_takes_1 20 rfl rfl)
theorem dX4_takes_45 : decode cX4_takes 45 = .ok (.iadd, 1) := dk_96 (dk_at dksX4_takes_1 21 rfl rfl)
theorem dX4_takes_46 : decode cX4_takes 46 = .ok (.iaload, 1) := dk_46 (dk_at dksX4_takes_1 22 rfl rfl)
theorem dX4_takes_47 : decode cX4_takes 47 = .ok (.iastore, 1) := dk_79 (dk_at dksX4_takes_1 23 rfl rfl)
theorem dX4_takes_48 : decode cX4_takes 48 = .ok (.iinc 2 1, 3) := dk_132 2 1 (dk_at dksX4_takes_2 0 rfl rfl)
theorem dX4_takes_51 : decode cX4_takes 51 = .ok (.goto (-39), 3) := dk_167 255 217 (dk_at dksX4_takes_2 3 rfl rfl)
theorem dX4_takes_54 : decode cX4_takes 54 = .ok (.return_, 1) := dk_177 (dk_at dksX4_takes_2 6 rfl rfl)
abbrev cX4_isSame : ByteArray := prog_22_method_57_code
def yX4_isSame : MethodName := ⟨RX4, "isSame", "()Z"⟩
def dkwX4_isSame_2 : List UInt8 := [167, 255, 215, 4, 172]
abbrev dktX4_isSame_2 : List UInt8 := dkwX4_isSame_2 ++ []
def dkwX4_isSame_1 : List UInt8 := [160, 0, 18, 42, 180, 0, 42, 27, 46, 42, 180, 0, 48, 27, 46, 159, 0, 5, 3, 172, 132, 1, 1]
abbrev dktX4_isSame_1 : List UInt8 := dkwX4_isSame_1 ++ dktX4_isSame_2
def dkwX4_isSame_0 : List UInt8 := [42, 182, 0, 199, 3, 60, 27, 16, 24, 162, 0, 41, 42, 180, 0, 39, 27, 46, 42, 180, 0, 45, 27, 46]
abbrev dktX4_isSame_0 : List UInt8 := dkwX4_isSame_0 ++ dktX4_isSame_1
theorem dksX4_isSame_0 : cX4_isSame.data.toList.drop 0 = dktX4_isSame_0 := by decide +kernel
theorem dksX4_isSame_1 : cX4_isSame.data.toList.drop 24 = dktX4_isSame_1 := dk_seg dksX4_isSame_0 24 rfl rfl
theorem dksX4_isSame_2 : cX4_isSame.data.toList.drop 47 = dktX4_isSame_2 := dk_seg dksX4_isSame_1 23 rfl rfl
theorem dX4_isSame_0 : decode cX4_isSame 0 = .ok (.aload_n 0, 1) := dk_42 (dk_at dksX4_isSame_0 0 rfl rfl)
theorem dX4_isSame_1 : decode cX4_isSame 1 = .ok (.invokevirtual 199, 3) := dk_182 0 199 (dk_at dksX4_isSame_0 1 rfl rfl)
theorem dX4_isSame_4 : decode cX4_isSame 4 = .ok (.iconst 0, 1) := dk_3 (dk_at dksX4_isSame_0 4 rfl rfl)
theorem dX4_isSame_5 : decode cX4_isSame 5 = .ok (.istore_n 1, 1) := dk_60 (dk_at dksX4_isSame_0 5 rfl rfl)
theorem dX4_isSame_6 : decode cX4_isSame 6 = .ok (.iload_n 1, 1) := dk_27 (dk_at dksX4_isSame_0 6 rfl rfl)
theorem dX4_isSame_7 : decode cX4_isSame 7 = .ok (.bipush 24, 2) := dk_16 24 (dk_at dksX4_isSame_0 7 rfl rfl)
theorem dX4_isSame_9 : decode cX4_isSame 9 = .ok (.if_icmp .ge 41, 3) := dk_162 0 41 (dk_at dksX4_isSame_0 9 rfl rfl)
theorem dX4_isSame_12 : decode cX4_isSame 12 = .ok (.aload_n 0, 1) := dk_42 (dk_at dksX4_isSame_0 12 rfl rfl)
theorem dX4_isSame_13 : decode cX4_isSame 13 = .ok (.getfield 39, 3) := dk_180 0 39 (dk_at dksX4_isSame_0 13 rfl rfl)
theorem dX4_isSame_16 : decode cX4_isSame 16 = .ok (.iload_n 1, 1) := dk_27 (dk_at dksX4_isSame_0 16 rfl rfl)
theorem dX4_isSame_17 : decode cX4_isSame 17 = .ok (.iaload, 1) := dk_46 (dk_at dksX4_isSame_0 17 rfl rfl)
theorem dX4_isSame_18 : decode cX4_isSame 18 = .ok (.aload_n 0, 1) := dk_42 (dk_at dksX4_isSame_0 18 rfl rfl)
theorem dX4_isSame_19 : decode cX4_isSame 19 = .ok (.getfield 45, 3) := dk_180 0 45 (dk_at dksX4_isSame_0 19 rfl rfl)
theorem dX4_isSame_22 : decode cX4_isSame 22 = .ok (.iload_n 1, 1) := dk_27 (dk_at dksX4_isSame_0 22 rfl rfl)
theorem dX4_isSame_23 : decode cX4_isSame 23 = .ok (.iaload, 1) := dk_46 (dk_at dksX4_isSame_0 23 rfl rfl)
theorem dX4_isSame_24 : decode cX4_isSame 24 = .ok (.if_icmp .ne 18, 3) := dk_160 0 18 (dk_at dksX4_isSame_1 0 rfl rfl)
theorem dX4_isSame_27 : decode cX4_isSame 27 = .ok (.aload_n 0, 1) := dk_42 (dk_at dksX4_isSame_1 3 rfl rfl)
theorem dX4_isSame_28 : decode cX4_isSame 28 = .ok (.getfield 42, 3) := dk_180 0 42 (dk_at dksX4_isSame_1 4 rfl rfl)
theorem dX4_isSame_31 : decode cX4_isSame 31 = .ok (.iload_n 1, 1) := dk_27 (dk_at dksX4_isSame_1 7 rfl rfl)
theorem dX4_isSame_32 : decode cX4_isSame 32 = .ok (.iaload, 1) := dk_46 (dk_at dksX4_isSame_1 8 rfl rfl)
theorem dX4_isSame_33 : decode cX4_isSame 33 = .ok (.aload_n 0, 1) := dk_42 (dk_at dksX4_isSame_1 9 rfl rfl)
theorem dX4_isSame_34 : decode cX4_isSame 34 = .ok (.getfield 48, 3) := dk_180 0 48 (dk_at dksX4_isSame_1 10 rfl rfl)
theorem dX4_isSame_37 : decode cX4_isSame 37 = .ok (.iload_n 1, 1) := dk_27 (dk_at dksX4_isSame_1 13 rfl rfl)
theorem dX4_isSame_38 : decode cX4_isSame 38 = .ok (.iaload, 1) := dk_46 (dk_at dksX4_isSame_1 14 rfl rfl)
theorem dX4_isSame_39 : decode cX4_isSame 39 = .ok (.if_icmp .eq 5, 3) := dk_159 0 5 (dk_at dksX4_isSame_1 15 rfl rfl)
theorem dX4_isSame_42 : decode cX4_isSame 42 = .ok (.iconst 0, 1) := dk_3 (dk_at dksX4_isSame_1 18 rfl rfl)
theorem dX4_isSame_43 : decode cX4_isSame 43 = .ok (.ireturn, 1) := dk_172 (dk_at dksX4_isSame_1 19 rfl rfl)
theorem dX4_isSame_44 : decode cX4_isSame 44 = .ok (.iinc 1 1, 3) := dk_132 1 1 (dk_at dksX4_isSame_1 20 rfl rfl)
theorem dX4_isSame_47 : decode cX4_isSame 47 = .ok (.goto (-41), 3) := dk_167 255 215 (dk_at dksX4_isSame_2 0 rfl rfl)
theorem dX4_isSame_50 : decode cX4_isSame 50 = .ok (.iconst 1, 1) := dk_4 (dk_at dksX4_isSame_2 3 rfl rfl)
theorem dX4_isSame_51 : decode cX4_isSame 51 = .ok (.ireturn, 1) := dk_172 (dk_at dksX4_isSame_2 4 rfl rfl)
abbrev cX4_inserts : ByteArray := prog_22_method_59_code
def yX4_inserts : MethodName := ⟨RX4, "inserts", "(III)V"⟩
def dkwX4_inserts_3 : List UInt8 := [181, 0, 161, 177]
abbrev dktX4_inserts_3 : List UInt8 := dkwX4_inserts_3 ++ []
def dkwX4_inserts_2 : List UInt8 := [167, 255, 215, 42, 180, 0, 33, 27, 28, 79, 42, 180, 0, 36, 27, 29, 79, 42, 89, 180, 0, 161, 4, 96]
abbrev dktX4_inserts_2 : List UInt8 := dkwX4_inserts_2 ++ dktX4_inserts_3
def dkwX4_inserts_1 : List UInt8 := [4, 100, 46, 79, 42, 180, 0, 36, 21, 4, 42, 180, 0, 36, 21, 4, 4, 100, 46, 79, 132, 4, 255]
abbrev dktX4_inserts_1 : List UInt8 := dkwX4_inserts_1 ++ dktX4_inserts_2
def dkwX4_inserts_0 : List UInt8 := [42, 180, 0, 161, 54, 4, 21, 4, 27, 164, 0, 41, 42, 180, 0, 33, 21, 4, 42, 180, 0, 33, 21, 4]
abbrev dktX4_inserts_0 : List UInt8 := dkwX4_inserts_0 ++ dktX4_inserts_1
theorem dksX4_inserts_0 : cX4_inserts.data.toList.drop 0 = dktX4_inserts_0 := by decide +kernel
theorem dksX4_inserts_1 : cX4_inserts.data.toList.drop 24 = dktX4_inserts_1 := dk_seg dksX4_inserts_0 24 rfl rfl
theorem dksX4_inserts_2 : cX4_inserts.data.toList.drop 47 = dktX4_inserts_2 := dk_seg dksX4_inserts_1 23 rfl rfl
theorem dksX4_inserts_3 : cX4_inserts.data.toList.drop 71 = dktX4_inserts_3 := dk_seg dksX4_inserts_2 24 rfl rfl
theorem dX4_inserts_0 : decode cX4_inserts 0 = .ok (.aload_n 0, 1) := dk_42 (dk_at dksX4_inserts_0 0 rfl rfl)
theorem dX4_inserts_1 : decode cX4_inserts 1 = .ok (.getfield 161, 3) := dk_180 0 161 (dk_at dksX4_inserts_0 1 rfl rfl)
theorem dX4_inserts_4 : decode cX4_inserts 4 = .ok (.istore 4, 2) := dk_54 4 (dk_at dksX4_inserts_0 4 rfl rfl)
theorem dX4_inserts_6 : decode cX4_inserts 6 = .ok (.iload 4, 2) := dk_21 4 (dk_at dksX4_inserts_0 6 rfl rfl)
theorem dX4_inserts_8 : decode cX4_inserts 8 = .ok (.iload_n 1, 1) := dk_27 (dk_at dksX4_inserts_0 8 rfl rfl)
theorem dX4_inserts_9 : decode cX4_inserts 9 = .ok (.if_icmp .le 41, 3) := dk_164 0 41 (dk_at dksX4_inserts_0 9 rfl rfl)
theorem dX4_inserts_12 : decode cX4_inserts 12 = .ok (.aload_n 0, 1) := dk_42 (dk_at dksX4_inserts_0 12 rfl rfl)
theorem dX4_inserts_13 : decode cX4_inserts 13 = .ok (.getfield 33, 3) := dk_180 0 33 (dk_at dksX4_inserts_0 13 rfl rfl)
theorem dX4_inserts_16 : decode cX4_inserts 16 = .ok (.iload 4, 2) := dk_21 4 (dk_at dksX4_inserts_0 16 rfl rfl)
theorem dX4_inserts_18 : decode cX4_inserts 18 = .ok (.aload_n 0, 1) := dk_42 (dk_at dksX4_inserts_0 18 rfl rfl)
theorem dX4_inserts_19 : decode cX4_inserts 19 = .ok (.getfield 33, 3) := dk_180 0 33 (dk_at dksX4_inserts_0 19 rfl rfl)
theorem dX4_inserts_22 : decode cX4_inserts 22 = .ok (.iload 4, 2) := dk_21 4 (dk_at dksX4_inserts_0 22 rfl rfl)
theorem dX4_inserts_24 : decode cX4_inserts 24 = .ok (.iconst 1, 1) := dk_4 (dk_at dksX4_inserts_1 0 rfl rfl)
theorem dX4_inserts_25 : decode cX4_inserts 25 = .ok (.isub, 1) := dk_100 (dk_at dksX4_inserts_1 1 rfl rfl)
theorem dX4_inserts_26 : decode cX4_inserts 26 = .ok (.iaload, 1) := dk_46 (dk_at dksX4_inserts_1 2 rfl rfl)
theorem dX4_inserts_27 : decode cX4_inserts 27 = .ok (.iastore, 1) := dk_79 (dk_at dksX4_inserts_1 3 rfl rfl)
theorem dX4_inserts_28 : decode cX4_inserts 28 = .ok (.aload_n 0, 1) := dk_42 (dk_at dksX4_inserts_1 4 rfl rfl)
theorem dX4_inserts_29 : decode cX4_inserts 29 = .ok (.getfield 36, 3) := dk_180 0 36 (dk_at dksX4_inserts_1 5 rfl rfl)
theorem dX4_inserts_32 : decode cX4_inserts 32 = .ok (.iload 4, 2) := dk_21 4 (dk_at dksX4_inserts_1 8 rfl rfl)
theorem dX4_inserts_34 : decode cX4_inserts 34 = .ok (.aload_n 0, 1) := dk_42 (dk_at dksX4_inserts_1 10 rfl rfl)
theorem dX4_inserts_35 : decode cX4_inserts 35 = .ok (.getfield 36, 3) := dk_180 0 36 (dk_at dksX4_inserts_1 11 rfl rfl)
theorem dX4_inserts_38 : decode cX4_inserts 38 = .ok (.iload 4, 2) := dk_21 4 (dk_at dksX4_inserts_1 14 rfl rfl)
theorem dX4_inserts_40 : decode cX4_inserts 40 = .ok (.iconst 1, 1) := dk_4 (dk_at dksX4_inserts_1 16 rfl rfl)
theorem dX4_inserts_41 : decode cX4_inserts 41 = .ok (.isub, 1) := dk_100 (dk_at dksX4_inserts_1 17 rfl rfl)
theorem dX4_inserts_42 : decode cX4_inserts 42 = .ok (.iaload, 1) := dk_46 (dk_at dksX4_inserts_1 18 rfl rfl)
theorem dX4_inserts_43 : decode cX4_inserts 43 = .ok (.iastore, 1) := dk_79 (dk_at dksX4_inserts_1 19 rfl rfl)
theorem dX4_inserts_44 : decode cX4_inserts 44 = .ok (.iinc 4 (-1), 3) := dk_132 4 255 (dk_at dksX4_inserts_1 20 rfl rfl)
theorem dX4_inserts_47 : decode cX4_inserts 47 = .ok (.goto (-41), 3) := dk_167 255 215 (dk_at dksX4_inserts_2 0 rfl rfl)
theorem dX4_inserts_50 : decode cX4_inserts 50 = .ok (.aload_n 0, 1) := dk_42 (dk_at dksX4_inserts_2 3 rfl rfl)
theorem dX4_inserts_51 : decode cX4_inserts 51 = .ok (.getfield 33, 3) := dk_180 0 33 (dk_at dksX4_inserts_2 4 rfl rfl)
theorem dX4_inserts_54 : decode cX4_inserts 54 = .ok (.iload_n 1, 1) := dk_27 (dk_at dksX4_inserts_2 7 rfl rfl)
theorem dX4_inserts_55 : decode cX4_inserts 55 = .ok (.iload_n 2, 1) := dk_28 (dk_at dksX4_inserts_2 8 rfl rfl)
theorem dX4_inserts_56 : decode cX4_inserts 56 = .ok (.iastore, 1) := dk_79 (dk_at dksX4_inserts_2 9 rfl rfl)
theorem dX4_inserts_57 : decode cX4_inserts 57 = .ok (.aload_n 0, 1) := dk_42 (dk_at dksX4_inserts_2 10 rfl rfl)
theorem dX4_inserts_58 : decode cX4_inserts 58 = .ok (.getfield 36, 3) := dk_180 0 36 (dk_at dksX4_inserts_2 11 rfl rfl)
theorem dX4_inserts_61 : decode cX4_inserts 61 = .ok (.iload_n 1, 1) := dk_27 (dk_at dksX4_inserts_2 14 rfl rfl)
theorem dX4_inserts_62 : decode cX4_inserts 62 = .ok (.iload_n 3, 1) := dk_29 (dk_at dksX4_inserts_2 15 rfl rfl)
theorem dX4_inserts_63 : decode cX4_inserts 63 = .ok (.iastore, 1) := dk_79 (dk_at dksX4_inserts_2 16 rfl rfl)
theorem dX4_inserts_64 : decode cX4_inserts 64 = .ok (.aload_n 0, 1) := dk_42 (dk_at dksX4_inserts_2 17 rfl rfl)
theorem dX4_inserts_65 : decode cX4_inserts 65 = .ok (.dup, 1) := dk_89 (dk_at dksX4_inserts_2 18 rfl rfl)
theorem dX4_inserts_66 : decode cX4_inserts 66 = .ok (.getfield 161, 3) := dk_180 0 161 (dk_at dksX4_inserts_2 19 rfl rfl)
theorem dX4_inserts_69 : decode cX4_inserts 69 = .ok (.iconst 1, 1) := dk_4 (dk_at dksX4_inserts_2 22 rfl rfl)
theorem dX4_inserts_70 : decode cX4_inserts 70 = .ok (.iadd, 1) := dk_96 (dk_at dksX4_inserts_2 23 rfl rfl)
theorem dX4_inserts_71 : decode cX4_inserts 71 = .ok (.putfield 161, 3) := dk_181 0 161 (dk_at dksX4_inserts_3 0 rfl rfl)
theorem dX4_inserts_74 : decode cX4_inserts 74 = .ok (.return_, 1) := dk_177 (dk_at dksX4_inserts_3 3 rfl rfl)
abbrev cX4_bracketings : ByteArray := prog_22_method_67_code
def yX4_bracketings : MethodName := ⟨RX4, "bracketings", "()J"⟩
theorem dX4_bracketings_0 : decode cX4_bracketings 0 = .ok (.aload_n 0, 1) := by decide +kernel
theorem dX4_bracketings_1 : decode cX4_bracketings 1 = .ok (.invokevirtual 233, 3) := by decide +kernel
theorem dX4_bracketings_4 : decode cX4_bracketings 4 = .ok (.lreturn, 1) := by decide +kernel
abbrev cX4_bracketMany : ByteArray := prog_22_method_66_code
def yX4_bracketMany : MethodName := ⟨RX4, "bracketMany", "()J"⟩
def dkwX4_bracketMany_0 : List UInt8 := [42, 182, 0, 185, 153, 0, 11, 42, 182, 0, 230, 133, 167, 0, 4, 9, 173]
abbrev dktX4_bracketMany_0 : List UInt8 := dkwX4_bracketMany_0 ++ []
theorem dksX4_bracketMany_0 : cX4_bracketMany.data.toList.drop 0 = dktX4_bracketMany_0 := by decide +kernel
theorem dX4_bracketMany_0 : decode cX4_bracketMany 0 = .ok (.aload_n 0, 1) := dk_42 (dk_at dksX4_bracketMany_0 0 rfl rfl)
theorem dX4_bracketMany_1 : decode cX4_bracketMany 1 = .ok (.invokevirtual 185, 3) := dk_182 0 185 (dk_at dksX4_bracketMany_0 1 rfl rfl)
theorem dX4_bracketMany_4 : decode cX4_bracketMany 4 = .ok (.ifCond .eq 11, 3) := dk_153 0 11 (dk_at dksX4_bracketMany_0 4 rfl rfl)
theorem dX4_bracketMany_7 : decode cX4_bracketMany 7 = .ok (.aload_n 0, 1) := dk_42 (dk_at dksX4_bracketMany_0 7 rfl rfl)
theorem dX4_bracketMany_8 : decode cX4_bracketMany 8 = .ok (.invokevirtual 230, 3) := dk_182 0 230 (dk_at dksX4_bracketMany_0 8 rfl rfl)
theorem dX4_bracketMany_11 : decode cX4_bracketMany 11 = .ok (.i2l, 1) := dk_133 (dk_at dksX4_bracketMany_0 11 rfl rfl)
theorem dX4_bracketMany_12 : decode cX4_bracketMany 12 = .ok (.goto 4, 3) := dk_167 0 4 (dk_at dksX4_bracketMany_0 12 rfl rfl)
theorem dX4_bracketMany_15 : decode cX4_bracketMany 15 = .ok (.lconst 0, 1) := dk_9 (dk_at dksX4_bracketMany_0 15 rfl rfl)
theorem dX4_bracketMany_16 : decode cX4_bracketMany 16 = .ok (.lreturn, 1) := dk_173 (dk_at dksX4_bracketMany_0 16 rfl rfl)
abbrev cX4_brackets : ByteArray := prog_22_method_64_code
def yX4_brackets : MethodName := ⟨RX4, "brackets", "()I"⟩
def dkwX4_brackets_6 : List UInt8 := [167, 255, 136, 132, 2, 1, 167, 255, 120, 42, 180, 0, 63, 42, 180, 0, 220, 4, 100, 46, 172]
abbrev dktX4_brackets_6 : List UInt8 := dkwX4_brackets_6 ++ []
def dkwX4_brackets_5 : List UInt8 := [167, 255, 209, 42, 180, 0, 63, 21, 4, 27, 42, 180, 0, 60, 21, 4, 46, 100, 79, 132, 3, 1]
abbrev dktX4_brackets_5 : List UInt8 := dkwX4_brackets_5 ++ dktX4_brackets_6
def dkwX4_brackets_4 : List UInt8 := [96, 21, 5, 100, 4, 100, 42, 180, 0, 54, 29, 21, 5, 96, 46, 27, 182, 0, 226, 60, 132, 5, 1]
abbrev dktX4_brackets_4 : List UInt8 := dkwX4_brackets_4 ++ dktX4_brackets_5
def dkwX4_brackets_3 : List UInt8 := [21, 5, 28, 162, 0, 47, 42, 16, 8, 29, 104, 21, 5, 96, 4, 100, 16, 8, 29, 21, 5, 96, 104, 28]
abbrev dktX4_brackets_3 : List UInt8 := dkwX4_brackets_3 ++ dktX4_brackets_4
def dkwX4_brackets_2 : List UInt8 := [28, 4, 160, 0, 18, 42, 180, 0, 57, 27, 42, 180, 0, 51, 29, 46, 79, 132, 1, 1, 4, 54, 5]
abbrev dktX4_brackets_2 : List UInt8 := dkwX4_brackets_2 ++ dktX4_brackets_3
def dkwX4_brackets_1 : List UInt8 := [180, 0, 220, 163, 0, 116, 16, 8, 29, 104, 28, 96, 4, 100, 54, 4, 42, 180, 0, 60, 21, 4, 27, 79]
abbrev dktX4_brackets_1 : List UInt8 := dkwX4_brackets_1 ++ dktX4_brackets_2
def dkwX4_brackets_0 : List UInt8 := [42, 182, 0, 223, 3, 60, 4, 61, 28, 42, 180, 0, 220, 163, 0, 134, 3, 62, 29, 28, 96, 42]
abbrev dktX4_brackets_0 : List UInt8 := dkwX4_brackets_0 ++ dktX4_brackets_1
theorem dksX4_brackets_0 : cX4_brackets.data.toList.drop 0 = dktX4_brackets_0 := by decide +kernel
theorem dksX4_brackets_1 : cX4_brackets.data.toList.drop 22 = dktX4_brackets_1 := dk_seg dksX4_brackets_0 22 rfl rfl
theorem dksX4_brackets_2 : cX4_brackets.data.toList.drop 46 = dktX4_brackets_2 := dk_seg dksX4_brackets_1 24 rfl rfl
theorem dksX4_brackets_3 : cX4_brackets.data.toList.drop 69 = dktX4_brackets_3 := dk_seg dksX4_brackets_2 23 rfl rfl
theorem dksX4_brackets_4 : cX4_brackets.data.toList.drop 93 = dktX4_brackets_4 := dk_seg dksX4_brackets_3 24 rfl rfl
theorem dksX4_brackets_5 : cX4_brackets.data.toList.drop 116 = dktX4_brackets_5 := dk_seg dksX4_brackets_4 23 rfl rfl
theorem dksX4_brackets_6 : cX4_brackets.data.toList.drop 138 = dktX4_brackets_6 := dk_seg dksX4_brackets_5 22 rfl rfl
theorem dX4_brackets_0 : decode cX4_brackets 0 = .ok (.aload_n 0, 1) := dk_42 (dk_at dksX4_brackets_0 0 rfl rfl)
theorem dX4_brackets_1 : decode cX4_brackets 1 = .ok (.invokevirtual 223, 3) := dk_182 0 223 (dk_at dksX4_brackets_0 1 rfl rfl)
theorem dX4_brackets_4 : decode cX4_brackets 4 = .ok (.iconst 0, 1) := dk_3 (dk_at dksX4_brackets_0 4 rfl rfl)
theorem dX4_brackets_5 : decode cX4_brackets 5 = .ok (.istore_n 1, 1) := dk_60 (dk_at dksX4_brackets_0 5 rfl rfl)
theorem dX4_brackets_6 : decode cX4_brackets 6 = .ok (.iconst 1, 1) := dk_4 (dk_at dksX4_brackets_0 6 rfl rfl)
theorem dX4_brackets_7 : decode cX4_brackets 7 = .ok (.istore_n 2, 1) := dk_61 (dk_at dksX4_brackets_0 7 rfl rfl)
theorem dX4_brackets_8 : decode cX4_brackets 8 = .ok (.iload_n 2, 1) := dk_28 (dk_at dksX4_brackets_0 8 rfl rfl)
theorem dX4_brackets_9 : decode cX4_brackets 9 = .ok (.aload_n 0, 1) := dk_42 (dk_at dksX4_brackets_0 9 rfl rfl)
theorem dX4_brackets_10 : decode cX4_brackets 10 = .ok (.getfield 220, 3) := dk_180 0 220 (dk_at dksX4_brackets_0 10 rfl rfl)
theorem dX4_brackets_13 : decode cX4_brackets 13 = .ok (.if_icmp .gt 134, 3) := dk_163 0 134 (dk_at dksX4_brackets_0 13 rfl rfl)
theorem dX4_brackets_16 : decode cX4_brackets 16 = .ok (.iconst 0, 1) := dk_3 (dk_at dksX4_brackets_0 16 rfl rfl)
theorem dX4_brackets_17 : decode cX4_brackets 17 = .ok (.istore_n 3, 1) := dk_62 (dk_at dksX4_brackets_0 17 rfl rfl)
theorem dX4_brackets_18 : decode cX4_brackets 18 = .ok (.iload_n 3, 1) := dk_29 (dk_at dksX4_brackets_0 18 rfl rfl)
theorem dX4_brackets_19 : decode cX4_brackets 19 = .ok (.iload_n 2, 1) := dk_28 (dk_at dksX4_brackets_0 19 rfl rfl)
theorem dX4_brackets_20 : decode cX4_brackets 20 = .ok (.iadd, 1) := dk_96 (dk_at dksX4_brackets_0 20 rfl rfl)
theorem dX4_brackets_21 : decode cX4_brackets 21 = .ok (.aload_n 0, 1) := dk_42 (dk_at dksX4_brackets_0 21 rfl rfl)
theorem dX4_brackets_22 : decode cX4_brackets 22 = .ok (.getfield 220, 3) := dk_180 0 220 (dk_at dksX4_brackets_1 0 rfl rfl)
theorem dX4_brackets_25 : decode cX4_brackets 25 = .ok (.if_icmp .gt 116, 3) := dk_163 0 116 (dk_at dksX4_brackets_1 3 rfl rfl)
theorem dX4_brackets_28 : decode cX4_brackets 28 = .ok (.bipush 8, 2) := dk_16 8 (dk_at dksX4_brackets_1 6 rfl rfl)
theorem dX4_brackets_30 : decode cX4_brackets 30 = .ok (.iload_n 3, 1) := dk_29 (dk_at dksX4_brackets_1 8 rfl rfl)
theorem dX4_brackets_31 : decode cX4_brackets 31 = .ok (.imul, 1) := dk_104 (dk_at dksX4_brackets_1 9 rfl rfl)
theorem dX4_brackets_32 : decode cX4_brackets 32 = .ok (.iload_n 2, 1) := dk_28 (dk_at dksX4_brackets_1 10 rfl rfl)
theorem dX4_brackets_33 : decode cX4_brackets 33 = .ok (.iadd, 1) := dk_96 (dk_at dksX4_brackets_1 11 rfl rfl)
theorem dX4_brackets_34 : decode cX4_brackets 34 = .ok (.iconst 1, 1) := dk_4 (dk_at dksX4_brackets_1 12 rfl rfl)
theorem dX4_brackets_35 : decode cX4_brackets 35 = .ok (.isub, 1) := dk_100 (dk_at dksX4_brackets_1 13 rfl rfl)
theorem dX4_brackets_36 : decode cX4_brackets 36 = .ok (.istore 4, 2) := dk_54 4 (dk_at dksX4_brackets_1 14 rfl rfl)
theorem dX4_brackets_38 : decode cX4_brackets 38 = .ok (.aload_n 0, 1) := dk_42 (dk_at dksX4_brackets_1 16 rfl rfl)
theorem dX4_brackets_39 : decode cX4_brackets 39 = .ok (.getfield 60, 3) := dk_180 0 60 (dk_at dksX4_brackets_1 17 rfl rfl)
theorem dX4_brackets_42 : decode cX4_brackets 42 = .ok (.iload 4, 2) := dk_21 4 (dk_at dksX4_brackets_1 20 rfl rfl)
theorem dX4_brackets_44 : decode cX4_brackets 44 = .ok (.iload_n 1, 1) := dk_27 (dk_at dksX4_brackets_1 22 rfl rfl)
theorem dX4_brackets_45 : decode cX4_brackets 45 = .ok (.iastore, 1) := dk_79 (dk_at dksX4_brackets_1 23 rfl rfl)
theorem dX4_brackets_46 : decode cX4_brackets 46 = .ok (.iload_n 2, 1) := dk_28 (dk_at dksX4_brackets_2 0 rfl rfl)
theorem dX4_brackets_47 : decode cX4_brackets 47 = .ok (.iconst 1, 1) := dk_4 (dk_at dksX4_brackets_2 1 rfl rfl)
theorem dX4_brackets_48 : decode cX4_brackets 48 = .ok (.if_icmp .ne 18, 3) := dk_160 0 18 (dk_at dksX4_brackets_2 2 rfl rfl)
theorem dX4_brackets_51 : decode cX4_brackets 51 = .ok (.aload_n 0, 1) := dk_42 (dk_at dksX4_brackets_2 5 rfl rfl)
theorem dX4_brackets_52 : decode cX4_brackets 52 = .ok (.getfield 57, 3) := dk_180 0 57 (dk_at dksX4_brackets_2 6 rfl rfl)
theorem dX4_brackets_55 : decode cX4_brackets 55 = .ok (.iload_n 1, 1) := dk_27 (dk_at dksX4_brackets_2 9 rfl rfl)
theorem dX4_brackets_56 : decode cX4_brackets 56 = .ok (.aload_n 0, 1) := dk_42 (dk_at dksX4_brackets_2 10 rfl rfl)
theorem dX4_brackets_57 : decode cX4_brackets 57 = .ok (.getfield 51, 3) := dk_180 0 51 (dk_at dksX4_brackets_2 11 rfl rfl)
theorem dX4_brackets_60 : decode cX4_brackets 60 = .ok (.iload_n 3, 1) := dk_29 (dk_at dksX4_brackets_2 14 rfl rfl)
theorem dX4_brackets_61 : decode cX4_brackets 61 = .ok (.iaload, 1) := dk_46 (dk_at dksX4_brackets_2 15 rfl rfl)
theorem dX4_brackets_62 : decode cX4_brackets 62 = .ok (.iastore, 1) := dk_79 (dk_at dksX4_brackets_2 16 rfl rfl)
theorem dX4_brackets_63 : decode cX4_brackets 63 = .ok (.iinc 1 1, 3) := dk_132 1 1 (dk_at dksX4_brackets_2 17 rfl rfl)
theorem dX4_brackets_66 : decode cX4_brackets 66 = .ok (.iconst 1, 1) := dk_4 (dk_at dksX4_brackets_2 20 rfl rfl)
theorem dX4_brackets_67 : decode cX4_brackets 67 = .ok (.istore 5, 2) := dk_54 5 (dk_at dksX4_brackets_2 21 rfl rfl)
theorem dX4_brackets_69 : decode cX4_brackets 69 = .ok (.iload 5, 2) := dk_21 5 (dk_at dksX4_brackets_3 0 rfl rfl)
theorem dX4_brackets_71 : decode cX4_brackets 71 = .ok (.iload_n 2, 1) := dk_28 (dk_at dksX4_brackets_3 2 rfl rfl)
theorem dX4_brackets_72 : decode cX4_brackets 72 = .ok (.if_icmp .ge 47, 3) := dk_162 0 47 (dk_at dksX4_brackets_3 3 rfl rfl)
theorem dX4_brackets_75 : decode cX4_brackets 75 = .ok (.aload_n 0, 1) := dk_42 (dk_at dksX4_brackets_3 6 rfl rfl)
theorem dX4_brackets_76 : decode cX4_brackets 76 = .ok (.bipush 8, 2) := dk_16 8 (dk_at dksX4_brackets_3 7 rfl rfl)
theorem dX4_brackets_78 : decode cX4_brackets 78 = .ok (.iload_n 3, 1) := dk_29 (dk_at dksX4_brackets_3 9 rfl rfl)
theorem dX4_brackets_79 : decode cX4_brackets 79 = .ok (.imul, 1) := dk_104 (dk_at dksX4_brackets_3 10 rfl rfl)
theorem dX4_brackets_80 : decode cX4_brackets 80 = .ok (.iload 5, 2) := dk_21 5 (dk_at dksX4_brackets_3 11 rfl rfl)
theorem dX4_brackets_82 : decode cX4_brackets 82 = .ok (.iadd, 1) := dk_96 (dk_at dksX4_brackets_3 13 rfl rfl)
theorem dX4_brackets_83 : decode cX4_brackets 83 = .ok (.iconst 1, 1) := dk_4 (dk_at dksX4_brackets_3 14 rfl rfl)
theorem dX4_brackets_84 : decode cX4_brackets 84 = .ok (.isub, 1) := dk_100 (dk_at dksX4_brackets_3 15 rfl rfl)
theorem dX4_brackets_85 : decode cX4_brackets 85 = .ok (.bipush 8, 2) := dk_16 8 (dk_at dksX4_brackets_3 16 rfl rfl)
theorem dX4_brackets_87 : decode cX4_brackets 87 = .ok (.iload_n 3, 1) := dk_29 (dk_at dksX4_brackets_3 18 rfl rfl)
theorem dX4_brackets_88 : decode cX4_brackets 88 = .ok (.iload 5, 2) := dk_21 5 (dk_at dksX4_brackets_3 19 rfl rfl)
theorem dX4_brackets_90 : decode cX4_brackets 90 = .ok (.iadd, 1) := dk_96 (dk_at dksX4_brackets_3 21 rfl rfl)
theorem dX4_brackets_91 : decode cX4_brackets 91 = .ok (.imul, 1) := dk_104 (dk_at dksX4_brackets_3 22 rfl rfl)
theorem dX4_brackets_92 : decode cX4_brackets 92 = .ok (.iload_n 2, 1) := dk_28 (dk_at dksX4_brackets_3 23 rfl rfl)
theorem dX4_brackets_93 : decode cX4_brackets 93 = .ok (.iadd, 1) := dk_96 (dk_at dksX4_brackets_4 0 rfl rfl)
theorem dX4_brackets_94 : decode cX4_brackets 94 = .ok (.iload 5, 2) := dk_21 5 (dk_at dksX4_brackets_4 1 rfl rfl)
theorem dX4_brackets_96 : decode cX4_brackets 96 = .ok (.isub, 1) := dk_100 (dk_at dksX4_brackets_4 3 rfl rfl)
theorem dX4_brackets_97 : decode cX4_brackets 97 = .ok (.iconst 1, 1) := dk_4 (dk_at dksX4_brackets_4 4 rfl rfl)
theorem dX4_brackets_98 : decode cX4_brackets 98 = .ok (.isub, 1) := dk_100 (dk_at dksX4_brackets_4 5 rfl rfl)
theorem dX4_brackets_99 : decode cX4_brackets 99 = .ok (.aload_n 0, 1) := dk_42 (dk_at dksX4_brackets_4 6 rfl rfl)
theorem dX4_brackets_100 : decode cX4_brackets 100 = .ok (.getfield 54, 3) := dk_180 0 54 (dk_at dksX4_brackets_4 7 rfl rfl)
theorem dX4_brackets_103 : decode cX4_brackets 103 = .ok (.iload_n 3, 1) := dk_29 (dk_at dksX4_brackets_4 10 rfl rfl)
theorem dX4_brackets_104 : decode cX4_brackets 104 = .ok (.iload 5, 2) := dk_21 5 (dk_at dksX4_brackets_4 11 rfl rfl)
theorem dX4_brackets_106 : decode cX4_brackets 106 = .ok (.iadd, 1) := dk_96 (dk_at dksX4_brackets_4 13 rfl rfl)
theorem dX4_brackets_107 : decode cX4_brackets 107 = .ok (.iaload, 1) := dk_46 (dk_at dksX4_brackets_4 14 rfl rfl)
theorem dX4_brackets_108 : decode cX4_brackets 108 = .ok (.iload_n 1, 1) := dk_27 (dk_at dksX4_brackets_4 15 rfl rfl)
theorem dX4_brackets_109 : decode cX4_brackets 109 = .ok (.invokevirtual 226, 3) := dk_182 0 226 (dk_at dksX4_brackets_4 16 rfl rfl)
theorem dX4_brackets_112 : decode cX4_brackets 112 = .ok (.istore_n 1, 1) := dk_60 (dk_at dksX4_brackets_4 19 rfl rfl)
theorem dX4_brackets_113 : decode cX4_brackets 113 = .ok (.iinc 5 1, 3) := dk_132 5 1 (dk_at dksX4_brackets_4 20 rfl rfl)
theorem dX4_brackets_116 : decode cX4_brackets 116 = .ok (.goto (-47), 3) := dk_167 255 209 (dk_at dksX4_brackets_5 0 rfl rfl)
theorem dX4_brackets_119 : decode cX4_brackets 119 = .ok (.aload_n 0, 1) := dk_42 (dk_at dksX4_brackets_5 3 rfl rfl)
theorem dX4_brackets_120 : decode cX4_brackets 120 = .ok (.getfield 63, 3) := dk_180 0 63 (dk_at dksX4_brackets_5 4 rfl rfl)
theorem dX4_brackets_123 : decode cX4_brackets 123 = .ok (.iload 4, 2) := dk_21 4 (dk_at dksX4_brackets_5 7 rfl rfl)
theorem dX4_brackets_125 : decode cX4_brackets 125 = .ok (.iload_n 1, 1) := dk_27 (dk_at dksX4_brackets_5 9 rfl rfl)
theorem dX4_brackets_126 : decode cX4_brackets 126 = .ok (.aload_n 0, 1) := dk_42 (dk_at dksX4_brackets_5 10 rfl rfl)
theorem dX4_brackets_127 : decode cX4_brackets 127 = .ok (.getfield 60, 3) := dk_180 0 60 (dk_at dksX4_brackets_5 11 rfl rfl)
theorem dX4_brackets_130 : decode cX4_brackets 130 = .ok (.iload 4, 2) := dk_21 4 (dk_at dksX4_brackets_5 14 rfl rfl)
theorem dX4_brackets_132 : decode cX4_brackets 132 = .ok (.iaload, 1) := dk_46 (dk_at dksX4_brackets_5 16 rfl rfl)
theorem dX4_brackets_133 : decode cX4_brackets 133 = .ok (.isub, 1) := dk_100 (dk_at dksX4_brackets_5 17 rfl rfl)
theorem dX4_brackets_134 : decode cX4_brackets 134 = .ok (.iastore, 1) := dk_79 (dk_at dksX4_brackets_5 18 rfl rfl)
theorem dX4_brackets_135 : decode cX4_brackets 135 = .ok (.iinc 3 1, 3) := dk_132 3 1 (dk_at dksX4_brackets_5 19 rfl rfl)
theorem dX4_brackets_138 : decode cX4_brackets 138 = .ok (.goto (-120), 3) := dk_167 255 136 (dk_at dksX4_brackets_6 0 rfl rfl)
theorem dX4_brackets_141 : decode cX4_brackets 141 = .ok (.iinc 2 1, 3) := dk_132 2 1 (dk_at dksX4_brackets_6 3 rfl rfl)
theorem dX4_brackets_144 : decode cX4_brackets 144 = .ok (.goto (-136), 3) := dk_167 255 120 (dk_at dksX4_brackets_6 6 rfl rfl)
theorem dX4_brackets_147 : decode cX4_brackets 147 = .ok (.aload_n 0, 1) := dk_42 (dk_at dksX4_brackets_6 9 rfl rfl)
theorem dX4_brackets_148 : decode cX4_brackets 148 = .ok (.getfield 63, 3) := dk_180 0 63 (dk_at dksX4_brackets_6 10 rfl rfl)
theorem dX4_brackets_151 : decode cX4_brackets 151 = .ok (.aload_n 0, 1) := dk_42 (dk_at dksX4_brackets_6 13 rfl rfl)
theorem dX4_brackets_152 : decode cX4_brackets 152 = .ok (.getfield 220, 3) := dk_180 0 220 (dk_at dksX4_brackets_6 14 rfl rfl)
theorem dX4_brackets_155 : decode cX4_brackets 155 = .ok (.iconst 1, 1) := dk_4 (dk_at dksX4_brackets_6 17 rfl rfl)
theorem dX4_brackets_156 : decode cX4_brackets 156 = .ok (.isub, 1) := dk_100 (dk_at dksX4_brackets_6 18 rfl rfl)
theorem dX4_brackets_157 : decode cX4_brackets 157 = .ok (.iaload, 1) := dk_46 (dk_at dksX4_brackets_6 19 rfl rfl)
theorem dX4_brackets_158 : decode cX4_brackets 158 = .ok (.ireturn, 1) := dk_172 (dk_at dksX4_brackets_6 20 rfl rfl)
abbrev cX4_rows : ByteArray := prog_22_method_63_code
def yX4_rows : MethodName := ⟨RX4, "rows", "()V"⟩
def dkwX4_rows_4 : List UInt8 := [132, 1, 1, 167, 255, 166, 177]
abbrev dktX4_rows_4 : List UInt8 := dkwX4_rows_4 ++ []
def dkwX4_rows_3 : List UInt8 := [42, 180, 0, 220, 42, 180, 0, 7, 16, 32, 42, 180, 0, 33, 27, 46, 184, 0, 99, 96, 46, 79]
abbrev dktX4_rows_3 : List UInt8 := dkwX4_rows_3 ++ dktX4_rows_4
def dkwX4_rows_2 : List UInt8 := [180, 0, 220, 4, 96, 181, 0, 220, 42, 180, 0, 33, 27, 46, 184, 0, 138, 153, 0, 29, 42, 180, 0, 54]
abbrev dktX4_rows_2 : List UInt8 := dkwX4_rows_2 ++ dktX4_rows_3
def dkwX4_rows_1 : List UInt8 := [153, 0, 32, 42, 180, 0, 51, 42, 180, 0, 220, 42, 42, 180, 0, 33, 27, 46, 182, 0, 179, 79, 42, 89]
abbrev dktX4_rows_1 : List UInt8 := dkwX4_rows_1 ++ dktX4_rows_2
def dkwX4_rows_0 : List UInt8 := [42, 3, 181, 0, 220, 3, 60, 27, 42, 180, 0, 161, 162, 0, 88, 42, 180, 0, 33, 27, 46, 184, 0, 111]
abbrev dktX4_rows_0 : List UInt8 := dkwX4_rows_0 ++ dktX4_rows_1
theorem dksX4_rows_0 : cX4_rows.data.toList.drop 0 = dktX4_rows_0 := by decide +kernel
theorem dksX4_rows_1 : cX4_rows.data.toList.drop 24 = dktX4_rows_1 := dk_seg dksX4_rows_0 24 rfl rfl
theorem dksX4_rows_2 : cX4_rows.data.toList.drop 48 = dktX4_rows_2 := dk_seg dksX4_rows_1 24 rfl rfl
theorem dksX4_rows_3 : cX4_rows.data.toList.drop 72 = dktX4_rows_3 := dk_seg dksX4_rows_2 24 rfl rfl
theorem dksX4_rows_4 : cX4_rows.data.toList.drop 94 = dktX4_rows_4 := dk_seg dksX4_rows_3 22 rfl rfl
theorem dX4_rows_0 : decode cX4_rows 0 = .ok (.aload_n 0, 1) := dk_42 (dk_at dksX4_rows_0 0 rfl rfl)
theorem dX4_rows_1 : decode cX4_rows 1 = .ok (.iconst 0, 1) := dk_3 (dk_at dksX4_rows_0 1 rfl rfl)
theorem dX4_rows_2 : decode cX4_rows 2 = .ok (.putfield 220, 3) := dk_181 0 220 (dk_at dksX4_rows_0 2 rfl rfl)
theorem dX4_rows_5 : decode cX4_rows 5 = .ok (.iconst 0, 1) := dk_3 (dk_at dksX4_rows_0 5 rfl rfl)
theorem dX4_rows_6 : decode cX4_rows 6 = .ok (.istore_n 1, 1) := dk_60 (dk_at dksX4_rows_0 6 rfl rfl)
theorem dX4_rows_7 : decode cX4_rows 7 = .ok (.iload_n 1, 1) := dk_27 (dk_at dksX4_rows_0 7 rfl rfl)
theorem dX4_rows_8 : decode cX4_rows 8 = .ok (.aload_n 0, 1) := dk_42 (dk_at dksX4_rows_0 8 rfl rfl)
theorem dX4_rows_9 : decode cX4_rows 9 = .ok (.getfield 161, 3) := dk_180 0 161 (dk_at dksX4_rows_0 9 rfl rfl)
theorem dX4_rows_12 : decode cX4_rows 12 = .ok (.if_icmp .ge 88, 3) := dk_162 0 88 (dk_at dksX4_rows_0 12 rfl rfl)
theorem dX4_rows_15 : decode cX4_rows 15 = .ok (.aload_n 0, 1) := dk_42 (dk_at dksX4_rows_0 15 rfl rfl)
theorem dX4_rows_16 : decode cX4_rows 16 = .ok (.getfield 33, 3) := dk_180 0 33 (dk_at dksX4_rows_0 16 rfl rfl)
theorem dX4_rows_19 : decode cX4_rows 19 = .ok (.iload_n 1, 1) := dk_27 (dk_at dksX4_rows_0 19 rfl rfl)
theorem dX4_rows_20 : decode cX4_rows 20 = .ok (.iaload, 1) := dk_46 (dk_at dksX4_rows_0 20 rfl rfl)
theorem dX4_rows_21 : decode cX4_rows 21 = .ok (.invokestatic 111, 3) := dk_184 0 111 (dk_at dksX4_rows_0 21 rfl rfl)
theorem dX4_rows_24 : decode cX4_rows 24 = .ok (.ifCond .eq 32, 3) := dk_153 0 32 (dk_at dksX4_rows_1 0 rfl rfl)
theorem dX4_rows_27 : decode cX4_rows 27 = .ok (.aload_n 0, 1) := dk_42 (dk_at dksX4_rows_1 3 rfl rfl)
theorem dX4_rows_28 : decode cX4_rows 28 = .ok (.getfield 51, 3) := dk_180 0 51 (dk_at dksX4_rows_1 4 rfl rfl)
theorem dX4_rows_31 : decode cX4_rows 31 = .ok (.aload_n 0, 1) := dk_42 (dk_at dksX4_rows_1 7 rfl rfl)
theorem dX4_rows_32 : decode cX4_rows 32 = .ok (.getfield 220, 3) := dk_180 0 220 (dk_at dksX4_rows_1 8 rfl rfl)
theorem dX4_rows_35 : decode cX4_rows 35 = .ok (.aload_n 0, 1) := dk_42 (dk_at dksX4_rows_1 11 rfl rfl)
theorem dX4_rows_36 : decode cX4_rows 36 = .ok (.aload_n 0, 1) := dk_42 (dk_at dksX4_rows_1 12 rfl rfl)
theorem dX4_rows_37 : decode cX4_rows 37 = .ok (.getfield 33, 3) := dk_180 0 33 (dk_at dksX4_rows_1 13 rfl rfl)
theorem dX4_rows_40 : decode cX4_rows 40 = .ok (.iload_n 1, 1) := dk_27 (dk_at dksX4_rows_1 16 rfl rfl)
theorem dX4_rows_41 : decode cX4_rows 41 = .ok (.iaload, 1) := dk_46 (dk_at dksX4_rows_1 17 rfl rfl)
theorem dX4_rows_42 : decode cX4_rows 42 = .ok (.invokevirtual 179, 3) := dk_182 0 179 (dk_at dksX4_rows_1 18 rfl rfl)
theorem dX4_rows_45 : decode cX4_rows 45 = .ok (.iastore, 1) := dk_79 (dk_at dksX4_rows_1 21 rfl rfl)
theorem dX4_rows_46 : decode cX4_rows 46 = .ok (.aload_n 0, 1) := dk_42 (dk_at dksX4_rows_1 22 rfl rfl)
theorem dX4_rows_47 : decode cX4_rows 47 = .ok (.dup, 1) := dk_89 (dk_at dksX4_rows_1 23 rfl rfl)
theorem dX4_rows_48 : decode cX4_rows 48 = .ok (.getfield 220, 3) := dk_180 0 220 (dk_at dksX4_rows_2 0 rfl rfl)
theorem dX4_rows_51 : decode cX4_rows 51 = .ok (.iconst 1, 1) := dk_4 (dk_at dksX4_rows_2 3 rfl rfl)
theorem dX4_rows_52 : decode cX4_rows 52 = .ok (.iadd, 1) := dk_96 (dk_at dksX4_rows_2 4 rfl rfl)
theorem dX4_rows_53 : decode cX4_rows 53 = .ok (.putfield 220, 3) := dk_181 0 220 (dk_at dksX4_rows_2 5 rfl rfl)
theorem dX4_rows_56 : decode cX4_rows 56 = .ok (.aload_n 0, 1) := dk_42 (dk_at dksX4_rows_2 8 rfl rfl)
theorem dX4_rows_57 : decode cX4_rows 57 = .ok (.getfield 33, 3) := dk_180 0 33 (dk_at dksX4_rows_2 9 rfl rfl)
theorem dX4_rows_60 : decode cX4_rows 60 = .ok (.iload_n 1, 1) := dk_27 (dk_at dksX4_rows_2 12 rfl rfl)
theorem dX4_rows_61 : decode cX4_rows 61 = .ok (.iaload, 1) := dk_46 (dk_at dksX4_rows_2 13 rfl rfl)
theorem dX4_rows_62 : decode cX4_rows 62 = .ok (.invokestatic 138, 3) := dk_184 0 138 (dk_at dksX4_rows_2 14 rfl rfl)
theorem dX4_rows_65 : decode cX4_rows 65 = .ok (.ifCond .eq 29, 3) := dk_153 0 29 (dk_at dksX4_rows_2 17 rfl rfl)
theorem dX4_rows_68 : decode cX4_rows 68 = .ok (.aload_n 0, 1) := dk_42 (dk_at dksX4_rows_2 20 rfl rfl)
theorem dX4_rows_69 : decode cX4_rows 69 = .ok (.getfield 54, 3) := dk_180 0 54 (dk_at dksX4_rows_2 21 rfl rfl)
theorem dX4_rows_72 : decode cX4_rows 72 = .ok (.aload_n 0, 1) := dk_42 (dk_at dksX4_rows_3 0 rfl rfl)
theorem dX4_rows_73 : decode cX4_rows 73 = .ok (.getfield 220, 3) := dk_180 0 220 (dk_at dksX4_rows_3 1 rfl rfl)
theorem dX4_rows_76 : decode cX4_rows 76 = .ok (.aload_n 0, 1) := dk_42 (dk_at dksX4_rows_3 4 rfl rfl)
theorem dX4_rows_77 : decode cX4_rows 77 = .ok (.getfield 7, 3) := dk_180 0 7 (dk_at dksX4_rows_3 5 rfl rfl)
theorem dX4_rows_80 : decode cX4_rows 80 = .ok (.bipush 32, 2) := dk_16 32 (dk_at dksX4_rows_3 8 rfl rfl)
theorem dX4_rows_82 : decode cX4_rows 82 = .ok (.aload_n 0, 1) := dk_42 (dk_at dksX4_rows_3 10 rfl rfl)
theorem dX4_rows_83 : decode cX4_rows 83 = .ok (.getfield 33, 3) := dk_180 0 33 (dk_at dksX4_rows_3 11 rfl rfl)
theorem dX4_rows_86 : decode cX4_rows 86 = .ok (.iload_n 1, 1) := dk_27 (dk_at dksX4_rows_3 14 rfl rfl)
theorem dX4_rows_87 : decode cX4_rows 87 = .ok (.iaload, 1) := dk_46 (dk_at dksX4_rows_3 15 rfl rfl)
theorem dX4_rows_88 : decode cX4_rows 88 = .ok (.invokestatic 99, 3) := dk_184 0 99 (dk_at dksX4_rows_3 16 rfl rfl)
theorem dX4_rows_91 : decode cX4_rows 91 = .ok (.iadd, 1) := dk_96 (dk_at dksX4_rows_3 19 rfl rfl)
theorem dX4_rows_92 : decode cX4_rows 92 = .ok (.iaload, 1) := dk_46 (dk_at dksX4_rows_3 20 rfl rfl)
theorem dX4_rows_93 : decode cX4_rows 93 = .ok (.iastore, 1) := dk_79 (dk_at dksX4_rows_3 21 rfl rfl)
theorem dX4_rows_94 : decode cX4_rows 94 = .ok (.iinc 1 1, 3) := dk_132 1 1 (dk_at dksX4_rows_4 0 rfl rfl)
theorem dX4_rows_97 : decode cX4_rows 97 = .ok (.goto (-90), 3) := dk_167 255 166 (dk_at dksX4_rows_4 3 rfl rfl)
theorem dX4_rows_100 : decode cX4_rows 100 = .ok (.return_, 1) := dk_177 (dk_at dksX4_rows_4 6 rfl rfl)
abbrev cX4_joins : ByteArray := prog_22_method_65_code
def yX4_joins : MethodName := ⟨RX4, "joins", "(IIII)I"⟩
def dkwX4_joins_3 : List UInt8 := [132, 5, 1, 132, 7, 1, 167, 255, 200, 132, 6, 1, 167, 255, 180, 21, 5, 172]
abbrev dktX4_joins_3 : List UInt8 := dkwX4_joins_3 ++ []
def dkwX4_joins_2 : List UInt8 := [46, 21, 6, 96, 46, 42, 180, 0, 57, 42, 180, 0, 60, 28, 46, 21, 7, 96, 46, 184, 0, 158, 79]
abbrev dktX4_joins_2 : List UInt8 := dkwX4_joins_2 ++ dktX4_joins_3
def dkwX4_joins_1 : List UInt8 := [180, 0, 63, 28, 46, 162, 0, 51, 42, 180, 0, 57, 21, 5, 29, 42, 180, 0, 57, 42, 180, 0, 60, 27]
abbrev dktX4_joins_1 : List UInt8 := dkwX4_joins_1 ++ dktX4_joins_2
def dkwX4_joins_0 : List UInt8 := [21, 4, 54, 5, 3, 54, 6, 21, 6, 42, 180, 0, 63, 27, 46, 162, 0, 71, 3, 54, 7, 21, 7, 42]
abbrev dktX4_joins_0 : List UInt8 := dkwX4_joins_0 ++ dktX4_joins_1
theorem dksX4_joins_0 : cX4_joins.data.toList.drop 0 = dktX4_joins_0 := by decide +kernel
theorem dksX4_joins_1 : cX4_joins.data.toList.drop 24 = dktX4_joins_1 := dk_seg dksX4_joins_0 24 rfl rfl
theorem dksX4_joins_2 : cX4_joins.data.toList.drop 48 = dktX4_joins_2 := dk_seg dksX4_joins_1 24 rfl rfl
theorem dksX4_joins_3 : cX4_joins.data.toList.drop 71 = dktX4_joins_3 := dk_seg dksX4_joins_2 23 rfl rfl
theorem dX4_joins_0 : decode cX4_joins 0 = .ok (.iload 4, 2) := dk_21 4 (dk_at dksX4_joins_0 0 rfl rfl)
theorem dX4_joins_2 : decode cX4_joins 2 = .ok (.istore 5, 2) := dk_54 5 (dk_at dksX4_joins_0 2 rfl rfl)
theorem dX4_joins_4 : decode cX4_joins 4 = .ok (.iconst 0, 1) := dk_3 (dk_at dksX4_joins_0 4 rfl rfl)
theorem dX4_joins_5 : decode cX4_joins 5 = .ok (.istore 6, 2) := dk_54 6 (dk_at dksX4_joins_0 5 rfl rfl)
theorem dX4_joins_7 : decode cX4_joins 7 = .ok (.iload 6, 2) := dk_21 6 (dk_at dksX4_joins_0 7 rfl rfl)
theorem dX4_joins_9 : decode cX4_joins 9 = .ok (.aload_n 0, 1) := dk_42 (dk_at dksX4_joins_0 9 rfl rfl)
theorem dX4_joins_10 : decode cX4_joins 10 = .ok (.getfield 63, 3) := dk_180 0 63 (dk_at dksX4_joins_0 10 rfl rfl)
theorem dX4_joins_13 : decode cX4_joins 13 = .ok (.iload_n 1, 1) := dk_27 (dk_at dksX4_joins_0 13 rfl rfl)
theorem dX4_joins_14 : decode cX4_joins 14 = .ok (.iaload, 1) := dk_46 (dk_at dksX4_joins_0 14 rfl rfl)
theorem dX4_joins_15 : decode cX4_joins 15 = .ok (.if_icmp .ge 71, 3) := dk_162 0 71 (dk_at dksX4_joins_0 15 rfl rfl)
theorem dX4_joins_18 : decode cX4_joins 18 = .ok (.iconst 0, 1) := dk_3 (dk_at dksX4_joins_0 18 rfl rfl)
theorem dX4_joins_19 : decode cX4_joins 19 = .ok (.istore 7, 2) := dk_54 7 (dk_at dksX4_joins_0 19 rfl rfl)
theorem dX4_joins_21 : decode cX4_joins 21 = .ok (.iload 7, 2) := dk_21 7 (dk_at dksX4_joins_0 21 rfl rfl)
theorem dX4_joins_23 : decode cX4_joins 23 = .ok (.aload_n 0, 1) := dk_42 (dk_at dksX4_joins_0 23 rfl rfl)
theorem dX4_joins_24 : decode cX4_joins 24 = .ok (.getfield 63, 3) := dk_180 0 63 (dk_at dksX4_joins_1 0 rfl rfl)
theorem dX4_joins_27 : decode cX4_joins 27 = .ok (.iload_n 2, 1) := dk_28 (dk_at dksX4_joins_1 3 rfl rfl)
theorem dX4_joins_28 : decode cX4_joins 28 = .ok (.iaload, 1) := dk_46 (dk_at dksX4_joins_1 4 rfl rfl)
theorem dX4_joins_29 : decode cX4_joins 29 = .ok (.if_icmp .ge 51, 3) := dk_162 0 51 (dk_at dksX4_joins_1 5 rfl rfl)
theorem dX4_joins_32 : decode cX4_joins 32 = .ok (.aload_n 0, 1) := dk_42 (dk_at dksX4_joins_1 8 rfl rfl)
theorem dX4_joins_33 : decode cX4_joins 33 = .ok (.getfield 57, 3) := dk_180 0 57 (dk_at dksX4_joins_1 9 rfl rfl)
theorem dX4_joins_36 : decode cX4_joins 36 = .ok (.iload 5, 2) := dk_21 5 (dk_at dksX4_joins_1 12 rfl rfl)
theorem dX4_joins_38 : decode cX4_joins 38 = .ok (.iload_n 3, 1) := dk_29 (dk_at dksX4_joins_1 14 rfl rfl)
theorem dX4_joins_39 : decode cX4_joins 39 = .ok (.aload_n 0, 1) := dk_42 (dk_at dksX4_joins_1 15 rfl rfl)
theorem dX4_joins_40 : decode cX4_joins 40 = .ok (.getfield 57, 3) := dk_180 0 57 (dk_at dksX4_joins_1 16 rfl rfl)
theorem dX4_joins_43 : decode cX4_joins 43 = .ok (.aload_n 0, 1) := dk_42 (dk_at dksX4_joins_1 19 rfl rfl)
theorem dX4_joins_44 : decode cX4_joins 44 = .ok (.getfield 60, 3) := dk_180 0 60 (dk_at dksX4_joins_1 20 rfl rfl)
theorem dX4_joins_47 : decode cX4_joins 47 = .ok (.iload_n 1, 1) := dk_27 (dk_at dksX4_joins_1 23 rfl rfl)
theorem dX4_joins_48 : decode cX4_joins 48 = .ok (.iaload, 1) := dk_46 (dk_at dksX4_joins_2 0 rfl rfl)
theorem dX4_joins_49 : decode cX4_joins 49 = .ok (.iload 6, 2) := dk_21 6 (dk_at dksX4_joins_2 1 rfl rfl)
theorem dX4_joins_51 : decode cX4_joins 51 = .ok (.iadd, 1) := dk_96 (dk_at dksX4_joins_2 3 rfl rfl)
theorem dX4_joins_52 : decode cX4_joins 52 = .ok (.iaload, 1) := dk_46 (dk_at dksX4_joins_2 4 rfl rfl)
theorem dX4_joins_53 : decode cX4_joins 53 = .ok (.aload_n 0, 1) := dk_42 (dk_at dksX4_joins_2 5 rfl rfl)
theorem dX4_joins_54 : decode cX4_joins 54 = .ok (.getfield 57, 3) := dk_180 0 57 (dk_at dksX4_joins_2 6 rfl rfl)
theorem dX4_joins_57 : decode cX4_joins 57 = .ok (.aload_n 0, 1) := dk_42 (dk_at dksX4_joins_2 9 rfl rfl)
theorem dX4_joins_58 : decode cX4_joins 58 = .ok (.getfield 60, 3) := dk_180 0 60 (dk_at dksX4_joins_2 10 rfl rfl)
theorem dX4_joins_61 : decode cX4_joins 61 = .ok (.iload_n 2, 1) := dk_28 (dk_at dksX4_joins_2 13 rfl rfl)
theorem dX4_joins_62 : decode cX4_joins 62 = .ok (.iaload, 1) := dk_46 (dk_at dksX4_joins_2 14 rfl rfl)
theorem dX4_joins_63 : decode cX4_joins 63 = .ok (.iload 7, 2) := dk_21 7 (dk_at dksX4_joins_2 15 rfl rfl)
theorem dX4_joins_65 : decode cX4_joins 65 = .ok (.iadd, 1) := dk_96 (dk_at dksX4_joins_2 17 rfl rfl)
theorem dX4_joins_66 : decode cX4_joins 66 = .ok (.iaload, 1) := dk_46 (dk_at dksX4_joins_2 18 rfl rfl)
theorem dX4_joins_67 : decode cX4_joins 67 = .ok (.invokestatic 158, 3) := dk_184 0 158 (dk_at dksX4_joins_2 19 rfl rfl)
theorem dX4_joins_70 : decode cX4_joins 70 = .ok (.iastore, 1) := dk_79 (dk_at dksX4_joins_2 22 rfl rfl)
theorem dX4_joins_71 : decode cX4_joins 71 = .ok (.iinc 5 1, 3) := dk_132 5 1 (dk_at dksX4_joins_3 0 rfl rfl)
theorem dX4_joins_74 : decode cX4_joins 74 = .ok (.iinc 7 1, 3) := dk_132 7 1 (dk_at dksX4_joins_3 3 rfl rfl)
theorem dX4_joins_77 : decode cX4_joins 77 = .ok (.goto (-56), 3) := dk_167 255 200 (dk_at dksX4_joins_3 6 rfl rfl)
theorem dX4_joins_80 : decode cX4_joins 80 = .ok (.iinc 6 1, 3) := dk_132 6 1 (dk_at dksX4_joins_3 9 rfl rfl)
theorem dX4_joins_83 : decode cX4_joins 83 = .ok (.goto (-76), 3) := dk_167 255 180 (dk_at dksX4_joins_3 12 rfl rfl)
theorem dX4_joins_86 : decode cX4_joins 86 = .ok (.iload 5, 2) := dk_21 5 (dk_at dksX4_joins_3 15 rfl rfl)
theorem dX4_joins_88 : decode cX4_joins 88 = .ok (.ireturn, 1) := dk_172 (dk_at dksX4_joins_3 17 rfl rfl)
abbrev cX4_bracketingsByMaking : ByteArray := prog_22_method_68_code
def yX4_bracketingsByMaking : MethodName := ⟨RX4, "bracketingsByMaking", "()J"⟩
theorem dX4_bracketingsByMaking_0 : decode cX4_bracketingsByMaking 0 = .ok (.aload_n 0, 1) := by decide +kernel
theorem dX4_bracketingsByMaking_1 : decode cX4_bracketingsByMaking 1 = .ok (.invokevirtual 233, 3) := by decide +kernel
theorem dX4_bracketingsByMaking_4 : decode cX4_bracketingsByMaking 4 = .ok (.lreturn, 1) := by decide +kernel
abbrev cX4_greatest : ByteArray := prog_22_method_70_code
def yX4_greatest : MethodName := ⟨RX4, "greatest", "()I"⟩
theorem dX4_greatest_0 : decode cX4_greatest 0 = .ok (.aload_n 0, 1) := by decide +kernel
theorem dX4_greatest_1 : decode cX4_greatest 1 = .ok (.invokevirtual 237, 3) := by decide +kernel
theorem dX4_greatest_4 : decode cX4_greatest 4 = .ok (.ireturn, 1) := by decide +kernel
abbrev cX4_best : ByteArray := prog_22_method_69_code
def yX4_best : MethodName := ⟨RX4, "best", "()I"⟩
def dkwX4_best_2 : List UInt8 := [132, 3, 1, 167, 255, 225, 28, 172]
abbrev dktX4_best_2 : List UInt8 := dkwX4_best_2 ++ []
def dkwX4_best_1 : List UInt8 := [42, 180, 0, 57, 42, 180, 0, 60, 42, 180, 0, 220, 4, 100, 46, 29, 96, 46, 184, 0, 154, 61]
abbrev dktX4_best_1 : List UInt8 := dkwX4_best_1 ++ dktX4_best_2
def dkwX4_best_0 : List UInt8 := [42, 182, 0, 185, 154, 0, 5, 3, 172, 42, 182, 0, 230, 60, 3, 61, 3, 62, 29, 27, 162, 0, 32, 28]
abbrev dktX4_best_0 : List UInt8 := dkwX4_best_0 ++ dktX4_best_1
theorem dksX4_best_0 : cX4_best.data.toList.drop 0 = dktX4_best_0 := by decide +kernel
theorem dksX4_best_1 : cX4_best.data.toList.drop 24 = dktX4_best_1 := dk_seg dksX4_best_0 24 rfl rfl
theorem dksX4_best_2 : cX4_best.data.toList.drop 46 = dktX4_best_2 := dk_seg dksX4_best_1 22 rfl rfl
theorem dX4_best_0 : decode cX4_best 0 = .ok (.aload_n 0, 1) := dk_42 (dk_at dksX4_best_0 0 rfl rfl)
theorem dX4_best_1 : decode cX4_best 1 = .ok (.invokevirtual 185, 3) := dk_182 0 185 (dk_at dksX4_best_0 1 rfl rfl)
theorem dX4_best_4 : decode cX4_best 4 = .ok (.ifCond .ne 5, 3) := dk_154 0 5 (dk_at dksX4_best_0 4 rfl rfl)
theorem dX4_best_7 : decode cX4_best 7 = .ok (.iconst 0, 1) := dk_3 (dk_at dksX4_best_0 7 rfl rfl)
theorem dX4_best_8 : decode cX4_best 8 = .ok (.ireturn, 1) := dk_172 (dk_at dksX4_best_0 8 rfl rfl)
theorem dX4_best_9 : decode cX4_best 9 = .ok (.aload_n 0, 1) := dk_42 (dk_at dksX4_best_0 9 rfl rfl)
theorem dX4_best_10 : decode cX4_best 10 = .ok (.invokevirtual 230, 3) := dk_182 0 230 (dk_at dksX4_best_0 10 rfl rfl)
theorem dX4_best_13 : decode cX4_best 13 = .ok (.istore_n 1, 1) := dk_60 (dk_at dksX4_best_0 13 rfl rfl)
theorem dX4_best_14 : decode cX4_best 14 = .ok (.iconst 0, 1) := dk_3 (dk_at dksX4_best_0 14 rfl rfl)
theorem dX4_best_15 : decode cX4_best 15 = .ok (.istore_n 2, 1) := dk_61 (dk_at dksX4_best_0 15 rfl rfl)
theorem dX4_best_16 : decode cX4_best 16 = .ok (.iconst 0, 1) := dk_3 (dk_at dksX4_best_0 16 rfl rfl)
theorem dX4_best_17 : decode cX4_best 17 = .ok (.istore_n 3, 1) := dk_62 (dk_at dksX4_best_0 17 rfl rfl)
theorem dX4_best_18 : decode cX4_best 18 = .ok (.iload_n 3, 1) := dk_29 (dk_at dksX4_best_0 18 rfl rfl)
theorem dX4_best_19 : decode cX4_best 19 = .ok (.iload_n 1, 1) := dk_27 (dk_at dksX4_best_0 19 rfl rfl)
theorem dX4_best_20 : decode cX4_best 20 = .ok (.if_icmp .ge 32, 3) := dk_162 0 32 (dk_at dksX4_best_0 20 rfl rfl)
theorem dX4_best_23 : decode cX4_best 23 = .ok (.iload_n 2, 1) := dk_28 (dk_at dksX4_best_0 23 rfl rfl)
theorem dX4_best_24 : decode cX4_best 24 = .ok (.aload_n 0, 1) := dk_42 (dk_at dksX4_best_1 0 rfl rfl)
theorem dX4_best_25 : decode cX4_best 25 = .ok (.getfield 57, 3) := dk_180 0 57 (dk_at dksX4_best_1 1 rfl rfl)
theorem dX4_best_28 : decode cX4_best 28 = .ok (.aload_n 0, 1) := dk_42 (dk_at dksX4_best_1 4 rfl rfl)
theorem dX4_best_29 : decode cX4_best 29 = .ok (.getfield 60, 3) := dk_180 0 60 (dk_at dksX4_best_1 5 rfl rfl)
theorem dX4_best_32 : decode cX4_best 32 = .ok (.aload_n 0, 1) := dk_42 (dk_at dksX4_best_1 8 rfl rfl)
theorem dX4_best_33 : decode cX4_best 33 = .ok (.getfield 220, 3) := dk_180 0 220 (dk_at dksX4_best_1 9 rfl rfl)
theorem dX4_best_36 : decode cX4_best 36 = .ok (.iconst 1, 1) := dk_4 (dk_at dksX4_best_1 12 rfl rfl)
theorem dX4_best_37 : decode cX4_best 37 = .ok (.isub, 1) := dk_100 (dk_at dksX4_best_1 13 rfl rfl)
theorem dX4_best_38 : decode cX4_best 38 = .ok (.iaload, 1) := dk_46 (dk_at dksX4_best_1 14 rfl rfl)
theorem dX4_best_39 : decode cX4_best 39 = .ok (.iload_n 3, 1) := dk_29 (dk_at dksX4_best_1 15 rfl rfl)
theorem dX4_best_40 : decode cX4_best 40 = .ok (.iadd, 1) := dk_96 (dk_at dksX4_best_1 16 rfl rfl)
theorem dX4_best_41 : decode cX4_best 41 = .ok (.iaload, 1) := dk_46 (dk_at dksX4_best_1 17 rfl rfl)
theorem dX4_best_42 : decode cX4_best 42 = .ok (.invokestatic 154, 3) := dk_184 0 154 (dk_at dksX4_best_1 18 rfl rfl)
theorem dX4_best_45 : decode cX4_best 45 = .ok (.istore_n 2, 1) := dk_61 (dk_at dksX4_best_1 21 rfl rfl)
theorem dX4_best_46 : decode cX4_best 46 = .ok (.iinc 3 1, 3) := dk_132 3 1 (dk_at dksX4_best_2 0 rfl rfl)
theorem dX4_best_49 : decode cX4_best 49 = .ok (.goto (-31), 3) := dk_167 255 225 (dk_at dksX4_best_2 3 rfl rfl)
theorem dX4_best_52 : decode cX4_best 52 = .ok (.iload_n 2, 1) := dk_28 (dk_at dksX4_best_2 6 rfl rfl)
theorem dX4_best_53 : decode cX4_best 53 = .ok (.ireturn, 1) := dk_172 (dk_at dksX4_best_2 7 rfl rfl)
abbrev cX4_greatestByMaking : ByteArray := prog_22_method_71_code
def yX4_greatestByMaking : MethodName := ⟨RX4, "greatestByMaking", "()I"⟩
theorem dX4_greatestByMaking_0 : decode cX4_greatestByMaking 0 = .ok (.aload_n 0, 1) := by decide +kernel
theorem dX4_greatestByMaking_1 : decode cX4_greatestByMaking 1 = .ok (.invokevirtual 237, 3) := by decide +kernel
theorem dX4_greatestByMaking_4 : decode cX4_greatestByMaking 4 = .ok (.ireturn, 1) := by decide +kernel
abbrev cX4_values : ByteArray := prog_22_method_72_code
def yX4_values : MethodName := ⟨RX4, "values", "()I"⟩
def dkwX4_values_4 : List UInt8 := [167, 255, 202, 28, 172]
abbrev dktX4_values_4 : List UInt8 := dkwX4_values_4 ++ []
def dkwX4_values_3 : List UInt8 := [21, 4, 51, 153, 0, 7, 3, 167, 0, 4, 4, 96, 61, 42, 180, 0, 66, 21, 4, 4, 84, 132, 3, 1]
abbrev dktX4_values_3 : List UInt8 := dkwX4_values_3 ++ dktX4_values_4
def dkwX4_values_2 : List UInt8 := [180, 0, 57, 42, 180, 0, 60, 42, 180, 0, 220, 4, 100, 46, 29, 96, 46, 54, 4, 28, 42, 180, 0, 66]
abbrev dktX4_values_2 : List UInt8 := dkwX4_values_2 ++ dktX4_values_3
def dkwX4_values_1 : List UInt8 := [162, 0, 16, 42, 180, 0, 66, 29, 3, 84, 132, 3, 1, 167, 255, 239, 3, 62, 29, 27, 162, 0, 55, 42]
abbrev dktX4_values_1 : List UInt8 := dkwX4_values_1 ++ dktX4_values_2
def dkwX4_values_0 : List UInt8 := [42, 182, 0, 185, 154, 0, 5, 3, 172, 42, 182, 0, 230, 60, 3, 61, 3, 62, 29, 17, 3, 232]
abbrev dktX4_values_0 : List UInt8 := dkwX4_values_0 ++ dktX4_values_1
theorem dksX4_values_0 : cX4_values.data.toList.drop 0 = dktX4_values_0 := by decide +kernel
theorem dksX4_values_1 : cX4_values.data.toList.drop 22 = dktX4_values_1 := dk_seg dksX4_values_0 22 rfl rfl
theorem dksX4_values_2 : cX4_values.data.toList.drop 46 = dktX4_values_2 := dk_seg dksX4_values_1 24 rfl rfl
theorem dksX4_values_3 : cX4_values.data.toList.drop 70 = dktX4_values_3 := dk_seg dksX4_values_2 24 rfl rfl
theorem dksX4_values_4 : cX4_values.data.toList.drop 94 = dktX4_values_4 := dk_seg dksX4_values_3 24 rfl rfl
theorem dX4_values_0 : decode cX4_values 0 = .ok (.aload_n 0, 1) := dk_42 (dk_at dksX4_values_0 0 rfl rfl)
theorem dX4_values_1 : decode cX4_values 1 = .ok (.invokevirtual 185, 3) := dk_182 0 185 (dk_at dksX4_values_0 1 rfl rfl)
theorem dX4_values_4 : decode cX4_values 4 = .ok (.ifCond .ne 5, 3) := dk_154 0 5 (dk_at dksX4_values_0 4 rfl rfl)
theorem dX4_values_7 : decode cX4_values 7 = .ok (.iconst 0, 1) := dk_3 (dk_at dksX4_values_0 7 rfl rfl)
theorem dX4_values_8 : decode cX4_values 8 = .ok (.ireturn, 1) := dk_172 (dk_at dksX4_values_0 8 rfl rfl)
theorem dX4_values_9 : decode cX4_values 9 = .ok (.aload_n 0, 1) := dk_42 (dk_at dksX4_values_0 9 rfl rfl)
theorem dX4_values_10 : decode cX4_values 10 = .ok (.invokevirtual 230, 3) := dk_182 0 230 (dk_at dksX4_values_0 10 rfl rfl)
theorem dX4_values_13 : decode cX4_values 13 = .ok (.istore_n 1, 1) := dk_60 (dk_at dksX4_values_0 13 rfl rfl)
theorem dX4_values_14 : decode cX4_values 14 = .ok (.iconst 0, 1) := dk_3 (dk_at dksX4_values_0 14 rfl rfl)
theorem dX4_values_15 : decode cX4_values 15 = .ok (.istore_n 2, 1) := dk_61 (dk_at dksX4_values_0 15 rfl rfl)
theorem dX4_values_16 : decode cX4_values 16 = .ok (.iconst 0, 1) := dk_3 (dk_at dksX4_values_0 16 rfl rfl)
theorem dX4_values_17 : decode cX4_values 17 = .ok (.istore_n 3, 1) := dk_62 (dk_at dksX4_values_0 17 rfl rfl)
theorem dX4_values_18 : decode cX4_values 18 = .ok (.iload_n 3, 1) := dk_29 (dk_at dksX4_values_0 18 rfl rfl)
theorem dX4_values_19 : decode cX4_values 19 = .ok (.sipush 1000, 3) := dk_17 3 232 (dk_at dksX4_values_0 19 rfl rfl)
theorem dX4_values_22 : decode cX4_values 22 = .ok (.if_icmp .ge 16, 3) := dk_162 0 16 (dk_at dksX4_values_1 0 rfl rfl)
theorem dX4_values_25 : decode cX4_values 25 = .ok (.aload_n 0, 1) := dk_42 (dk_at dksX4_values_1 3 rfl rfl)
theorem dX4_values_26 : decode cX4_values 26 = .ok (.getfield 66, 3) := dk_180 0 66 (dk_at dksX4_values_1 4 rfl rfl)
theorem dX4_values_29 : decode cX4_values 29 = .ok (.iload_n 3, 1) := dk_29 (dk_at dksX4_values_1 7 rfl rfl)
theorem dX4_values_30 : decode cX4_values 30 = .ok (.iconst 0, 1) := dk_3 (dk_at dksX4_values_1 8 rfl rfl)
theorem dX4_values_31 : decode cX4_values 31 = .ok (.bastore, 1) := dk_84 (dk_at dksX4_values_1 9 rfl rfl)
theorem dX4_values_32 : decode cX4_values 32 = .ok (.iinc 3 1, 3) := dk_132 3 1 (dk_at dksX4_values_1 10 rfl rfl)
theorem dX4_values_35 : decode cX4_values 35 = .ok (.goto (-17), 3) := dk_167 255 239 (dk_at dksX4_values_1 13 rfl rfl)
theorem dX4_values_38 : decode cX4_values 38 = .ok (.iconst 0, 1) := dk_3 (dk_at dksX4_values_1 16 rfl rfl)
theorem dX4_values_39 : decode cX4_values 39 = .ok (.istore_n 3, 1) := dk_62 (dk_at dksX4_values_1 17 rfl rfl)
theorem dX4_values_40 : decode cX4_values 40 = .ok (.iload_n 3, 1) := dk_29 (dk_at dksX4_values_1 18 rfl rfl)
theorem dX4_values_41 : decode cX4_values 41 = .ok (.iload_n 1, 1) := dk_27 (dk_at dksX4_values_1 19 rfl rfl)
theorem dX4_values_42 : decode cX4_values 42 = .ok (.if_icmp .ge 55, 3) := dk_162 0 55 (dk_at dksX4_values_1 20 rfl rfl)
theorem dX4_values_45 : decode cX4_values 45 = .ok (.aload_n 0, 1) := dk_42 (dk_at dksX4_values_1 23 rfl rfl)
theorem dX4_values_46 : decode cX4_values 46 = .ok (.getfield 57, 3) := dk_180 0 57 (dk_at dksX4_values_2 0 rfl rfl)
theorem dX4_values_49 : decode cX4_values 49 = .ok (.aload_n 0, 1) := dk_42 (dk_at dksX4_values_2 3 rfl rfl)
theorem dX4_values_50 : decode cX4_values 50 = .ok (.getfield 60, 3) := dk_180 0 60 (dk_at dksX4_values_2 4 rfl rfl)
theorem dX4_values_53 : decode cX4_values 53 = .ok (.aload_n 0, 1) := dk_42 (dk_at dksX4_values_2 7 rfl rfl)
theorem dX4_values_54 : decode cX4_values 54 = .ok (.getfield 220, 3) := dk_180 0 220 (dk_at dksX4_values_2 8 rfl rfl)
theorem dX4_values_57 : decode cX4_values 57 = .ok (.iconst 1, 1) := dk_4 (dk_at dksX4_values_2 11 rfl rfl)
theorem dX4_values_58 : decode cX4_values 58 = .ok (.isub, 1) := dk_100 (dk_at dksX4_values_2 12 rfl rfl)
theorem dX4_values_59 : decode cX4_values 59 = .ok (.iaload, 1) := dk_46 (dk_at dksX4_values_2 13 rfl rfl)
theorem dX4_values_60 : decode cX4_values 60 = .ok (.iload_n 3, 1) := dk_29 (dk_at dksX4_values_2 14 rfl rfl)
theorem dX4_values_61 : decode cX4_values 61 = .ok (.iadd, 1) := dk_96 (dk_at dksX4_values_2 15 rfl rfl)
theorem dX4_values_62 : decode cX4_values 62 = .ok (.iaload, 1) := dk_46 (dk_at dksX4_values_2 16 rfl rfl)
theorem dX4_values_63 : decode cX4_values 63 = .ok (.istore 4, 2) := dk_54 4 (dk_at dksX4_values_2 17 rfl rfl)
theorem dX4_values_65 : decode cX4_values 65 = .ok (.iload_n 2, 1) := dk_28 (dk_at dksX4_values_2 19 rfl rfl)
theorem dX4_values_66 : decode cX4_values 66 = .ok (.aload_n 0, 1) := dk_42 (dk_at dksX4_values_2 20 rfl rfl)
theorem dX4_values_67 : decode cX4_values 67 = .ok (.getfield 66, 3) := dk_180 0 66 (dk_at dksX4_values_2 21 rfl rfl)
theorem dX4_values_70 : decode cX4_values 70 = .ok (.iload 4, 2) := dk_21 4 (dk_at dksX4_values_3 0 rfl rfl)
theorem dX4_values_72 : decode cX4_values 72 = .ok (.baload, 1) := dk_51 (dk_at dksX4_values_3 2 rfl rfl)
theorem dX4_values_73 : decode cX4_values 73 = .ok (.ifCond .eq 7, 3) := dk_153 0 7 (dk_at dksX4_values_3 3 rfl rfl)
theorem dX4_values_76 : decode cX4_values 76 = .ok (.iconst 0, 1) := dk_3 (dk_at dksX4_values_3 6 rfl rfl)
theorem dX4_values_77 : decode cX4_values 77 = .ok (.goto 4, 3) := dk_167 0 4 (dk_at dksX4_values_3 7 rfl rfl)
theorem dX4_values_80 : decode cX4_values 80 = .ok (.iconst 1, 1) := dk_4 (dk_at dksX4_values_3 10 rfl rfl)
theorem dX4_values_81 : decode cX4_values 81 = .ok (.iadd, 1) := dk_96 (dk_at dksX4_values_3 11 rfl rfl)
theorem dX4_values_82 : decode cX4_values 82 = .ok (.istore_n 2, 1) := dk_61 (dk_at dksX4_values_3 12 rfl rfl)
theorem dX4_values_83 : decode cX4_values 83 = .ok (.aload_n 0, 1) := dk_42 (dk_at dksX4_values_3 13 rfl rfl)
theorem dX4_values_84 : decode cX4_values 84 = .ok (.getfield 66, 3) := dk_180 0 66 (dk_at dksX4_values_3 14 rfl rfl)
theorem dX4_values_87 : decode cX4_values 87 = .ok (.iload 4, 2) := dk_21 4 (dk_at dksX4_values_3 17 rfl rfl)
theorem dX4_values_89 : decode cX4_values 89 = .ok (.iconst 1, 1) := dk_4 (dk_at dksX4_values_3 19 rfl rfl)
theorem dX4_values_90 : decode cX4_values 90 = .ok (.bastore, 1) := dk_84 (dk_at dksX4_values_3 20 rfl rfl)
theorem dX4_values_91 : decode cX4_values 91 = .ok (.iinc 3 1, 3) := dk_132 3 1 (dk_at dksX4_values_3 21 rfl rfl)
theorem dX4_values_94 : decode cX4_values 94 = .ok (.goto (-54), 3) := dk_167 255 202 (dk_at dksX4_values_4 0 rfl rfl)
theorem dX4_values_97 : decode cX4_values 97 = .ok (.iload_n 2, 1) := dk_28 (dk_at dksX4_values_4 3 rfl rfl)
theorem dX4_values_98 : decode cX4_values 98 = .ok (.ireturn, 1) := dk_172 (dk_at dksX4_values_4 4 rfl rfl)
abbrev cX4_meanSky : ByteArray := prog_22_method_73_code
def yX4_meanSky : MethodName := ⟨RX4, "meanSky", "()D"⟩
def dkwX4_meanSky_1 : List UInt8 := [96, 60, 132, 2, 1, 167, 255, 236, 27, 135, 20, 0, 240, 111, 175]
abbrev dktX4_meanSky_1 : List UInt8 := dkwX4_meanSky_1 ++ []
def dkwX4_meanSky_0 : List UInt8 := [42, 3, 181, 0, 73, 3, 60, 3, 61, 28, 8, 162, 0, 21, 27, 42, 180, 0, 7, 16, 39, 28, 96, 46]
abbrev dktX4_meanSky_0 : List UInt8 := dkwX4_meanSky_0 ++ dktX4_meanSky_1
theorem dksX4_meanSky_0 : cX4_meanSky.data.toList.drop 0 = dktX4_meanSky_0 := by decide +kernel
theorem dksX4_meanSky_1 : cX4_meanSky.data.toList.drop 24 = dktX4_meanSky_1 := dk_seg dksX4_meanSky_0 24 rfl rfl
theorem dX4_meanSky_0 : decode cX4_meanSky 0 = .ok (.aload_n 0, 1) := dk_42 (dk_at dksX4_meanSky_0 0 rfl rfl)
theorem dX4_meanSky_1 : decode cX4_meanSky 1 = .ok (.iconst 0, 1) := dk_3 (dk_at dksX4_meanSky_0 1 rfl rfl)
theorem dX4_meanSky_2 : decode cX4_meanSky 2 = .ok (.putfield 73, 3) := dk_181 0 73 (dk_at dksX4_meanSky_0 2 rfl rfl)
theorem dX4_meanSky_5 : decode cX4_meanSky 5 = .ok (.iconst 0, 1) := dk_3 (dk_at dksX4_meanSky_0 5 rfl rfl)
theorem dX4_meanSky_6 : decode cX4_meanSky 6 = .ok (.istore_n 1, 1) := dk_60 (dk_at dksX4_meanSky_0 6 rfl rfl)
theorem dX4_meanSky_7 : decode cX4_meanSky 7 = .ok (.iconst 0, 1) := dk_3 (dk_at dksX4_meanSky_0 7 rfl rfl)
theorem dX4_meanSky_8 : decode cX4_meanSky 8 = .ok (.istore_n 2, 1) := dk_61 (dk_at dksX4_meanSky_0 8 rfl rfl)
theorem dX4_meanSky_9 : decode cX4_meanSky 9 = .ok (.iload_n 2, 1) := dk_28 (dk_at dksX4_meanSky_0 9 rfl rfl)
theorem dX4_meanSky_10 : decode cX4_meanSky 10 = .ok (.iconst 5, 1) := dk_8 (dk_at dksX4_meanSky_0 10 rfl rfl)
theorem dX4_meanSky_11 : decode cX4_meanSky 11 = .ok (.if_icmp .ge 21, 3) := dk_162 0 21 (dk_at dksX4_meanSky_0 11 rfl rfl)
theorem dX4_meanSky_14 : decode cX4_meanSky 14 = .ok (.iload_n 1, 1) := dk_27 (dk_at dksX4_meanSky_0 14 rfl rfl)
theorem dX4_meanSky_15 : decode cX4_meanSky 15 = .ok (.aload_n 0, 1) := dk_42 (dk_at dksX4_meanSky_0 15 rfl rfl)
theorem dX4_meanSky_16 : decode cX4_meanSky 16 = .ok (.getfield 7, 3) := dk_180 0 7 (dk_at dksX4_meanSky_0 16 rfl rfl)
theorem dX4_meanSky_19 : decode cX4_meanSky 19 = .ok (.bipush 39, 2) := dk_16 39 (dk_at dksX4_meanSky_0 19 rfl rfl)
theorem dX4_meanSky_21 : decode cX4_meanSky 21 = .ok (.iload_n 2, 1) := dk_28 (dk_at dksX4_meanSky_0 21 rfl rfl)
theorem dX4_meanSky_22 : decode cX4_meanSky 22 = .ok (.iadd, 1) := dk_96 (dk_at dksX4_meanSky_0 22 rfl rfl)
theorem dX4_meanSky_23 : decode cX4_meanSky 23 = .ok (.iaload, 1) := dk_46 (dk_at dksX4_meanSky_0 23 rfl rfl)
theorem dX4_meanSky_24 : decode cX4_meanSky 24 = .ok (.iadd, 1) := dk_96 (dk_at dksX4_meanSky_1 0 rfl rfl)
theorem dX4_meanSky_25 : decode cX4_meanSky 25 = .ok (.istore_n 1, 1) := dk_60 (dk_at dksX4_meanSky_1 1 rfl rfl)
theorem dX4_meanSky_26 : decode cX4_meanSky 26 = .ok (.iinc 2 1, 3) := dk_132 2 1 (dk_at dksX4_meanSky_1 2 rfl rfl)
theorem dX4_meanSky_29 : decode cX4_meanSky 29 = .ok (.goto (-20), 3) := dk_167 255 236 (dk_at dksX4_meanSky_1 5 rfl rfl)
theorem dX4_meanSky_32 : decode cX4_meanSky 32 = .ok (.iload_n 1, 1) := dk_27 (dk_at dksX4_meanSky_1 8 rfl rfl)
theorem dX4_meanSky_33 : decode cX4_meanSky 33 = .ok (.i2d, 1) := dk_135 (dk_at dksX4_meanSky_1 9 rfl rfl)
theorem dX4_meanSky_34 : decode cX4_meanSky 34 = .ok (.ldc2_w 240, 3) := dk_20 0 240 (dk_at dksX4_meanSky_1 10 rfl rfl)
theorem dX4_meanSky_37 : decode cX4_meanSky 37 = .ok (.ddiv, 1) := dk_111 (dk_at dksX4_meanSky_1 13 rfl rfl)
theorem dX4_meanSky_38 : decode cX4_meanSky 38 = .ok (.dreturn, 1) := dk_175 (dk_at dksX4_meanSky_1 14 rfl rfl)
abbrev cX4_sunShare : ByteArray := prog_22_method_74_code
def yX4_sunShare : MethodName := ⟨RX4, "sunShare", "()F"⟩
def dkwX4_sunShare_3 : List UInt8 := [134, 110, 174]
abbrev dktX4_sunShare_3 : List UInt8 := dkwX4_sunShare_3 ++ []
def dkwX4_sunShare_2 : List UInt8 := [153, 0, 7, 4, 167, 0, 4, 3, 96, 60, 132, 2, 1, 167, 255, 224, 27, 134, 42, 180, 0, 7, 3, 46]
abbrev dktX4_sunShare_2 : List UInt8 := dkwX4_sunShare_2 ++ dktX4_sunShare_3
def dkwX4_sunShare_1 : List UInt8 := [60, 3, 61, 28, 42, 180, 0, 7, 3, 46, 162, 0, 28, 27, 42, 28, 182, 0, 117, 184, 0, 114]
abbrev dktX4_sunShare_1 : List UInt8 := dkwX4_sunShare_1 ++ dktX4_sunShare_2
def dkwX4_sunShare_0 : List UInt8 := [42, 42, 180, 0, 7, 3, 46, 154, 0, 7, 4, 167, 0, 4, 3, 182, 0, 123, 153, 0, 5, 11, 174, 3]
abbrev dktX4_sunShare_0 : List UInt8 := dkwX4_sunShare_0 ++ dktX4_sunShare_1
theorem dksX4_sunShare_0 : cX4_sunShare.data.toList.drop 0 = dktX4_sunShare_0 := by decide +kernel
theorem dksX4_sunShare_1 : cX4_sunShare.data.toList.drop 24 = dktX4_sunShare_1 := dk_seg dksX4_sunShare_0 24 rfl rfl
theorem dksX4_sunShare_2 : cX4_sunShare.data.toList.drop 46 = dktX4_sunShare_2 := dk_seg dksX4_sunShare_1 22 rfl rfl
theorem dksX4_sunShare_3 : cX4_sunShare.data.toList.drop 70 = dktX4_sunShare_3 := dk_seg dksX4_sunShare_2 24 rfl rfl
theorem dX4_sunShare_0 : decode cX4_sunShare 0 = .ok (.aload_n 0, 1) := dk_42 (dk_at dksX4_sunShare_0 0 rfl rfl)
theorem dX4_sunShare_1 : decode cX4_sunShare 1 = .ok (.aload_n 0, 1) := dk_42 (dk_at dksX4_sunShare_0 1 rfl rfl)
theorem dX4_sunShare_2 : decode cX4_sunShare 2 = .ok (.getfield 7, 3) := dk_180 0 7 (dk_at dksX4_sunShare_0 2 rfl rfl)
theorem dX4_sunShare_5 : decode cX4_sunShare 5 = .ok (.iconst 0, 1) := dk_3 (dk_at dksX4_sunShare_0 5 rfl rfl)
theorem dX4_sunShare_6 : decode cX4_sunShare 6 = .ok (.iaload, 1) := dk_46 (dk_at dksX4_sunShare_0 6 rfl rfl)
theorem dX4_sunShare_7 : decode cX4_sunShare 7 = .ok (.ifCond .ne 7, 3) := dk_154 0 7 (dk_at dksX4_sunShare_0 7 rfl rfl)
theorem dX4_sunShare_10 : decode cX4_sunShare 10 = .ok (.iconst 1, 1) := dk_4 (dk_at dksX4_sunShare_0 10 rfl rfl)
theorem dX4_sunShare_11 : decode cX4_sunShare 11 = .ok (.goto 4, 3) := dk_167 0 4 (dk_at dksX4_sunShare_0 11 rfl rfl)
theorem dX4_sunShare_14 : decode cX4_sunShare 14 = .ok (.iconst 0, 1) := dk_3 (dk_at dksX4_sunShare_0 14 rfl rfl)
theorem dX4_sunShare_15 : decode cX4_sunShare 15 = .ok (.invokevirtual 123, 3) := dk_182 0 123 (dk_at dksX4_sunShare_0 15 rfl rfl)
theorem dX4_sunShare_18 : decode cX4_sunShare 18 = .ok (.ifCond .eq 5, 3) := dk_153 0 5 (dk_at dksX4_sunShare_0 18 rfl rfl)
theorem dX4_sunShare_21 : decode cX4_sunShare 21 = .ok (.fconst 0, 1) := dk_11 (dk_at dksX4_sunShare_0 21 rfl rfl)
theorem dX4_sunShare_22 : decode cX4_sunShare 22 = .ok (.freturn, 1) := dk_174 (dk_at dksX4_sunShare_0 22 rfl rfl)
theorem dX4_sunShare_23 : decode cX4_sunShare 23 = .ok (.iconst 0, 1) := dk_3 (dk_at dksX4_sunShare_0 23 rfl rfl)
theorem dX4_sunShare_24 : decode cX4_sunShare 24 = .ok (.istore_n 1, 1) := dk_60 (dk_at dksX4_sunShare_1 0 rfl rfl)
theorem dX4_sunShare_25 : decode cX4_sunShare 25 = .ok (.iconst 0, 1) := dk_3 (dk_at dksX4_sunShare_1 1 rfl rfl)
theorem dX4_sunShare_26 : decode cX4_sunShare 26 = .ok (.istore_n 2, 1) := dk_61 (dk_at dksX4_sunShare_1 2 rfl rfl)
theorem dX4_sunShare_27 : decode cX4_sunShare 27 = .ok (.iload_n 2, 1) := dk_28 (dk_at dksX4_sunShare_1 3 rfl rfl)
theorem dX4_sunShare_28 : decode cX4_sunShare 28 = .ok (.aload_n 0, 1) := dk_42 (dk_at dksX4_sunShare_1 4 rfl rfl)
theorem dX4_sunShare_29 : decode cX4_sunShare 29 = .ok (.getfield 7, 3) := dk_180 0 7 (dk_at dksX4_sunShare_1 5 rfl rfl)
theorem dX4_sunShare_32 : decode cX4_sunShare 32 = .ok (.iconst 0, 1) := dk_3 (dk_at dksX4_sunShare_1 8 rfl rfl)
theorem dX4_sunShare_33 : decode cX4_sunShare 33 = .ok (.iaload, 1) := dk_46 (dk_at dksX4_sunShare_1 9 rfl rfl)
theorem dX4_sunShare_34 : decode cX4_sunShare 34 = .ok (.if_icmp .ge 28, 3) := dk_162 0 28 (dk_at dksX4_sunShare_1 10 rfl rfl)
theorem dX4_sunShare_37 : decode cX4_sunShare 37 = .ok (.iload_n 1, 1) := dk_27 (dk_at dksX4_sunShare_1 13 rfl rfl)
theorem dX4_sunShare_38 : decode cX4_sunShare 38 = .ok (.aload_n 0, 1) := dk_42 (dk_at dksX4_sunShare_1 14 rfl rfl)
theorem dX4_sunShare_39 : decode cX4_sunShare 39 = .ok (.iload_n 2, 1) := dk_28 (dk_at dksX4_sunShare_1 15 rfl rfl)
theorem dX4_sunShare_40 : decode cX4_sunShare 40 = .ok (.invokevirtual 117, 3) := dk_182 0 117 (dk_at dksX4_sunShare_1 16 rfl rfl)
theorem dX4_sunShare_43 : decode cX4_sunShare 43 = .ok (.invokestatic 114, 3) := dk_184 0 114 (dk_at dksX4_sunShare_1 19 rfl rfl)
theorem dX4_sunShare_46 : decode cX4_sunShare 46 = .ok (.ifCond .eq 7, 3) := dk_153 0 7 (dk_at dksX4_sunShare_2 0 rfl rfl)
theorem dX4_sunShare_49 : decode cX4_sunShare 49 = .ok (.iconst 1, 1) := dk_4 (dk_at dksX4_sunShare_2 3 rfl rfl)
theorem dX4_sunShare_50 : decode cX4_sunShare 50 = .ok (.goto 4, 3) := dk_167 0 4 (dk_at dksX4_sunShare_2 4 rfl rfl)
theorem dX4_sunShare_53 : decode cX4_sunShare 53 = .ok (.iconst 0, 1) := dk_3 (dk_at dksX4_sunShare_2 7 rfl rfl)
theorem dX4_sunShare_54 : decode cX4_sunShare 54 = .ok (.iadd, 1) := dk_96 (dk_at dksX4_sunShare_2 8 rfl rfl)
theorem dX4_sunShare_55 : decode cX4_sunShare 55 = .ok (.istore_n 1, 1) := dk_60 (dk_at dksX4_sunShare_2 9 rfl rfl)
theorem dX4_sunShare_56 : decode cX4_sunShare 56 = .ok (.iinc 2 1, 3) := dk_132 2 1 (dk_at dksX4_sunShare_2 10 rfl rfl)
theorem dX4_sunShare_59 : decode cX4_sunShare 59 = .ok (.goto (-32), 3) := dk_167 255 224 (dk_at dksX4_sunShare_2 13 rfl rfl)
theorem dX4_sunShare_62 : decode cX4_sunShare 62 = .ok (.iload_n 1, 1) := dk_27 (dk_at dksX4_sunShare_2 16 rfl rfl)
theorem dX4_sunShare_63 : decode cX4_sunShare 63 = .ok (.i2f, 1) := dk_134 (dk_at dksX4_sunShare_2 17 rfl rfl)
theorem dX4_sunShare_64 : decode cX4_sunShare 64 = .ok (.aload_n 0, 1) := dk_42 (dk_at dksX4_sunShare_2 18 rfl rfl)
theorem dX4_sunShare_65 : decode cX4_sunShare 65 = .ok (.getfield 7, 3) := dk_180 0 7 (dk_at dksX4_sunShare_2 19 rfl rfl)
theorem dX4_sunShare_68 : decode cX4_sunShare 68 = .ok (.iconst 0, 1) := dk_3 (dk_at dksX4_sunShare_2 22 rfl rfl)
theorem dX4_sunShare_69 : decode cX4_sunShare 69 = .ok (.iaload, 1) := dk_46 (dk_at dksX4_sunShare_2 23 rfl rfl)
theorem dX4_sunShare_70 : decode cX4_sunShare 70 = .ok (.i2f, 1) := dk_134 (dk_at dksX4_sunShare_3 0 rfl rfl)
theorem dX4_sunShare_71 : decode cX4_sunShare 71 = .ok (.fdiv, 1) := dk_110 (dk_at dksX4_sunShare_3 1 rfl rfl)
theorem dX4_sunShare_72 : decode cX4_sunShare 72 = .ok (.freturn, 1) := dk_174 (dk_at dksX4_sunShare_3 2 rfl rfl)
abbrev cX4_feed : ByteArray := prog_22_method_75_code
def yX4_feed : MethodName := ⟨RX4, "feed", "(C)I"⟩
def dkwX4_feed_1 : List UInt8 := [180, 0, 22, 42, 180, 0, 242, 27, 79, 42, 89, 180, 0, 242, 4, 96, 181, 0, 242, 42, 180, 0, 242, 172]
abbrev dktX4_feed_1 : List UInt8 := dkwX4_feed_1 ++ []
def dkwX4_feed_0 : List UInt8 := [42, 42, 180, 0, 242, 16, 60, 160, 0, 7, 4, 167, 0, 4, 3, 182, 0, 123, 153, 0, 5, 3, 172, 42]
abbrev dktX4_feed_0 : List UInt8 := dkwX4_feed_0 ++ dktX4_feed_1
theorem dksX4_feed_0 : cX4_feed.data.toList.drop 0 = dktX4_feed_0 := by decide +kernel
theorem dksX4_feed_1 : cX4_feed.data.toList.drop 24 = dktX4_feed_1 := dk_seg dksX4_feed_0 24 rfl rfl
theorem dX4_feed_0 : decode cX4_feed 0 = .ok (.aload_n 0, 1) := dk_42 (dk_at dksX4_feed_0 0 rfl rfl)
theorem dX4_feed_1 : decode cX4_feed 1 = .ok (.aload_n 0, 1) := dk_42 (dk_at dksX4_feed_0 1 rfl rfl)
theorem dX4_feed_2 : decode cX4_feed 2 = .ok (.getfield 242, 3) := dk_180 0 242 (dk_at dksX4_feed_0 2 rfl rfl)
theorem dX4_feed_5 : decode cX4_feed 5 = .ok (.bipush 60, 2) := dk_16 60 (dk_at dksX4_feed_0 5 rfl rfl)
theorem dX4_feed_7 : decode cX4_feed 7 = .ok (.if_icmp .ne 7, 3) := dk_160 0 7 (dk_at dksX4_feed_0 7 rfl rfl)
theorem dX4_feed_10 : decode cX4_feed 10 = .ok (.iconst 1, 1) := dk_4 (dk_at dksX4_feed_0 10 rfl rfl)
theorem dX4_feed_11 : decode cX4_feed 11 = .ok (.goto 4, 3) := dk_167 0 4 (dk_at dksX4_feed_0 11 rfl rfl)
theorem dX4_feed_14 : decode cX4_feed 14 = .ok (.iconst 0, 1) := dk_3 (dk_at dksX4_feed_0 14 rfl rfl)
theorem dX4_feed_15 : decode cX4_feed 15 = .ok (.invokevirtual 123, 3) := dk_182 0 123 (dk_at dksX4_feed_0 15 rfl rfl)
theorem dX4_feed_18 : decode cX4_feed 18 = .ok (.ifCond .eq 5, 3) := dk_153 0 5 (dk_at dksX4_feed_0 18 rfl rfl)
theorem dX4_feed_21 : decode cX4_feed 21 = .ok (.iconst 0, 1) := dk_3 (dk_at dksX4_feed_0 21 rfl rfl)
theorem dX4_feed_22 : decode cX4_feed 22 = .ok (.ireturn, 1) := dk_172 (dk_at dksX4_feed_0 22 rfl rfl)
theorem dX4_feed_23 : decode cX4_feed 23 = .ok (.aload_n 0, 1) := dk_42 (dk_at dksX4_feed_0 23 rfl rfl)
theorem dX4_feed_24 : decode cX4_feed 24 = .ok (.getfield 22, 3) := dk_180 0 22 (dk_at dksX4_feed_1 0 rfl rfl)
theorem dX4_feed_27 : decode cX4_feed 27 = .ok (.aload_n 0, 1) := dk_42 (dk_at dksX4_feed_1 3 rfl rfl)
theorem dX4_feed_28 : decode cX4_feed 28 = .ok (.getfield 242, 3) := dk_180 0 242 (dk_at dksX4_feed_1 4 rfl rfl)
theorem dX4_feed_31 : decode cX4_feed 31 = .ok (.iload_n 1, 1) := dk_27 (dk_at dksX4_feed_1 7 rfl rfl)
theorem dX4_feed_32 : decode cX4_feed 32 = .ok (.iastore, 1) := dk_79 (dk_at dksX4_feed_1 8 rfl rfl)
theorem dX4_feed_33 : decode cX4_feed 33 = .ok (.aload_n 0, 1) := dk_42 (dk_at dksX4_feed_1 9 rfl rfl)
theorem dX4_feed_34 : decode cX4_feed 34 = .ok (.dup, 1) := dk_89 (dk_at dksX4_feed_1 10 rfl rfl)
theorem dX4_feed_35 : decode cX4_feed 35 = .ok (.getfield 242, 3) := dk_180 0 242 (dk_at dksX4_feed_1 11 rfl rfl)
theorem dX4_feed_38 : decode cX4_feed 38 = .ok (.iconst 1, 1) := dk_4 (dk_at dksX4_feed_1 14 rfl rfl)
theorem dX4_feed_39 : decode cX4_feed 39 = .ok (.iadd, 1) := dk_96 (dk_at dksX4_feed_1 15 rfl rfl)
theorem dX4_feed_40 : decode cX4_feed 40 = .ok (.putfield 242, 3) := dk_181 0 242 (dk_at dksX4_feed_1 16 rfl rfl)
theorem dX4_feed_43 : decode cX4_feed 43 = .ok (.aload_n 0, 1) := dk_42 (dk_at dksX4_feed_1 19 rfl rfl)
theorem dX4_feed_44 : decode cX4_feed 44 = .ok (.getfield 242, 3) := dk_180 0 242 (dk_at dksX4_feed_1 20 rfl rfl)
theorem dX4_feed_47 : decode cX4_feed 47 = .ok (.ireturn, 1) := dk_172 (dk_at dksX4_feed_1 23 rfl rfl)
abbrev cX4_execute : ByteArray := prog_22_method_86_code
def yX4_execute : MethodName := ⟨RX4, "execute", "()I"⟩
def dkwX4_execute_6 : List UInt8 := [42, 180, 0, 19, 182, 0, 134, 42, 180, 0, 251, 172]
abbrev dktX4_execute_6 : List UInt8 := dkwX4_execute_6 ++ []
def dkwX4_execute_5 : List UInt8 := [180, 0, 7, 3, 184, 0, 95, 42, 28, 182, 1, 70, 29, 158, 0, 7, 3, 167, 0, 4, 29, 96, 172, 42]
abbrev dktX4_execute_5 : List UInt8 := dkwX4_execute_5 ++ dktX4_execute_6
def dkwX4_execute_4 : List UInt8 := [132, 2, 1, 167, 255, 223, 42, 3, 181, 0, 89, 42, 180, 0, 73, 158, 0, 32, 42, 180, 0, 19, 3, 42]
abbrev dktX4_execute_4 : List UInt8 := dkwX4_execute_4 ++ dktX4_execute_5
def dkwX4_execute_3 : List UInt8 := [42, 180, 0, 73, 154, 0, 24, 42, 6, 28, 104, 182, 1, 67, 62, 42, 180, 0, 73, 154, 255, 229]
abbrev dktX4_execute_3 : List UInt8 := dkwX4_execute_3 ++ dktX4_execute_4
def dkwX4_execute_2 : List UInt8 := [180, 0, 19, 3, 184, 0, 95, 42, 4, 181, 0, 89, 3, 61, 3, 62, 28, 42, 180, 0, 251, 162, 0, 31]
abbrev dktX4_execute_2 : List UInt8 := dkwX4_execute_2 ++ dktX4_execute_3
def dkwX4_execute_1 : List UInt8 := [153, 0, 7, 3, 167, 0, 4, 4, 182, 0, 123, 153, 0, 5, 3, 172, 42, 180, 0, 7, 3, 42]
abbrev dktX4_execute_1 : List UInt8 := dkwX4_execute_1 ++ dktX4_execute_2
def dkwX4_execute_0 : List UInt8 := [42, 182, 1, 64, 60, 27, 154, 0, 11, 42, 42, 180, 0, 245, 181, 0, 25, 42, 3, 181, 0, 242, 42, 27]
abbrev dktX4_execute_0 : List UInt8 := dkwX4_execute_0 ++ dktX4_execute_1
theorem dksX4_execute_0 : cX4_execute.data.toList.drop 0 = dktX4_execute_0 := by decide +kernel
theorem dX4_execute_0 : decode cX4_execute 0 = .ok (.aload_n 0, 1) := dk_42 (dk_at dksX4_execute_0 0 rfl rfl)
theorem dX4_execute_1 : decode cX4_execute 1 = .ok (.invokevirtual 320, 3) := dk_182 1 64 (dk_at dksX4_execute_0 1 rfl rfl)
abbrev cX4_isText : ByteArray := prog_22_method_82_code
def yX4_isText : MethodName := ⟨RX4, "isText", "()Z"⟩
def dkwX4_isText_2 : List UInt8 := [160, 0, 7, 4, 167, 0, 4, 3, 172]
abbrev dktX4_isText_2 : List UInt8 := dkwX4_isText_2 ++ []
def dkwX4_isText_1 : List UInt8 := [4, 96, 181, 0, 251, 42, 16, 59, 182, 1, 5, 154, 255, 231, 42, 180, 0, 245, 42, 180, 0, 242]
abbrev dktX4_isText_1 : List UInt8 := dkwX4_isText_1 ++ dktX4_isText_2
def dkwX4_isText_0 : List UInt8 := [42, 3, 181, 0, 245, 42, 3, 181, 0, 251, 42, 182, 1, 33, 154, 0, 5, 3, 172, 42, 89, 180, 0, 251]
abbrev dktX4_isText_0 : List UInt8 := dkwX4_isText_0 ++ dktX4_isText_1
theorem dksX4_isText_0 : cX4_isText.data.toList.drop 0 = dktX4_isText_0 := by decide +kernel
theorem dX4_isText_0 : decode cX4_isText 0 = .ok (.aload_n 0, 1) := dk_42 (dk_at dksX4_isText_0 0 rfl rfl)
theorem dX4_isText_1 : decode cX4_isText 1 = .ok (.iconst 0, 1) := dk_3 (dk_at dksX4_isText_0 1 rfl rfl)
theorem dX4_isText_2 : decode cX4_isText 2 = .ok (.putfield 245, 3) := dk_181 0 245 (dk_at dksX4_isText_0 2 rfl rfl)
theorem dX4_isText_5 : decode cX4_isText 5 = .ok (.aload_n 0, 1) := dk_42 (dk_at dksX4_isText_0 5 rfl rfl)
theorem dX4_isText_6 : decode cX4_isText 6 = .ok (.iconst 0, 1) := dk_3 (dk_at dksX4_isText_0 6 rfl rfl)
theorem dX4_isText_7 : decode cX4_isText 7 = .ok (.putfield 251, 3) := dk_181 0 251 (dk_at dksX4_isText_0 7 rfl rfl)
theorem dX4_isText_10 : decode cX4_isText 10 = .ok (.aload_n 0, 1) := dk_42 (dk_at dksX4_isText_0 10 rfl rfl)
theorem dX4_isText_11 : decode cX4_isText 11 = .ok (.invokevirtual 289, 3) := dk_182 1 33 (dk_at dksX4_isText_0 11 rfl rfl)
abbrev cX4_commandHere : ByteArray := prog_22_method_81_code
def yX4_commandHere : MethodName := ⟨RX4, "commandHere", "()Z"⟩
def dkwX4_commandHere_10 : List UInt8 := [182, 1, 23, 153, 0, 7, 4, 167, 0, 4, 3, 172]
abbrev dktX4_commandHere_10 : List UInt8 := dkwX4_commandHere_10 ++ []
def dkwX4_commandHere_9 : List UInt8 := [42, 16, 107, 182, 1, 5, 153, 0, 28, 42, 16, 6, 19, 1, 31, 182, 1, 10, 153, 0, 16, 42, 7, 27]
abbrev dktX4_commandHere_9 : List UInt8 := dkwX4_commandHere_9 ++ dktX4_commandHere_10
def dkwX4_commandHere_8 : List UInt8 := [19, 1, 29, 182, 1, 10, 153, 0, 16, 42, 5, 27, 182, 1, 23, 153, 0, 7, 4, 167, 0, 4, 3, 172]
abbrev dktX4_commandHere_8 : List UInt8 := dkwX4_commandHere_8 ++ dktX4_commandHere_9
def dkwX4_commandHere_7 : List UInt8 := [182, 1, 23, 153, 0, 7, 4, 167, 0, 4, 3, 172, 42, 16, 115, 182, 1, 5, 153, 0, 29, 42, 8]
abbrev dktX4_commandHere_7 : List UInt8 := dkwX4_commandHere_7 ++ dktX4_commandHere_8
def dkwX4_commandHere_6 : List UInt8 := [19, 1, 27, 182, 1, 10, 153, 0, 27, 42, 4, 27, 182, 1, 23, 153, 0, 18, 42, 6, 27, 4, 96]
abbrev dktX4_commandHere_6 : List UInt8 := dkwX4_commandHere_6 ++ dktX4_commandHere_7
def dkwX4_commandHere_5 : List UInt8 := [182, 1, 23, 153, 0, 7, 4, 167, 0, 4, 3, 172, 42, 16, 109, 182, 1, 5, 153, 0, 40, 42, 7]
abbrev dktX4_commandHere_5 : List UInt8 := dkwX4_commandHere_5 ++ dktX4_commandHere_6
def dkwX4_commandHere_4 : List UInt8 := [19, 1, 21, 182, 1, 10, 153, 0, 27, 42, 3, 27, 182, 1, 23, 153, 0, 18, 42, 5, 27, 4, 96]
abbrev dktX4_commandHere_4 : List UInt8 := dkwX4_commandHere_4 ++ dktX4_commandHere_5
def dkwX4_commandHere_3 : List UInt8 := [42, 16, 108, 182, 1, 5, 153, 0, 14, 42, 5, 19, 1, 19, 182, 1, 10, 167, 0, 39, 42, 6]
abbrev dktX4_commandHere_3 : List UInt8 := dkwX4_commandHere_3 ++ dktX4_commandHere_4
def dkwX4_commandHere_2 : List UInt8 := [182, 1, 5, 153, 0, 12, 42, 4, 19, 1, 17, 182, 1, 10, 172, 42, 16, 99, 182, 1, 5, 153, 0, 60]
abbrev dktX4_commandHere_2 : List UInt8 := dkwX4_commandHere_2 ++ dktX4_commandHere_3
def dkwX4_commandHere_1 : List UInt8 := [182, 1, 10, 153, 0, 15, 42, 27, 182, 1, 14, 153, 0, 7, 4, 167, 0, 4, 3, 172, 42, 16, 101]
abbrev dktX4_commandHere_1 : List UInt8 := dkwX4_commandHere_1 ++ dktX4_commandHere_2
def dkwX4_commandHere_0 : List UInt8 := [6, 42, 180, 0, 251, 104, 4, 96, 60, 42, 16, 112, 182, 1, 5, 153, 0, 28, 42, 3, 19, 1, 8]
abbrev dktX4_commandHere_0 : List UInt8 := dkwX4_commandHere_0 ++ dktX4_commandHere_1
theorem dksX4_commandHere_0 : cX4_commandHere.data.toList.drop 0 = dktX4_commandHere_0 := by decide +kernel
theorem dksX4_commandHere_1 : cX4_commandHere.data.toList.drop 23 = dktX4_commandHere_1 := dk_seg dksX4_commandHere_0 23 rfl rfl
theorem dksX4_commandHere_2 : cX4_commandHere.data.toList.drop 46 = dktX4_commandHere_2 := dk_seg dksX4_commandHere_1 23 rfl rfl
theorem dksX4_commandHere_3 : cX4_commandHere.data.toList.drop 70 = dktX4_commandHere_3 := dk_seg dksX4_commandHere_2 24 rfl rfl
theorem dksX4_commandHere_4 : cX4_commandHere.data.toList.drop 92 = dktX4_commandHere_4 := dk_seg dksX4_commandHere_3 22 rfl rfl
theorem dksX4_commandHere_5 : cX4_commandHere.data.toList.drop 115 = dktX4_commandHere_5 := dk_seg dksX4_commandHere_4 23 rfl rfl
theorem dksX4_commandHere_6 : cX4_commandHere.data.toList.drop 138 = dktX4_commandHere_6 := dk_seg dksX4_commandHere_5 23 rfl rfl
theorem dksX4_commandHere_7 : cX4_commandHere.data.toList.drop 161 = dktX4_commandHere_7 := dk_seg dksX4_commandHere_6 23 rfl rfl
theorem dksX4_commandHere_8 : cX4_commandHere.data.toList.drop 184 = dktX4_commandHere_8 := dk_seg dksX4_commandHere_7 23 rfl rfl
theorem dksX4_commandHere_9 : cX4_commandHere.data.toList.drop 208 = dktX4_commandHere_9 := dk_seg dksX4_commandHere_8 24 rfl rfl
theorem dksX4_commandHere_10 : cX4_commandHere.data.toList.drop 232 = dktX4_commandHere_10 := dk_seg dksX4_commandHere_9 24 rfl rfl
theorem dX4_commandHere_0 : decode cX4_commandHere 0 = .ok (.iconst 3, 1) := dk_6 (dk_at dksX4_commandHere_0 0 rfl rfl)
theorem dX4_commandHere_1 : decode cX4_commandHere 1 = .ok (.aload_n 0, 1) := dk_42 (dk_at dksX4_commandHere_0 1 rfl rfl)
theorem dX4_commandHere_2 : decode cX4_commandHere 2 = .ok (.getfield 251, 3) := dk_180 0 251 (dk_at dksX4_commandHere_0 2 rfl rfl)
theorem dX4_commandHere_5 : decode cX4_commandHere 5 = .ok (.imul, 1) := dk_104 (dk_at dksX4_commandHere_0 5 rfl rfl)
theorem dX4_commandHere_6 : decode cX4_commandHere 6 = .ok (.iconst 1, 1) := dk_4 (dk_at dksX4_commandHere_0 6 rfl rfl)
theorem dX4_commandHere_7 : decode cX4_commandHere 7 = .ok (.iadd, 1) := dk_96 (dk_at dksX4_commandHere_0 7 rfl rfl)
theorem dX4_commandHere_8 : decode cX4_commandHere 8 = .ok (.istore_n 1, 1) := dk_60 (dk_at dksX4_commandHere_0 8 rfl rfl)
theorem dX4_commandHere_9 : decode cX4_commandHere 9 = .ok (.aload_n 0, 1) := dk_42 (dk_at dksX4_commandHere_0 9 rfl rfl)
theorem dX4_commandHere_10 : decode cX4_commandHere 10 = .ok (.bipush 112, 2) := dk_16 112 (dk_at dksX4_commandHere_0 10 rfl rfl)
theorem dX4_commandHere_12 : decode cX4_commandHere 12 = .ok (.invokevirtual 261, 3) := dk_182 1 5 (dk_at dksX4_commandHere_0 12 rfl rfl)
theorem dX4_commandHere_15 : decode cX4_commandHere 15 = .ok (.ifCond .eq 28, 3) := dk_153 0 28 (dk_at dksX4_commandHere_0 15 rfl rfl)
theorem dX4_commandHere_43 : decode cX4_commandHere 43 = .ok (.aload_n 0, 1) := dk_42 (dk_at dksX4_commandHere_1 20 rfl rfl)
theorem dX4_commandHere_44 : decode cX4_commandHere 44 = .ok (.bipush 101, 2) := dk_16 101 (dk_at dksX4_commandHere_1 21 rfl rfl)
theorem dX4_commandHere_46 : decode cX4_commandHere 46 = .ok (.invokevirtual 261, 3) := dk_182 1 5 (dk_at dksX4_commandHere_2 0 rfl rfl)
theorem dX4_commandHere_49 : decode cX4_commandHere 49 = .ok (.ifCond .eq 12, 3) := dk_153 0 12 (dk_at dksX4_commandHere_2 3 rfl rfl)
theorem dX4_commandHere_61 : decode cX4_commandHere 61 = .ok (.aload_n 0, 1) := dk_42 (dk_at dksX4_commandHere_2 15 rfl rfl)
theorem dX4_commandHere_62 : decode cX4_commandHere 62 = .ok (.bipush 99, 2) := dk_16 99 (dk_at dksX4_commandHere_2 16 rfl rfl)
theorem dX4_commandHere_64 : decode cX4_commandHere 64 = .ok (.invokevirtual 261, 3) := dk_182 1 5 (dk_at dksX4_commandHere_2 18 rfl rfl)
theorem dX4_commandHere_67 : decode cX4_commandHere 67 = .ok (.ifCond .eq 60, 3) := dk_153 0 60 (dk_at dksX4_commandHere_2 21 rfl rfl)
theorem dX4_commandHere_127 : decode cX4_commandHere 127 = .ok (.aload_n 0, 1) := dk_42 (dk_at dksX4_commandHere_5 12 rfl rfl)
theorem dX4_commandHere_128 : decode cX4_commandHere 128 = .ok (.bipush 109, 2) := dk_16 109 (dk_at dksX4_commandHere_5 13 rfl rfl)
theorem dX4_commandHere_130 : decode cX4_commandHere 130 = .ok (.invokevirtual 261, 3) := dk_182 1 5 (dk_at dksX4_commandHere_5 15 rfl rfl)
theorem dX4_commandHere_133 : decode cX4_commandHere 133 = .ok (.ifCond .eq 40, 3) := dk_153 0 40 (dk_at dksX4_commandHere_5 18 rfl rfl)
theorem dX4_commandHere_173 : decode cX4_commandHere 173 = .ok (.aload_n 0, 1) := dk_42 (dk_at dksX4_commandHere_7 12 rfl rfl)
theorem dX4_commandHere_174 : decode cX4_commandHere 174 = .ok (.bipush 115, 2) := dk_16 115 (dk_at dksX4_commandHere_7 13 rfl rfl)
theorem dX4_commandHere_176 : decode cX4_commandHere 176 = .ok (.invokevirtual 261, 3) := dk_182 1 5 (dk_at dksX4_commandHere_7 15 rfl rfl)
theorem dX4_commandHere_179 : decode cX4_commandHere 179 = .ok (.ifCond .eq 29, 3) := dk_153 0 29 (dk_at dksX4_commandHere_7 18 rfl rfl)
theorem dX4_commandHere_208 : decode cX4_commandHere 208 = .ok (.aload_n 0, 1) := dk_42 (dk_at dksX4_commandHere_9 0 rfl rfl)
theorem dX4_commandHere_209 : decode cX4_commandHere 209 = .ok (.bipush 107, 2) := dk_16 107 (dk_at dksX4_commandHere_9 1 rfl rfl)
theorem dX4_commandHere_211 : decode cX4_commandHere 211 = .ok (.invokevirtual 261, 3) := dk_182 1 5 (dk_at dksX4_commandHere_9 3 rfl rfl)
theorem dX4_commandHere_214 : decode cX4_commandHere 214 = .ok (.ifCond .eq 28, 3) := dk_153 0 28 (dk_at dksX4_commandHere_9 6 rfl rfl)
theorem dX4_commandHere_217 : decode cX4_commandHere 217 = .ok (.aload_n 0, 1) := dk_42 (dk_at dksX4_commandHere_9 9 rfl rfl)
theorem dX4_commandHere_218 : decode cX4_commandHere 218 = .ok (.bipush 6, 2) := dk_16 6 (dk_at dksX4_commandHere_9 10 rfl rfl)
theorem dX4_commandHere_220 : decode cX4_commandHere 220 = .ok (.ldc_w 287, 3) := dk_19 1 31 (dk_at dksX4_commandHere_9 12 rfl rfl)
theorem dX4_commandHere_242 : decode cX4_commandHere 242 = .ok (.iconst 0, 1) := dk_3 (dk_at dksX4_commandHere_10 10 rfl rfl)
theorem dX4_commandHere_243 : decode cX4_commandHere 243 = .ok (.ireturn, 1) := dk_172 (dk_at dksX4_commandHere_10 11 rfl rfl)
abbrev cX4_skips : ByteArray := prog_22_method_77_code
def yX4_skips : MethodName := ⟨RX4, "skips", "(I)Z"⟩
def dkwX4_skips_0 : List UInt8 := [42, 182, 0, 248, 27, 159, 0, 5, 3, 172, 42, 89, 180, 0, 245, 4, 96, 181, 0, 245, 4, 172]
abbrev dktX4_skips_0 : List UInt8 := dkwX4_skips_0 ++ []
theorem dksX4_skips_0 : cX4_skips.data.toList.drop 0 = dktX4_skips_0 := by decide +kernel
theorem dX4_skips_0 : decode cX4_skips 0 = .ok (.aload_n 0, 1) := dk_42 (dk_at dksX4_skips_0 0 rfl rfl)
theorem dX4_skips_1 : decode cX4_skips 1 = .ok (.invokevirtual 248, 3) := dk_182 0 248 (dk_at dksX4_skips_0 1 rfl rfl)
theorem dX4_skips_4 : decode cX4_skips 4 = .ok (.iload_n 1, 1) := dk_27 (dk_at dksX4_skips_0 4 rfl rfl)
theorem dX4_skips_5 : decode cX4_skips 5 = .ok (.if_icmp .eq 5, 3) := dk_159 0 5 (dk_at dksX4_skips_0 5 rfl rfl)
theorem dX4_skips_8 : decode cX4_skips 8 = .ok (.iconst 0, 1) := dk_3 (dk_at dksX4_skips_0 8 rfl rfl)
theorem dX4_skips_9 : decode cX4_skips 9 = .ok (.ireturn, 1) := dk_172 (dk_at dksX4_skips_0 9 rfl rfl)
theorem dX4_skips_10 : decode cX4_skips 10 = .ok (.aload_n 0, 1) := dk_42 (dk_at dksX4_skips_0 10 rfl rfl)
theorem dX4_skips_11 : decode cX4_skips 11 = .ok (.dup, 1) := dk_89 (dk_at dksX4_skips_0 11 rfl rfl)
theorem dX4_skips_12 : decode cX4_skips 12 = .ok (.getfield 245, 3) := dk_180 0 245 (dk_at dksX4_skips_0 12 rfl rfl)
theorem dX4_skips_15 : decode cX4_skips 15 = .ok (.iconst 1, 1) := dk_4 (dk_at dksX4_skips_0 15 rfl rfl)
theorem dX4_skips_16 : decode cX4_skips 16 = .ok (.iadd, 1) := dk_96 (dk_at dksX4_skips_0 16 rfl rfl)
theorem dX4_skips_17 : decode cX4_skips 17 = .ok (.putfield 245, 3) := dk_181 0 245 (dk_at dksX4_skips_0 17 rfl rfl)
theorem dX4_skips_20 : decode cX4_skips 20 = .ok (.iconst 1, 1) := dk_4 (dk_at dksX4_skips_0 20 rfl rfl)
theorem dX4_skips_21 : decode cX4_skips 21 = .ok (.ireturn, 1) := dk_172 (dk_at dksX4_skips_0 21 rfl rfl)
abbrev cX4_here : ByteArray := prog_22_method_76_code
def yX4_here : MethodName := ⟨RX4, "here", "()I"⟩
def dkwX4_here_1 : List UInt8 := [172]
abbrev dktX4_here_1 : List UInt8 := dkwX4_here_1 ++ []
def dkwX4_here_0 : List UInt8 := [42, 180, 0, 245, 42, 180, 0, 242, 162, 0, 15, 42, 180, 0, 22, 42, 180, 0, 245, 46, 167, 0, 4, 2]
abbrev dktX4_here_0 : List UInt8 := dkwX4_here_0 ++ dktX4_here_1
theorem dksX4_here_0 : cX4_here.data.toList.drop 0 = dktX4_here_0 := by decide +kernel
theorem dksX4_here_1 : cX4_here.data.toList.drop 24 = dktX4_here_1 := dk_seg dksX4_here_0 24 rfl rfl
theorem dX4_here_0 : decode cX4_here 0 = .ok (.aload_n 0, 1) := dk_42 (dk_at dksX4_here_0 0 rfl rfl)
theorem dX4_here_1 : decode cX4_here 1 = .ok (.getfield 245, 3) := dk_180 0 245 (dk_at dksX4_here_0 1 rfl rfl)
theorem dX4_here_4 : decode cX4_here 4 = .ok (.aload_n 0, 1) := dk_42 (dk_at dksX4_here_0 4 rfl rfl)
theorem dX4_here_5 : decode cX4_here 5 = .ok (.getfield 242, 3) := dk_180 0 242 (dk_at dksX4_here_0 5 rfl rfl)
theorem dX4_here_8 : decode cX4_here 8 = .ok (.if_icmp .ge 15, 3) := dk_162 0 15 (dk_at dksX4_here_0 8 rfl rfl)
theorem dX4_here_11 : decode cX4_here 11 = .ok (.aload_n 0, 1) := dk_42 (dk_at dksX4_here_0 11 rfl rfl)
theorem dX4_here_12 : decode cX4_here 12 = .ok (.getfield 22, 3) := dk_180 0 22 (dk_at dksX4_here_0 12 rfl rfl)
theorem dX4_here_15 : decode cX4_here 15 = .ok (.aload_n 0, 1) := dk_42 (dk_at dksX4_here_0 15 rfl rfl)
theorem dX4_here_16 : decode cX4_here 16 = .ok (.getfield 245, 3) := dk_180 0 245 (dk_at dksX4_here_0 16 rfl rfl)
theorem dX4_here_19 : decode cX4_here 19 = .ok (.iaload, 1) := dk_46 (dk_at dksX4_here_0 19 rfl rfl)
theorem dX4_here_20 : decode cX4_here 20 = .ok (.goto 4, 3) := dk_167 0 4 (dk_at dksX4_here_0 20 rfl rfl)
theorem dX4_here_23 : decode cX4_here 23 = .ok (.iconst (-1), 1) := dk_2 (dk_at dksX4_here_0 23 rfl rfl)
theorem dX4_here_24 : decode cX4_here 24 = .ok (.ireturn, 1) := dk_172 (dk_at dksX4_here_1 0 rfl rfl)
abbrev cX4_isWord : ByteArray := prog_22_method_78_code
def yX4_isWord : MethodName := ⟨RX4, "isWord", "(ILjava/lang/String;)Z"⟩
abbrev cX4_charactersHere : ByteArray := prog_22_method_80_code
def yX4_charactersHere : MethodName := ⟨RX4, "charactersHere", "(I)Z"⟩
def dkwX4_charactersHere_2 : List UInt8 := [180, 0, 245, 42, 180, 0, 70, 27, 46, 164, 0, 7, 4, 167, 0, 4, 3, 172]
abbrev dktX4_charactersHere_2 : List UInt8 := dkwX4_charactersHere_2 ++ []
def dkwX4_charactersHere_1 : List UInt8 := [180, 0, 245, 4, 96, 181, 0, 245, 167, 255, 236, 42, 180, 0, 70, 27, 4, 96, 42, 180, 0, 245, 79, 42]
abbrev dktX4_charactersHere_1 : List UInt8 := dkwX4_charactersHere_1 ++ dktX4_charactersHere_2
def dkwX4_charactersHere_0 : List UInt8 := [42, 180, 0, 70, 27, 42, 180, 0, 245, 79, 42, 182, 0, 248, 184, 0, 120, 153, 0, 16, 42, 89]
abbrev dktX4_charactersHere_0 : List UInt8 := dkwX4_charactersHere_0 ++ dktX4_charactersHere_1
theorem dksX4_charactersHere_0 : cX4_charactersHere.data.toList.drop 0 = dktX4_charactersHere_0 := by decide +kernel
theorem dksX4_charactersHere_1 : cX4_charactersHere.data.toList.drop 22 = dktX4_charactersHere_1 := dk_seg dksX4_charactersHere_0 22 rfl rfl
theorem dksX4_charactersHere_2 : cX4_charactersHere.data.toList.drop 46 = dktX4_charactersHere_2 := dk_seg dksX4_charactersHere_1 24 rfl rfl
theorem dX4_charactersHere_0 : decode cX4_charactersHere 0 = .ok (.aload_n 0, 1) := dk_42 (dk_at dksX4_charactersHere_0 0 rfl rfl)
theorem dX4_charactersHere_1 : decode cX4_charactersHere 1 = .ok (.getfield 70, 3) := dk_180 0 70 (dk_at dksX4_charactersHere_0 1 rfl rfl)
theorem dX4_charactersHere_4 : decode cX4_charactersHere 4 = .ok (.iload_n 1, 1) := dk_27 (dk_at dksX4_charactersHere_0 4 rfl rfl)
theorem dX4_charactersHere_5 : decode cX4_charactersHere 5 = .ok (.aload_n 0, 1) := dk_42 (dk_at dksX4_charactersHere_0 5 rfl rfl)
theorem dX4_charactersHere_6 : decode cX4_charactersHere 6 = .ok (.getfield 245, 3) := dk_180 0 245 (dk_at dksX4_charactersHere_0 6 rfl rfl)
theorem dX4_charactersHere_9 : decode cX4_charactersHere 9 = .ok (.iastore, 1) := dk_79 (dk_at dksX4_charactersHere_0 9 rfl rfl)
theorem dX4_charactersHere_10 : decode cX4_charactersHere 10 = .ok (.aload_n 0, 1) := dk_42 (dk_at dksX4_charactersHere_0 10 rfl rfl)
theorem dX4_charactersHere_11 : decode cX4_charactersHere 11 = .ok (.invokevirtual 248, 3) := dk_182 0 248 (dk_at dksX4_charactersHere_0 11 rfl rfl)
theorem dX4_charactersHere_14 : decode cX4_charactersHere 14 = .ok (.invokestatic 120, 3) := dk_184 0 120 (dk_at dksX4_charactersHere_0 14 rfl rfl)
theorem dX4_charactersHere_17 : decode cX4_charactersHere 17 = .ok (.ifCond .eq 16, 3) := dk_153 0 16 (dk_at dksX4_charactersHere_0 17 rfl rfl)
theorem dX4_charactersHere_20 : decode cX4_charactersHere 20 = .ok (.aload_n 0, 1) := dk_42 (dk_at dksX4_charactersHere_0 20 rfl rfl)
theorem dX4_charactersHere_21 : decode cX4_charactersHere 21 = .ok (.dup, 1) := dk_89 (dk_at dksX4_charactersHere_0 21 rfl rfl)
theorem dX4_charactersHere_22 : decode cX4_charactersHere 22 = .ok (.getfield 245, 3) := dk_180 0 245 (dk_at dksX4_charactersHere_1 0 rfl rfl)
theorem dX4_charactersHere_25 : decode cX4_charactersHere 25 = .ok (.iconst 1, 1) := dk_4 (dk_at dksX4_charactersHere_1 3 rfl rfl)
theorem dX4_charactersHere_26 : decode cX4_charactersHere 26 = .ok (.iadd, 1) := dk_96 (dk_at dksX4_charactersHere_1 4 rfl rfl)
theorem dX4_charactersHere_27 : decode cX4_charactersHere 27 = .ok (.putfield 245, 3) := dk_181 0 245 (dk_at dksX4_charactersHere_1 5 rfl rfl)
theorem dX4_charactersHere_30 : decode cX4_charactersHere 30 = .ok (.goto (-20), 3) := dk_167 255 236 (dk_at dksX4_charactersHere_1 8 rfl rfl)
theorem dX4_charactersHere_33 : decode cX4_charactersHere 33 = .ok (.aload_n 0, 1) := dk_42 (dk_at dksX4_charactersHere_1 11 rfl rfl)
theorem dX4_charactersHere_34 : decode cX4_charactersHere 34 = .ok (.getfield 70, 3) := dk_180 0 70 (dk_at dksX4_charactersHere_1 12 rfl rfl)
theorem dX4_charactersHere_37 : decode cX4_charactersHere 37 = .ok (.iload_n 1, 1) := dk_27 (dk_at dksX4_charactersHere_1 15 rfl rfl)
theorem dX4_charactersHere_38 : decode cX4_charactersHere 38 = .ok (.iconst 1, 1) := dk_4 (dk_at dksX4_charactersHere_1 16 rfl rfl)
theorem dX4_charactersHere_39 : decode cX4_charactersHere 39 = .ok (.iadd, 1) := dk_96 (dk_at dksX4_charactersHere_1 17 rfl rfl)
theorem dX4_charactersHere_40 : decode cX4_charactersHere 40 = .ok (.aload_n 0, 1) := dk_42 (dk_at dksX4_charactersHere_1 18 rfl rfl)
theorem dX4_charactersHere_41 : decode cX4_charactersHere 41 = .ok (.getfield 245, 3) := dk_180 0 245 (dk_at dksX4_charactersHere_1 19 rfl rfl)
theorem dX4_charactersHere_44 : decode cX4_charactersHere 44 = .ok (.iastore, 1) := dk_79 (dk_at dksX4_charactersHere_1 22 rfl rfl)
theorem dX4_charactersHere_45 : decode cX4_charactersHere 45 = .ok (.aload_n 0, 1) := dk_42 (dk_at dksX4_charactersHere_1 23 rfl rfl)
theorem dX4_charactersHere_46 : decode cX4_charactersHere 46 = .ok (.getfield 245, 3) := dk_180 0 245 (dk_at dksX4_charactersHere_2 0 rfl rfl)
theorem dX4_charactersHere_49 : decode cX4_charactersHere 49 = .ok (.aload_n 0, 1) := dk_42 (dk_at dksX4_charactersHere_2 3 rfl rfl)
theorem dX4_charactersHere_50 : decode cX4_charactersHere 50 = .ok (.getfield 70, 3) := dk_180 0 70 (dk_at dksX4_charactersHere_2 4 rfl rfl)
theorem dX4_charactersHere_53 : decode cX4_charactersHere 53 = .ok (.iload_n 1, 1) := dk_27 (dk_at dksX4_charactersHere_2 7 rfl rfl)
theorem dX4_charactersHere_54 : decode cX4_charactersHere 54 = .ok (.iaload, 1) := dk_46 (dk_at dksX4_charactersHere_2 8 rfl rfl)
theorem dX4_charactersHere_55 : decode cX4_charactersHere 55 = .ok (.if_icmp .le 7, 3) := dk_164 0 7 (dk_at dksX4_charactersHere_2 9 rfl rfl)
theorem dX4_charactersHere_58 : decode cX4_charactersHere 58 = .ok (.iconst 1, 1) := dk_4 (dk_at dksX4_charactersHere_2 12 rfl rfl)
theorem dX4_charactersHere_59 : decode cX4_charactersHere 59 = .ok (.goto 4, 3) := dk_167 0 4 (dk_at dksX4_charactersHere_2 13 rfl rfl)
theorem dX4_charactersHere_62 : decode cX4_charactersHere 62 = .ok (.iconst 0, 1) := dk_3 (dk_at dksX4_charactersHere_2 16 rfl rfl)
theorem dX4_charactersHere_63 : decode cX4_charactersHere 63 = .ok (.ireturn, 1) := dk_172 (dk_at dksX4_charactersHere_2 17 rfl rfl)
abbrev cX4_one : ByteArray := prog_22_method_79_code
def yX4_one : MethodName := ⟨RX4, "one", "(II)Z"⟩
def dkwX4_one_4 : List UInt8 := [4, 172]
abbrev dktX4_one_4 : List UInt8 := dkwX4_one_4 ++ []
def dkwX4_one_3 : List UInt8 := [21, 4, 154, 0, 5, 3, 172, 42, 180, 0, 70, 28, 29, 79, 42, 89, 180, 0, 245, 4, 96, 181, 0, 245]
abbrev dktX4_one_3 : List UInt8 := dkwX4_one_3 ++ dktX4_one_4
def dkwX4_one_2 : List UInt8 := [184, 0, 103, 167, 0, 19, 27, 6, 160, 0, 10, 29, 184, 0, 144, 167, 0, 7, 29, 184, 0, 107, 54, 4]
abbrev dktX4_one_2 : List UInt8 := dkwX4_one_2 ++ dktX4_one_3
def dkwX4_one_1 : List UInt8 := [27, 4, 160, 0, 10, 29, 184, 0, 138, 167, 0, 35, 27, 5, 160, 0, 14, 29, 16, 48, 16, 57]
abbrev dktX4_one_1 : List UInt8 := dkwX4_one_1 ++ dktX4_one_2
def dkwX4_one_0 : List UInt8 := [42, 182, 0, 248, 62, 27, 154, 0, 18, 29, 184, 0, 99, 155, 0, 7, 4, 167, 0, 51, 3, 167, 0, 47]
abbrev dktX4_one_0 : List UInt8 := dkwX4_one_0 ++ dktX4_one_1
theorem dksX4_one_0 : cX4_one.data.toList.drop 0 = dktX4_one_0 := by decide +kernel
theorem dksX4_one_1 : cX4_one.data.toList.drop 24 = dktX4_one_1 := dk_seg dksX4_one_0 24 rfl rfl
theorem dksX4_one_2 : cX4_one.data.toList.drop 46 = dktX4_one_2 := dk_seg dksX4_one_1 22 rfl rfl
theorem dksX4_one_3 : cX4_one.data.toList.drop 70 = dktX4_one_3 := dk_seg dksX4_one_2 24 rfl rfl
theorem dksX4_one_4 : cX4_one.data.toList.drop 94 = dktX4_one_4 := dk_seg dksX4_one_3 24 rfl rfl
theorem dX4_one_0 : decode cX4_one 0 = .ok (.aload_n 0, 1) := dk_42 (dk_at dksX4_one_0 0 rfl rfl)
theorem dX4_one_1 : decode cX4_one 1 = .ok (.invokevirtual 248, 3) := dk_182 0 248 (dk_at dksX4_one_0 1 rfl rfl)
theorem dX4_one_4 : decode cX4_one 4 = .ok (.istore_n 3, 1) := dk_62 (dk_at dksX4_one_0 4 rfl rfl)
theorem dX4_one_5 : decode cX4_one 5 = .ok (.iload_n 1, 1) := dk_27 (dk_at dksX4_one_0 5 rfl rfl)
theorem dX4_one_6 : decode cX4_one 6 = .ok (.ifCond .ne 18, 3) := dk_154 0 18 (dk_at dksX4_one_0 6 rfl rfl)
theorem dX4_one_9 : decode cX4_one 9 = .ok (.iload_n 3, 1) := dk_29 (dk_at dksX4_one_0 9 rfl rfl)
theorem dX4_one_10 : decode cX4_one 10 = .ok (.invokestatic 99, 3) := dk_184 0 99 (dk_at dksX4_one_0 10 rfl rfl)
theorem dX4_one_13 : decode cX4_one 13 = .ok (.ifCond .lt 7, 3) := dk_155 0 7 (dk_at dksX4_one_0 13 rfl rfl)
theorem dX4_one_16 : decode cX4_one 16 = .ok (.iconst 1, 1) := dk_4 (dk_at dksX4_one_0 16 rfl rfl)
theorem dX4_one_17 : decode cX4_one 17 = .ok (.goto 51, 3) := dk_167 0 51 (dk_at dksX4_one_0 17 rfl rfl)
theorem dX4_one_20 : decode cX4_one 20 = .ok (.iconst 0, 1) := dk_3 (dk_at dksX4_one_0 20 rfl rfl)
theorem dX4_one_21 : decode cX4_one 21 = .ok (.goto 47, 3) := dk_167 0 47 (dk_at dksX4_one_0 21 rfl rfl)
theorem dX4_one_24 : decode cX4_one 24 = .ok (.iload_n 1, 1) := dk_27 (dk_at dksX4_one_1 0 rfl rfl)
theorem dX4_one_25 : decode cX4_one 25 = .ok (.iconst 1, 1) := dk_4 (dk_at dksX4_one_1 1 rfl rfl)
theorem dX4_one_26 : decode cX4_one 26 = .ok (.if_icmp .ne 10, 3) := dk_160 0 10 (dk_at dksX4_one_1 2 rfl rfl)
theorem dX4_one_29 : decode cX4_one 29 = .ok (.iload_n 3, 1) := dk_29 (dk_at dksX4_one_1 5 rfl rfl)
theorem dX4_one_30 : decode cX4_one 30 = .ok (.invokestatic 138, 3) := dk_184 0 138 (dk_at dksX4_one_1 6 rfl rfl)
theorem dX4_one_33 : decode cX4_one 33 = .ok (.goto 35, 3) := dk_167 0 35 (dk_at dksX4_one_1 9 rfl rfl)
theorem dX4_one_36 : decode cX4_one 36 = .ok (.iload_n 1, 1) := dk_27 (dk_at dksX4_one_1 12 rfl rfl)
theorem dX4_one_37 : decode cX4_one 37 = .ok (.iconst 2, 1) := dk_5 (dk_at dksX4_one_1 13 rfl rfl)
theorem dX4_one_38 : decode cX4_one 38 = .ok (.if_icmp .ne 14, 3) := dk_160 0 14 (dk_at dksX4_one_1 14 rfl rfl)
theorem dX4_one_41 : decode cX4_one 41 = .ok (.iload_n 3, 1) := dk_29 (dk_at dksX4_one_1 17 rfl rfl)
theorem dX4_one_42 : decode cX4_one 42 = .ok (.bipush 48, 2) := dk_16 48 (dk_at dksX4_one_1 18 rfl rfl)
theorem dX4_one_44 : decode cX4_one 44 = .ok (.bipush 57, 2) := dk_16 57 (dk_at dksX4_one_1 20 rfl rfl)
theorem dX4_one_46 : decode cX4_one 46 = .ok (.invokestatic 103, 3) := dk_184 0 103 (dk_at dksX4_one_2 0 rfl rfl)
theorem dX4_one_49 : decode cX4_one 49 = .ok (.goto 19, 3) := dk_167 0 19 (dk_at dksX4_one_2 3 rfl rfl)
theorem dX4_one_52 : decode cX4_one 52 = .ok (.iload_n 1, 1) := dk_27 (dk_at dksX4_one_2 6 rfl rfl)
theorem dX4_one_53 : decode cX4_one 53 = .ok (.iconst 3, 1) := dk_6 (dk_at dksX4_one_2 7 rfl rfl)
theorem dX4_one_54 : decode cX4_one 54 = .ok (.if_icmp .ne 10, 3) := dk_160 0 10 (dk_at dksX4_one_2 8 rfl rfl)
theorem dX4_one_57 : decode cX4_one 57 = .ok (.iload_n 3, 1) := dk_29 (dk_at dksX4_one_2 11 rfl rfl)
theorem dX4_one_58 : decode cX4_one 58 = .ok (.invokestatic 144, 3) := dk_184 0 144 (dk_at dksX4_one_2 12 rfl rfl)
theorem dX4_one_61 : decode cX4_one 61 = .ok (.goto 7, 3) := dk_167 0 7 (dk_at dksX4_one_2 15 rfl rfl)
theorem dX4_one_64 : decode cX4_one 64 = .ok (.iload_n 3, 1) := dk_29 (dk_at dksX4_one_2 18 rfl rfl)
theorem dX4_one_65 : decode cX4_one 65 = .ok (.invokestatic 107, 3) := dk_184 0 107 (dk_at dksX4_one_2 19 rfl rfl)
theorem dX4_one_68 : decode cX4_one 68 = .ok (.istore 4, 2) := dk_54 4 (dk_at dksX4_one_2 22 rfl rfl)
theorem dX4_one_70 : decode cX4_one 70 = .ok (.iload 4, 2) := dk_21 4 (dk_at dksX4_one_3 0 rfl rfl)
theorem dX4_one_72 : decode cX4_one 72 = .ok (.ifCond .ne 5, 3) := dk_154 0 5 (dk_at dksX4_one_3 2 rfl rfl)
theorem dX4_one_75 : decode cX4_one 75 = .ok (.iconst 0, 1) := dk_3 (dk_at dksX4_one_3 5 rfl rfl)
theorem dX4_one_76 : decode cX4_one 76 = .ok (.ireturn, 1) := dk_172 (dk_at dksX4_one_3 6 rfl rfl)
theorem dX4_one_77 : decode cX4_one 77 = .ok (.aload_n 0, 1) := dk_42 (dk_at dksX4_one_3 7 rfl rfl)
theorem dX4_one_78 : decode cX4_one 78 = .ok (.getfield 70, 3) := dk_180 0 70 (dk_at dksX4_one_3 8 rfl rfl)
theorem dX4_one_81 : decode cX4_one 81 = .ok (.iload_n 2, 1) := dk_28 (dk_at dksX4_one_3 11 rfl rfl)
theorem dX4_one_82 : decode cX4_one 82 = .ok (.iload_n 3, 1) := dk_29 (dk_at dksX4_one_3 12 rfl rfl)
theorem dX4_one_83 : decode cX4_one 83 = .ok (.iastore, 1) := dk_79 (dk_at dksX4_one_3 13 rfl rfl)
theorem dX4_one_84 : decode cX4_one 84 = .ok (.aload_n 0, 1) := dk_42 (dk_at dksX4_one_3 14 rfl rfl)
theorem dX4_one_85 : decode cX4_one 85 = .ok (.dup, 1) := dk_89 (dk_at dksX4_one_3 15 rfl rfl)
theorem dX4_one_86 : decode cX4_one 86 = .ok (.getfield 245, 3) := dk_180 0 245 (dk_at dksX4_one_3 16 rfl rfl)
theorem dX4_one_89 : decode cX4_one 89 = .ok (.iconst 1, 1) := dk_4 (dk_at dksX4_one_3 19 rfl rfl)
theorem dX4_one_90 : decode cX4_one 90 = .ok (.iadd, 1) := dk_96 (dk_at dksX4_one_3 20 rfl rfl)
theorem dX4_one_91 : decode cX4_one 91 = .ok (.putfield 245, 3) := dk_181 0 245 (dk_at dksX4_one_3 21 rfl rfl)
theorem dX4_one_94 : decode cX4_one 94 = .ok (.iconst 1, 1) := dk_4 (dk_at dksX4_one_4 0 rfl rfl)
theorem dX4_one_95 : decode cX4_one 95 = .ok (.ireturn, 1) := dk_172 (dk_at dksX4_one_4 1 rfl rfl)
abbrev cX4_carries : ByteArray := prog_22_method_84_code
def yX4_carries : MethodName := ⟨RX4, "carries", "(I)I"⟩
def dkwX4_carries_4 : List UInt8 := [146, 182, 1, 61, 172]
abbrev dktX4_carries_4 : List UInt8 := dkwX4_carries_4 ++ []
def dkwX4_carries_3 : List UInt8 := [182, 1, 50, 172, 42, 28, 146, 29, 146, 182, 1, 54, 172, 42, 28, 16, 48, 100, 182, 1, 58, 172, 42, 28]
abbrev dktX4_carries_3 : List UInt8 := dkwX4_carries_3 ++ dktX4_carries_4
def dkwX4_carries_2 : List UInt8 := [42, 28, 29, 182, 1, 40, 172, 42, 182, 1, 43, 172, 42, 182, 1, 47, 172, 42, 28, 146, 29, 16, 48, 100]
abbrev dktX4_carries_2 : List UInt8 := dkwX4_carries_2 ++ dktX4_carries_3
def dkwX4_carries_1 : List UInt8 := [170, 0, 0, 0, 0, 0, 0, 86, 0, 0, 0, 0, 0, 0, 0, 5, 0, 0, 0, 40, 0, 0, 0, 47, 0, 0, 0, 52, 0, 0, 0, 57, 0, 0, 0, 68, 0, 0, 0, 77]
abbrev dktX4_carries_1 : List UInt8 := dkwX4_carries_1 ++ dktX4_carries_2
def dkwX4_carries_0 : List UInt8 := [42, 180, 0, 70, 27, 4, 96, 46, 61, 42, 180, 0, 70, 27, 5, 96, 46, 62, 42, 180, 0, 70, 27, 46]
abbrev dktX4_carries_0 : List UInt8 := dkwX4_carries_0 ++ dktX4_carries_1
theorem dksX4_carries_0 : cX4_carries.data.toList.drop 0 = dktX4_carries_0 := by decide +kernel
theorem dksX4_carries_1 : cX4_carries.data.toList.drop 24 = dktX4_carries_1 := dk_seg dksX4_carries_0 24 rfl rfl
theorem dksX4_carries_2 : cX4_carries.data.toList.drop 64 = dktX4_carries_2 := dk_seg dksX4_carries_1 40 rfl rfl
theorem dksX4_carries_3 : cX4_carries.data.toList.drop 88 = dktX4_carries_3 := dk_seg dksX4_carries_2 24 rfl rfl
theorem dksX4_carries_4 : cX4_carries.data.toList.drop 112 = dktX4_carries_4 := dk_seg dksX4_carries_3 24 rfl rfl
theorem dX4_carries_0 : decode cX4_carries 0 = .ok (.aload_n 0, 1) := dk_42 (dk_at dksX4_carries_0 0 rfl rfl)
theorem dX4_carries_1 : decode cX4_carries 1 = .ok (.getfield 70, 3) := dk_180 0 70 (dk_at dksX4_carries_0 1 rfl rfl)
theorem dX4_carries_4 : decode cX4_carries 4 = .ok (.iload_n 1, 1) := dk_27 (dk_at dksX4_carries_0 4 rfl rfl)
theorem dX4_carries_5 : decode cX4_carries 5 = .ok (.iconst 1, 1) := dk_4 (dk_at dksX4_carries_0 5 rfl rfl)
theorem dX4_carries_6 : decode cX4_carries 6 = .ok (.iadd, 1) := dk_96 (dk_at dksX4_carries_0 6 rfl rfl)
theorem dX4_carries_7 : decode cX4_carries 7 = .ok (.iaload, 1) := dk_46 (dk_at dksX4_carries_0 7 rfl rfl)
theorem dX4_carries_8 : decode cX4_carries 8 = .ok (.istore_n 2, 1) := dk_61 (dk_at dksX4_carries_0 8 rfl rfl)
theorem dX4_carries_9 : decode cX4_carries 9 = .ok (.aload_n 0, 1) := dk_42 (dk_at dksX4_carries_0 9 rfl rfl)
theorem dX4_carries_10 : decode cX4_carries 10 = .ok (.getfield 70, 3) := dk_180 0 70 (dk_at dksX4_carries_0 10 rfl rfl)
theorem dX4_carries_13 : decode cX4_carries 13 = .ok (.iload_n 1, 1) := dk_27 (dk_at dksX4_carries_0 13 rfl rfl)
theorem dX4_carries_14 : decode cX4_carries 14 = .ok (.iconst 2, 1) := dk_5 (dk_at dksX4_carries_0 14 rfl rfl)
theorem dX4_carries_15 : decode cX4_carries 15 = .ok (.iadd, 1) := dk_96 (dk_at dksX4_carries_0 15 rfl rfl)
theorem dX4_carries_16 : decode cX4_carries 16 = .ok (.iaload, 1) := dk_46 (dk_at dksX4_carries_0 16 rfl rfl)
theorem dX4_carries_17 : decode cX4_carries 17 = .ok (.istore_n 3, 1) := dk_62 (dk_at dksX4_carries_0 17 rfl rfl)
theorem dX4_carries_18 : decode cX4_carries 18 = .ok (.aload_n 0, 1) := dk_42 (dk_at dksX4_carries_0 18 rfl rfl)
theorem dX4_carries_19 : decode cX4_carries 19 = .ok (.getfield 70, 3) := dk_180 0 70 (dk_at dksX4_carries_0 19 rfl rfl)
theorem dX4_carries_22 : decode cX4_carries 22 = .ok (.iload_n 1, 1) := dk_27 (dk_at dksX4_carries_0 22 rfl rfl)
theorem dX4_carries_23 : decode cX4_carries 23 = .ok (.iaload, 1) := dk_46 (dk_at dksX4_carries_0 23 rfl rfl)
theorem dX4_carries_24 : decode cX4_carries 24 = .ok (.tableswitch 86 0 5 #[40, 47, 52, 57, 68, 77], 40) := by decide +kernel
theorem dX4_carries_64 : decode cX4_carries 64 = .ok (.aload_n 0, 1) := dk_42 (dk_at dksX4_carries_2 0 rfl rfl)
theorem dX4_carries_65 : decode cX4_carries 65 = .ok (.iload_n 2, 1) := dk_28 (dk_at dksX4_carries_2 1 rfl rfl)
theorem dX4_carries_66 : decode cX4_carries 66 = .ok (.iload_n 3, 1) := dk_29 (dk_at dksX4_carries_2 2 rfl rfl)
theorem dX4_carries_67 : decode cX4_carries 67 = .ok (.invokevirtual 296, 3) := dk_182 1 40 (dk_at dksX4_carries_2 3 rfl rfl)
theorem dX4_carries_70 : decode cX4_carries 70 = .ok (.ireturn, 1) := dk_172 (dk_at dksX4_carries_2 6 rfl rfl)
theorem dX4_carries_71 : decode cX4_carries 71 = .ok (.aload_n 0, 1) := dk_42 (dk_at dksX4_carries_2 7 rfl rfl)
theorem dX4_carries_72 : decode cX4_carries 72 = .ok (.invokevirtual 299, 3) := dk_182 1 43 (dk_at dksX4_carries_2 8 rfl rfl)
theorem dX4_carries_75 : decode cX4_carries 75 = .ok (.ireturn, 1) := dk_172 (dk_at dksX4_carries_2 11 rfl rfl)
theorem dX4_carries_76 : decode cX4_carries 76 = .ok (.aload_n 0, 1) := dk_42 (dk_at dksX4_carries_2 12 rfl rfl)
theorem dX4_carries_77 : decode cX4_carries 77 = .ok (.invokevirtual 303, 3) := dk_182 1 47 (dk_at dksX4_carries_2 13 rfl rfl)
theorem dX4_carries_80 : decode cX4_carries 80 = .ok (.ireturn, 1) := dk_172 (dk_at dksX4_carries_2 16 rfl rfl)
theorem dX4_carries_81 : decode cX4_carries 81 = .ok (.aload_n 0, 1) := dk_42 (dk_at dksX4_carries_2 17 rfl rfl)
theorem dX4_carries_82 : decode cX4_carries 82 = .ok (.iload_n 2, 1) := dk_28 (dk_at dksX4_carries_2 18 rfl rfl)
theorem dX4_carries_83 : decode cX4_carries 83 = .ok (.i2c, 1) := dk_146 (dk_at dksX4_carries_2 19 rfl rfl)
theorem dX4_carries_84 : decode cX4_carries 84 = .ok (.iload_n 3, 1) := dk_29 (dk_at dksX4_carries_2 20 rfl rfl)
theorem dX4_carries_85 : decode cX4_carries 85 = .ok (.bipush 48, 2) := dk_16 48 (dk_at dksX4_carries_2 21 rfl rfl)
theorem dX4_carries_87 : decode cX4_carries 87 = .ok (.isub, 1) := dk_100 (dk_at dksX4_carries_2 23 rfl rfl)
theorem dX4_carries_88 : decode cX4_carries 88 = .ok (.invokevirtual 306, 3) := dk_182 1 50 (dk_at dksX4_carries_3 0 rfl rfl)
theorem dX4_carries_91 : decode cX4_carries 91 = .ok (.ireturn, 1) := dk_172 (dk_at dksX4_carries_3 3 rfl rfl)
theorem dX4_carries_92 : decode cX4_carries 92 = .ok (.aload_n 0, 1) := dk_42 (dk_at dksX4_carries_3 4 rfl rfl)
theorem dX4_carries_93 : decode cX4_carries 93 = .ok (.iload_n 2, 1) := dk_28 (dk_at dksX4_carries_3 5 rfl rfl)
theorem dX4_carries_94 : decode cX4_carries 94 = .ok (.i2c, 1) := dk_146 (dk_at dksX4_carries_3 6 rfl rfl)
theorem dX4_carries_95 : decode cX4_carries 95 = .ok (.iload_n 3, 1) := dk_29 (dk_at dksX4_carries_3 7 rfl rfl)
theorem dX4_carries_96 : decode cX4_carries 96 = .ok (.i2c, 1) := dk_146 (dk_at dksX4_carries_3 8 rfl rfl)
theorem dX4_carries_97 : decode cX4_carries 97 = .ok (.invokevirtual 310, 3) := dk_182 1 54 (dk_at dksX4_carries_3 9 rfl rfl)
theorem dX4_carries_100 : decode cX4_carries 100 = .ok (.ireturn, 1) := dk_172 (dk_at dksX4_carries_3 12 rfl rfl)
theorem dX4_carries_101 : decode cX4_carries 101 = .ok (.aload_n 0, 1) := dk_42 (dk_at dksX4_carries_3 13 rfl rfl)
theorem dX4_carries_102 : decode cX4_carries 102 = .ok (.iload_n 2, 1) := dk_28 (dk_at dksX4_carries_3 14 rfl rfl)
theorem dX4_carries_103 : decode cX4_carries 103 = .ok (.bipush 48, 2) := dk_16 48 (dk_at dksX4_carries_3 15 rfl rfl)
theorem dX4_carries_105 : decode cX4_carries 105 = .ok (.isub, 1) := dk_100 (dk_at dksX4_carries_3 17 rfl rfl)
theorem dX4_carries_106 : decode cX4_carries 106 = .ok (.invokevirtual 314, 3) := dk_182 1 58 (dk_at dksX4_carries_3 18 rfl rfl)
theorem dX4_carries_109 : decode cX4_carries 109 = .ok (.ireturn, 1) := dk_172 (dk_at dksX4_carries_3 21 rfl rfl)
theorem dX4_carries_110 : decode cX4_carries 110 = .ok (.aload_n 0, 1) := dk_42 (dk_at dksX4_carries_3 22 rfl rfl)
theorem dX4_carries_111 : decode cX4_carries 111 = .ok (.iload_n 2, 1) := dk_28 (dk_at dksX4_carries_3 23 rfl rfl)
theorem dX4_carries_112 : decode cX4_carries 112 = .ok (.i2c, 1) := dk_146 (dk_at dksX4_carries_4 0 rfl rfl)
theorem dX4_carries_113 : decode cX4_carries 113 = .ok (.invokevirtual 317, 3) := dk_182 1 61 (dk_at dksX4_carries_4 1 rfl rfl)
theorem dX4_carries_116 : decode cX4_carries 116 = .ok (.ireturn, 1) := dk_172 (dk_at dksX4_carries_4 4 rfl rfl)
abbrev cX4_puts : ByteArray := prog_22_method_83_code
def yX4_puts : MethodName := ⟨RX4, "puts", "(II)I"⟩
def dkwX4_puts_1 : List UInt8 := [42, 180, 0, 22, 21, 4, 46, 146, 182, 1, 36, 62, 132, 4, 1, 167, 255, 227, 29, 172]
abbrev dktX4_puts_1 : List UInt8 := dkwX4_puts_1 ++ []
def dkwX4_puts_0 : List UInt8 := [3, 62, 42, 3, 181, 0, 73, 27, 54, 4, 21, 4, 28, 162, 0, 29, 42, 180, 0, 73, 154, 0, 22, 42]
abbrev dktX4_puts_0 : List UInt8 := dkwX4_puts_0 ++ dktX4_puts_1
theorem dksX4_puts_0 : cX4_puts.data.toList.drop 0 = dktX4_puts_0 := by decide +kernel
theorem dksX4_puts_1 : cX4_puts.data.toList.drop 24 = dktX4_puts_1 := dk_seg dksX4_puts_0 24 rfl rfl
theorem dX4_puts_0 : decode cX4_puts 0 = .ok (.iconst 0, 1) := dk_3 (dk_at dksX4_puts_0 0 rfl rfl)
theorem dX4_puts_1 : decode cX4_puts 1 = .ok (.istore_n 3, 1) := dk_62 (dk_at dksX4_puts_0 1 rfl rfl)
theorem dX4_puts_2 : decode cX4_puts 2 = .ok (.aload_n 0, 1) := dk_42 (dk_at dksX4_puts_0 2 rfl rfl)
theorem dX4_puts_3 : decode cX4_puts 3 = .ok (.iconst 0, 1) := dk_3 (dk_at dksX4_puts_0 3 rfl rfl)
theorem dX4_puts_4 : decode cX4_puts 4 = .ok (.putfield 73, 3) := dk_181 0 73 (dk_at dksX4_puts_0 4 rfl rfl)
theorem dX4_puts_7 : decode cX4_puts 7 = .ok (.iload_n 1, 1) := dk_27 (dk_at dksX4_puts_0 7 rfl rfl)
theorem dX4_puts_8 : decode cX4_puts 8 = .ok (.istore 4, 2) := dk_54 4 (dk_at dksX4_puts_0 8 rfl rfl)
theorem dX4_puts_10 : decode cX4_puts 10 = .ok (.iload 4, 2) := dk_21 4 (dk_at dksX4_puts_0 10 rfl rfl)
theorem dX4_puts_12 : decode cX4_puts 12 = .ok (.iload_n 2, 1) := dk_28 (dk_at dksX4_puts_0 12 rfl rfl)
theorem dX4_puts_13 : decode cX4_puts 13 = .ok (.if_icmp .ge 29, 3) := dk_162 0 29 (dk_at dksX4_puts_0 13 rfl rfl)
theorem dX4_puts_16 : decode cX4_puts 16 = .ok (.aload_n 0, 1) := dk_42 (dk_at dksX4_puts_0 16 rfl rfl)
theorem dX4_puts_17 : decode cX4_puts 17 = .ok (.getfield 73, 3) := dk_180 0 73 (dk_at dksX4_puts_0 17 rfl rfl)
theorem dX4_puts_20 : decode cX4_puts 20 = .ok (.ifCond .ne 22, 3) := dk_154 0 22 (dk_at dksX4_puts_0 20 rfl rfl)
theorem dX4_puts_23 : decode cX4_puts 23 = .ok (.aload_n 0, 1) := dk_42 (dk_at dksX4_puts_0 23 rfl rfl)
theorem dX4_puts_24 : decode cX4_puts 24 = .ok (.aload_n 0, 1) := dk_42 (dk_at dksX4_puts_1 0 rfl rfl)
theorem dX4_puts_25 : decode cX4_puts 25 = .ok (.getfield 22, 3) := dk_180 0 22 (dk_at dksX4_puts_1 1 rfl rfl)
theorem dX4_puts_28 : decode cX4_puts 28 = .ok (.iload 4, 2) := dk_21 4 (dk_at dksX4_puts_1 4 rfl rfl)
theorem dX4_puts_30 : decode cX4_puts 30 = .ok (.iaload, 1) := dk_46 (dk_at dksX4_puts_1 6 rfl rfl)
theorem dX4_puts_31 : decode cX4_puts 31 = .ok (.i2c, 1) := dk_146 (dk_at dksX4_puts_1 7 rfl rfl)
theorem dX4_puts_32 : decode cX4_puts 32 = .ok (.invokevirtual 292, 3) := dk_182 1 36 (dk_at dksX4_puts_1 8 rfl rfl)
theorem dX4_puts_35 : decode cX4_puts 35 = .ok (.istore_n 3, 1) := dk_62 (dk_at dksX4_puts_1 11 rfl rfl)
theorem dX4_puts_36 : decode cX4_puts 36 = .ok (.iinc 4 1, 3) := dk_132 4 1 (dk_at dksX4_puts_1 12 rfl rfl)
theorem dX4_puts_39 : decode cX4_puts 39 = .ok (.goto (-29), 3) := dk_167 255 227 (dk_at dksX4_puts_1 15 rfl rfl)
theorem dX4_puts_42 : decode cX4_puts 42 = .ok (.iload_n 3, 1) := dk_29 (dk_at dksX4_puts_1 18 rfl rfl)
theorem dX4_puts_43 : decode cX4_puts 43 = .ok (.ireturn, 1) := dk_172 (dk_at dksX4_puts_1 19 rfl rfl)
abbrev cX4_deniesText : ByteArray := prog_22_method_85_code
def yX4_deniesText : MethodName := ⟨RX4, "deniesText", "(I)I"⟩
def dkwX4_deniesText_1 : List UInt8 := [42, 28, 181, 0, 86, 3, 172]
abbrev dktX4_deniesText_1 : List UInt8 := dkwX4_deniesText_1 ++ []
def dkwX4_deniesText_0 : List UInt8 := [42, 180, 0, 76, 153, 0, 10, 42, 180, 0, 80, 167, 0, 4, 8, 61, 42, 5, 7, 27, 182, 0, 126, 87]
abbrev dktX4_deniesText_0 : List UInt8 := dkwX4_deniesText_0 ++ dktX4_deniesText_1
theorem dksX4_deniesText_0 : cX4_deniesText.data.toList.drop 0 = dktX4_deniesText_0 := by decide +kernel
theorem dksX4_deniesText_1 : cX4_deniesText.data.toList.drop 24 = dktX4_deniesText_1 := dk_seg dksX4_deniesText_0 24 rfl rfl
theorem dX4_deniesText_0 : decode cX4_deniesText 0 = .ok (.aload_n 0, 1) := dk_42 (dk_at dksX4_deniesText_0 0 rfl rfl)
theorem dX4_deniesText_1 : decode cX4_deniesText 1 = .ok (.getfield 76, 3) := dk_180 0 76 (dk_at dksX4_deniesText_0 1 rfl rfl)
theorem dX4_deniesText_4 : decode cX4_deniesText 4 = .ok (.ifCond .eq 10, 3) := dk_153 0 10 (dk_at dksX4_deniesText_0 4 rfl rfl)
theorem dX4_deniesText_7 : decode cX4_deniesText 7 = .ok (.aload_n 0, 1) := dk_42 (dk_at dksX4_deniesText_0 7 rfl rfl)
theorem dX4_deniesText_8 : decode cX4_deniesText 8 = .ok (.getfield 80, 3) := dk_180 0 80 (dk_at dksX4_deniesText_0 8 rfl rfl)
theorem dX4_deniesText_11 : decode cX4_deniesText 11 = .ok (.goto 4, 3) := dk_167 0 4 (dk_at dksX4_deniesText_0 11 rfl rfl)
theorem dX4_deniesText_14 : decode cX4_deniesText 14 = .ok (.iconst 5, 1) := dk_8 (dk_at dksX4_deniesText_0 14 rfl rfl)
theorem dX4_deniesText_15 : decode cX4_deniesText 15 = .ok (.istore_n 2, 1) := dk_61 (dk_at dksX4_deniesText_0 15 rfl rfl)
theorem dX4_deniesText_16 : decode cX4_deniesText 16 = .ok (.aload_n 0, 1) := dk_42 (dk_at dksX4_deniesText_0 16 rfl rfl)
theorem dX4_deniesText_17 : decode cX4_deniesText 17 = .ok (.iconst 2, 1) := dk_5 (dk_at dksX4_deniesText_0 17 rfl rfl)
theorem dX4_deniesText_18 : decode cX4_deniesText 18 = .ok (.iconst 4, 1) := dk_7 (dk_at dksX4_deniesText_0 18 rfl rfl)
theorem dX4_deniesText_19 : decode cX4_deniesText 19 = .ok (.iload_n 1, 1) := dk_27 (dk_at dksX4_deniesText_0 19 rfl rfl)
theorem dX4_deniesText_20 : decode cX4_deniesText 20 = .ok (.invokevirtual 126, 3) := dk_182 0 126 (dk_at dksX4_deniesText_0 20 rfl rfl)
theorem dX4_deniesText_23 : decode cX4_deniesText 23 = .ok (.pop, 1) := dk_87 (dk_at dksX4_deniesText_0 23 rfl rfl)
theorem dX4_deniesText_24 : decode cX4_deniesText 24 = .ok (.aload_n 0, 1) := dk_42 (dk_at dksX4_deniesText_1 0 rfl rfl)
theorem dX4_deniesText_25 : decode cX4_deniesText 25 = .ok (.iload_n 2, 1) := dk_28 (dk_at dksX4_deniesText_1 1 rfl rfl)
theorem dX4_deniesText_26 : decode cX4_deniesText 26 = .ok (.putfield 86, 3) := dk_181 0 86 (dk_at dksX4_deniesText_1 2 rfl rfl)
theorem dX4_deniesText_29 : decode cX4_deniesText 29 = .ok (.iconst 0, 1) := dk_3 (dk_at dksX4_deniesText_1 5 rfl rfl)
theorem dX4_deniesText_30 : decode cX4_deniesText 30 = .ok (.ireturn, 1) := dk_172 (dk_at dksX4_deniesText_1 6 rfl rfl)
abbrev cX4_faultPosition : ByteArray := prog_22_method_87_code
def yX4_faultPosition : MethodName := ⟨RX4, "faultPosition", "()I"⟩
def dkwX4_faultPosition_1 : List UInt8 := [180, 0, 25, 172]
abbrev dktX4_faultPosition_1 : List UInt8 := dkwX4_faultPosition_1 ++ []
def dkwX4_faultPosition_0 : List UInt8 := [42, 42, 180, 0, 25, 156, 0, 7, 4, 167, 0, 4, 3, 182, 0, 123, 153, 0, 7, 3, 167, 0, 7, 42]
abbrev dktX4_faultPosition_0 : List UInt8 := dkwX4_faultPosition_0 ++ dktX4_faultPosition_1
theorem dksX4_faultPosition_0 : cX4_faultPosition.data.toList.drop 0 = dktX4_faultPosition_0 := by decide +kernel
theorem dksX4_faultPosition_1 : cX4_faultPosition.data.toList.drop 24 = dktX4_faultPosition_1 := dk_seg dksX4_faultPosition_0 24 rfl rfl
theorem dX4_faultPosition_0 : decode cX4_faultPosition 0 = .ok (.aload_n 0, 1) := dk_42 (dk_at dksX4_faultPosition_0 0 rfl rfl)
theorem dX4_faultPosition_1 : decode cX4_faultPosition 1 = .ok (.aload_n 0, 1) := dk_42 (dk_at dksX4_faultPosition_0 1 rfl rfl)
theorem dX4_faultPosition_2 : decode cX4_faultPosition 2 = .ok (.getfield 25, 3) := dk_180 0 25 (dk_at dksX4_faultPosition_0 2 rfl rfl)
theorem dX4_faultPosition_5 : decode cX4_faultPosition 5 = .ok (.ifCond .ge 7, 3) := dk_156 0 7 (dk_at dksX4_faultPosition_0 5 rfl rfl)
theorem dX4_faultPosition_8 : decode cX4_faultPosition 8 = .ok (.iconst 1, 1) := dk_4 (dk_at dksX4_faultPosition_0 8 rfl rfl)
theorem dX4_faultPosition_9 : decode cX4_faultPosition 9 = .ok (.goto 4, 3) := dk_167 0 4 (dk_at dksX4_faultPosition_0 9 rfl rfl)
theorem dX4_faultPosition_12 : decode cX4_faultPosition 12 = .ok (.iconst 0, 1) := dk_3 (dk_at dksX4_faultPosition_0 12 rfl rfl)
theorem dX4_faultPosition_13 : decode cX4_faultPosition 13 = .ok (.invokevirtual 123, 3) := dk_182 0 123 (dk_at dksX4_faultPosition_0 13 rfl rfl)
theorem dX4_faultPosition_16 : decode cX4_faultPosition 16 = .ok (.ifCond .eq 7, 3) := dk_153 0 7 (dk_at dksX4_faultPosition_0 16 rfl rfl)
theorem dX4_faultPosition_19 : decode cX4_faultPosition 19 = .ok (.iconst 0, 1) := dk_3 (dk_at dksX4_faultPosition_0 19 rfl rfl)
theorem dX4_faultPosition_20 : decode cX4_faultPosition 20 = .ok (.goto 7, 3) := dk_167 0 7 (dk_at dksX4_faultPosition_0 20 rfl rfl)
theorem dX4_faultPosition_23 : decode cX4_faultPosition 23 = .ok (.aload_n 0, 1) := dk_42 (dk_at dksX4_faultPosition_0 23 rfl rfl)
theorem dX4_faultPosition_24 : decode cX4_faultPosition 24 = .ok (.getfield 25, 3) := dk_180 0 25 (dk_at dksX4_faultPosition_1 0 rfl rfl)
theorem dX4_faultPosition_27 : decode cX4_faultPosition 27 = .ok (.ireturn, 1) := dk_172 (dk_at dksX4_faultPosition_1 3 rfl rfl)
abbrev cX4_writeFull : ByteArray := prog_22_method_90_code
def yX4_writeFull : MethodName := ⟨RX4, "writeFull", "()I"⟩
def dkwX4_writeFull_1 : List UInt8 := [180, 1, 73, 172]
abbrev dktX4_writeFull_1 : List UInt8 := dkwX4_writeFull_1 ++ []
def dkwX4_writeFull_0 : List UInt8 := [42, 182, 0, 185, 154, 0, 5, 3, 172, 42, 3, 181, 1, 73, 42, 3, 42, 180, 0, 161, 182, 1, 76, 42]
abbrev dktX4_writeFull_0 : List UInt8 := dkwX4_writeFull_0 ++ dktX4_writeFull_1
theorem dksX4_writeFull_0 : cX4_writeFull.data.toList.drop 0 = dktX4_writeFull_0 := by decide +kernel
theorem dksX4_writeFull_1 : cX4_writeFull.data.toList.drop 24 = dktX4_writeFull_1 := dk_seg dksX4_writeFull_0 24 rfl rfl
theorem dX4_writeFull_0 : decode cX4_writeFull 0 = .ok (.aload_n 0, 1) := dk_42 (dk_at dksX4_writeFull_0 0 rfl rfl)
theorem dX4_writeFull_1 : decode cX4_writeFull 1 = .ok (.invokevirtual 185, 3) := dk_182 0 185 (dk_at dksX4_writeFull_0 1 rfl rfl)
theorem dX4_writeFull_4 : decode cX4_writeFull 4 = .ok (.ifCond .ne 5, 3) := dk_154 0 5 (dk_at dksX4_writeFull_0 4 rfl rfl)
theorem dX4_writeFull_7 : decode cX4_writeFull 7 = .ok (.iconst 0, 1) := dk_3 (dk_at dksX4_writeFull_0 7 rfl rfl)
theorem dX4_writeFull_8 : decode cX4_writeFull 8 = .ok (.ireturn, 1) := dk_172 (dk_at dksX4_writeFull_0 8 rfl rfl)
theorem dX4_writeFull_9 : decode cX4_writeFull 9 = .ok (.aload_n 0, 1) := dk_42 (dk_at dksX4_writeFull_0 9 rfl rfl)
theorem dX4_writeFull_10 : decode cX4_writeFull 10 = .ok (.iconst 0, 1) := dk_3 (dk_at dksX4_writeFull_0 10 rfl rfl)
theorem dX4_writeFull_11 : decode cX4_writeFull 11 = .ok (.putfield 329, 3) := dk_181 1 73 (dk_at dksX4_writeFull_0 11 rfl rfl)
theorem dX4_writeFull_14 : decode cX4_writeFull 14 = .ok (.aload_n 0, 1) := dk_42 (dk_at dksX4_writeFull_0 14 rfl rfl)
theorem dX4_writeFull_15 : decode cX4_writeFull 15 = .ok (.iconst 0, 1) := dk_3 (dk_at dksX4_writeFull_0 15 rfl rfl)
theorem dX4_writeFull_16 : decode cX4_writeFull 16 = .ok (.aload_n 0, 1) := dk_42 (dk_at dksX4_writeFull_0 16 rfl rfl)
theorem dX4_writeFull_17 : decode cX4_writeFull 17 = .ok (.getfield 161, 3) := dk_180 0 161 (dk_at dksX4_writeFull_0 17 rfl rfl)
theorem dX4_writeFull_20 : decode cX4_writeFull 20 = .ok (.invokevirtual 332, 3) := dk_182 1 76 (dk_at dksX4_writeFull_0 20 rfl rfl)
theorem dX4_writeFull_23 : decode cX4_writeFull 23 = .ok (.aload_n 0, 1) := dk_42 (dk_at dksX4_writeFull_0 23 rfl rfl)
theorem dX4_writeFull_24 : decode cX4_writeFull 24 = .ok (.getfield 329, 3) := dk_180 1 73 (dk_at dksX4_writeFull_1 0 rfl rfl)
theorem dX4_writeFull_27 : decode cX4_writeFull 27 = .ok (.ireturn, 1) := dk_172 (dk_at dksX4_writeFull_1 3 rfl rfl)
abbrev cX4_writesFull : ByteArray := prog_22_method_89_code
def yX4_writesFull : MethodName := ⟨RX4, "writesFull", "(II)V"⟩
def dkwX4_writesFull_4 : List UInt8 := [156, 0, 7, 27, 167, 0, 4, 29, 4, 96, 28, 182, 1, 76, 42, 16, 41, 182, 1, 79, 177]
abbrev dktX4_writesFull_4 : List UInt8 := dkwX4_writesFull_4 ++ []
def dkwX4_writesFull_3 : List UInt8 := [182, 1, 76, 42, 42, 180, 0, 33, 29, 156, 0, 7, 27, 167, 0, 4, 29, 46, 182, 1, 79, 42, 29]
abbrev dktX4_writesFull_3 : List UInt8 := dkwX4_writesFull_3 ++ dktX4_writesFull_4
def dkwX4_writesFull_2 : List UInt8 := [42, 42, 180, 0, 33, 27, 46, 182, 1, 79, 177, 42, 16, 40, 182, 1, 79, 29, 155, 0, 9, 42, 27, 29]
abbrev dktX4_writesFull_2 : List UInt8 := dkwX4_writesFull_2 ++ dktX4_writesFull_3
def dkwX4_writesFull_1 : List UInt8 := [4, 96, 28, 4, 100, 182, 1, 76, 177, 29, 156, 0, 25, 42, 180, 0, 33, 27, 46, 16, 126, 159, 0, 14]
abbrev dktX4_writesFull_1 : List UInt8 := dkwX4_writesFull_1 ++ dktX4_writesFull_2
def dkwX4_writesFull_0 : List UInt8 := [42, 27, 28, 182, 0, 173, 62, 29, 156, 0, 25, 42, 180, 0, 33, 27, 46, 16, 40, 160, 0, 14, 42, 27]
abbrev dktX4_writesFull_0 : List UInt8 := dkwX4_writesFull_0 ++ dktX4_writesFull_1
theorem dksX4_writesFull_0 : cX4_writesFull.data.toList.drop 0 = dktX4_writesFull_0 := by decide +kernel
theorem dksX4_writesFull_1 : cX4_writesFull.data.toList.drop 24 = dktX4_writesFull_1 := dk_seg dksX4_writesFull_0 24 rfl rfl
theorem dksX4_writesFull_2 : cX4_writesFull.data.toList.drop 48 = dktX4_writesFull_2 := dk_seg dksX4_writesFull_1 24 rfl rfl
theorem dksX4_writesFull_3 : cX4_writesFull.data.toList.drop 72 = dktX4_writesFull_3 := dk_seg dksX4_writesFull_2 24 rfl rfl
theorem dksX4_writesFull_4 : cX4_writesFull.data.toList.drop 95 = dktX4_writesFull_4 := dk_seg dksX4_writesFull_3 23 rfl rfl
theorem dX4_writesFull_0 : decode cX4_writesFull 0 = .ok (.aload_n 0, 1) := dk_42 (dk_at dksX4_writesFull_0 0 rfl rfl)
theorem dX4_writesFull_1 : decode cX4_writesFull 1 = .ok (.iload_n 1, 1) := dk_27 (dk_at dksX4_writesFull_0 1 rfl rfl)
theorem dX4_writesFull_2 : decode cX4_writesFull 2 = .ok (.iload_n 2, 1) := dk_28 (dk_at dksX4_writesFull_0 2 rfl rfl)
theorem dX4_writesFull_3 : decode cX4_writesFull 3 = .ok (.invokevirtual 173, 3) := dk_182 0 173 (dk_at dksX4_writesFull_0 3 rfl rfl)
theorem dX4_writesFull_6 : decode cX4_writesFull 6 = .ok (.istore_n 3, 1) := dk_62 (dk_at dksX4_writesFull_0 6 rfl rfl)
theorem dX4_writesFull_7 : decode cX4_writesFull 7 = .ok (.iload_n 3, 1) := dk_29 (dk_at dksX4_writesFull_0 7 rfl rfl)
theorem dX4_writesFull_8 : decode cX4_writesFull 8 = .ok (.ifCond .ge 25, 3) := dk_156 0 25 (dk_at dksX4_writesFull_0 8 rfl rfl)
theorem dX4_writesFull_11 : decode cX4_writesFull 11 = .ok (.aload_n 0, 1) := dk_42 (dk_at dksX4_writesFull_0 11 rfl rfl)
theorem dX4_writesFull_12 : decode cX4_writesFull 12 = .ok (.getfield 33, 3) := dk_180 0 33 (dk_at dksX4_writesFull_0 12 rfl rfl)
theorem dX4_writesFull_15 : decode cX4_writesFull 15 = .ok (.iload_n 1, 1) := dk_27 (dk_at dksX4_writesFull_0 15 rfl rfl)
theorem dX4_writesFull_16 : decode cX4_writesFull 16 = .ok (.iaload, 1) := dk_46 (dk_at dksX4_writesFull_0 16 rfl rfl)
theorem dX4_writesFull_17 : decode cX4_writesFull 17 = .ok (.bipush 40, 2) := dk_16 40 (dk_at dksX4_writesFull_0 17 rfl rfl)
theorem dX4_writesFull_19 : decode cX4_writesFull 19 = .ok (.if_icmp .ne 14, 3) := dk_160 0 14 (dk_at dksX4_writesFull_0 19 rfl rfl)
theorem dX4_writesFull_22 : decode cX4_writesFull 22 = .ok (.aload_n 0, 1) := dk_42 (dk_at dksX4_writesFull_0 22 rfl rfl)
theorem dX4_writesFull_23 : decode cX4_writesFull 23 = .ok (.iload_n 1, 1) := dk_27 (dk_at dksX4_writesFull_0 23 rfl rfl)
theorem dX4_writesFull_24 : decode cX4_writesFull 24 = .ok (.iconst 1, 1) := dk_4 (dk_at dksX4_writesFull_1 0 rfl rfl)
theorem dX4_writesFull_25 : decode cX4_writesFull 25 = .ok (.iadd, 1) := dk_96 (dk_at dksX4_writesFull_1 1 rfl rfl)
theorem dX4_writesFull_26 : decode cX4_writesFull 26 = .ok (.iload_n 2, 1) := dk_28 (dk_at dksX4_writesFull_1 2 rfl rfl)
theorem dX4_writesFull_27 : decode cX4_writesFull 27 = .ok (.iconst 1, 1) := dk_4 (dk_at dksX4_writesFull_1 3 rfl rfl)
theorem dX4_writesFull_28 : decode cX4_writesFull 28 = .ok (.isub, 1) := dk_100 (dk_at dksX4_writesFull_1 4 rfl rfl)
theorem dX4_writesFull_29 : decode cX4_writesFull 29 = .ok (.invokevirtual 332, 3) := dk_182 1 76 (dk_at dksX4_writesFull_1 5 rfl rfl)
theorem dX4_writesFull_32 : decode cX4_writesFull 32 = .ok (.return_, 1) := dk_177 (dk_at dksX4_writesFull_1 8 rfl rfl)
theorem dX4_writesFull_33 : decode cX4_writesFull 33 = .ok (.iload_n 3, 1) := dk_29 (dk_at dksX4_writesFull_1 9 rfl rfl)
theorem dX4_writesFull_34 : decode cX4_writesFull 34 = .ok (.ifCond .ge 25, 3) := dk_156 0 25 (dk_at dksX4_writesFull_1 10 rfl rfl)
theorem dX4_writesFull_37 : decode cX4_writesFull 37 = .ok (.aload_n 0, 1) := dk_42 (dk_at dksX4_writesFull_1 13 rfl rfl)
theorem dX4_writesFull_38 : decode cX4_writesFull 38 = .ok (.getfield 33, 3) := dk_180 0 33 (dk_at dksX4_writesFull_1 14 rfl rfl)
theorem dX4_writesFull_41 : decode cX4_writesFull 41 = .ok (.iload_n 1, 1) := dk_27 (dk_at dksX4_writesFull_1 17 rfl rfl)
theorem dX4_writesFull_42 : decode cX4_writesFull 42 = .ok (.iaload, 1) := dk_46 (dk_at dksX4_writesFull_1 18 rfl rfl)
theorem dX4_writesFull_43 : decode cX4_writesFull 43 = .ok (.bipush 126, 2) := dk_16 126 (dk_at dksX4_writesFull_1 19 rfl rfl)
theorem dX4_writesFull_45 : decode cX4_writesFull 45 = .ok (.if_icmp .eq 14, 3) := dk_159 0 14 (dk_at dksX4_writesFull_1 21 rfl rfl)
theorem dX4_writesFull_48 : decode cX4_writesFull 48 = .ok (.aload_n 0, 1) := dk_42 (dk_at dksX4_writesFull_2 0 rfl rfl)
theorem dX4_writesFull_49 : decode cX4_writesFull 49 = .ok (.aload_n 0, 1) := dk_42 (dk_at dksX4_writesFull_2 1 rfl rfl)
theorem dX4_writesFull_50 : decode cX4_writesFull 50 = .ok (.getfield 33, 3) := dk_180 0 33 (dk_at dksX4_writesFull_2 2 rfl rfl)
theorem dX4_writesFull_53 : decode cX4_writesFull 53 = .ok (.iload_n 1, 1) := dk_27 (dk_at dksX4_writesFull_2 5 rfl rfl)
theorem dX4_writesFull_54 : decode cX4_writesFull 54 = .ok (.iaload, 1) := dk_46 (dk_at dksX4_writesFull_2 6 rfl rfl)
theorem dX4_writesFull_55 : decode cX4_writesFull 55 = .ok (.invokevirtual 335, 3) := dk_182 1 79 (dk_at dksX4_writesFull_2 7 rfl rfl)
theorem dX4_writesFull_58 : decode cX4_writesFull 58 = .ok (.return_, 1) := dk_177 (dk_at dksX4_writesFull_2 10 rfl rfl)
theorem dX4_writesFull_59 : decode cX4_writesFull 59 = .ok (.aload_n 0, 1) := dk_42 (dk_at dksX4_writesFull_2 11 rfl rfl)
theorem dX4_writesFull_60 : decode cX4_writesFull 60 = .ok (.bipush 40, 2) := dk_16 40 (dk_at dksX4_writesFull_2 12 rfl rfl)
theorem dX4_writesFull_62 : decode cX4_writesFull 62 = .ok (.invokevirtual 335, 3) := dk_182 1 79 (dk_at dksX4_writesFull_2 14 rfl rfl)
theorem dX4_writesFull_65 : decode cX4_writesFull 65 = .ok (.iload_n 3, 1) := dk_29 (dk_at dksX4_writesFull_2 17 rfl rfl)
theorem dX4_writesFull_66 : decode cX4_writesFull 66 = .ok (.ifCond .lt 9, 3) := dk_155 0 9 (dk_at dksX4_writesFull_2 18 rfl rfl)
theorem dX4_writesFull_69 : decode cX4_writesFull 69 = .ok (.aload_n 0, 1) := dk_42 (dk_at dksX4_writesFull_2 21 rfl rfl)
theorem dX4_writesFull_70 : decode cX4_writesFull 70 = .ok (.iload_n 1, 1) := dk_27 (dk_at dksX4_writesFull_2 22 rfl rfl)
theorem dX4_writesFull_71 : decode cX4_writesFull 71 = .ok (.iload_n 3, 1) := dk_29 (dk_at dksX4_writesFull_2 23 rfl rfl)
theorem dX4_writesFull_72 : decode cX4_writesFull 72 = .ok (.invokevirtual 332, 3) := dk_182 1 76 (dk_at dksX4_writesFull_3 0 rfl rfl)
theorem dX4_writesFull_75 : decode cX4_writesFull 75 = .ok (.aload_n 0, 1) := dk_42 (dk_at dksX4_writesFull_3 3 rfl rfl)
theorem dX4_writesFull_76 : decode cX4_writesFull 76 = .ok (.aload_n 0, 1) := dk_42 (dk_at dksX4_writesFull_3 4 rfl rfl)
theorem dX4_writesFull_77 : decode cX4_writesFull 77 = .ok (.getfield 33, 3) := dk_180 0 33 (dk_at dksX4_writesFull_3 5 rfl rfl)
theorem dX4_writesFull_80 : decode cX4_writesFull 80 = .ok (.iload_n 3, 1) := dk_29 (dk_at dksX4_writesFull_3 8 rfl rfl)
theorem dX4_writesFull_81 : decode cX4_writesFull 81 = .ok (.ifCond .ge 7, 3) := dk_156 0 7 (dk_at dksX4_writesFull_3 9 rfl rfl)
theorem dX4_writesFull_84 : decode cX4_writesFull 84 = .ok (.iload_n 1, 1) := dk_27 (dk_at dksX4_writesFull_3 12 rfl rfl)
theorem dX4_writesFull_85 : decode cX4_writesFull 85 = .ok (.goto 4, 3) := dk_167 0 4 (dk_at dksX4_writesFull_3 13 rfl rfl)
theorem dX4_writesFull_88 : decode cX4_writesFull 88 = .ok (.iload_n 3, 1) := dk_29 (dk_at dksX4_writesFull_3 16 rfl rfl)
theorem dX4_writesFull_89 : decode cX4_writesFull 89 = .ok (.iaload, 1) := dk_46 (dk_at dksX4_writesFull_3 17 rfl rfl)
theorem dX4_writesFull_90 : decode cX4_writesFull 90 = .ok (.invokevirtual 335, 3) := dk_182 1 79 (dk_at dksX4_writesFull_3 18 rfl rfl)
theorem dX4_writesFull_93 : decode cX4_writesFull 93 = .ok (.aload_n 0, 1) := dk_42 (dk_at dksX4_writesFull_3 21 rfl rfl)
theorem dX4_writesFull_94 : decode cX4_writesFull 94 = .ok (.iload_n 3, 1) := dk_29 (dk_at dksX4_writesFull_3 22 rfl rfl)
theorem dX4_writesFull_95 : decode cX4_writesFull 95 = .ok (.ifCond .ge 7, 3) := dk_156 0 7 (dk_at dksX4_writesFull_4 0 rfl rfl)
theorem dX4_writesFull_98 : decode cX4_writesFull 98 = .ok (.iload_n 1, 1) := dk_27 (dk_at dksX4_writesFull_4 3 rfl rfl)
theorem dX4_writesFull_99 : decode cX4_writesFull 99 = .ok (.goto 4, 3) := dk_167 0 4 (dk_at dksX4_writesFull_4 4 rfl rfl)
theorem dX4_writesFull_102 : decode cX4_writesFull 102 = .ok (.iload_n 3, 1) := dk_29 (dk_at dksX4_writesFull_4 7 rfl rfl)
theorem dX4_writesFull_103 : decode cX4_writesFull 103 = .ok (.iconst 1, 1) := dk_4 (dk_at dksX4_writesFull_4 8 rfl rfl)
theorem dX4_writesFull_104 : decode cX4_writesFull 104 = .ok (.iadd, 1) := dk_96 (dk_at dksX4_writesFull_4 9 rfl rfl)
theorem dX4_writesFull_105 : decode cX4_writesFull 105 = .ok (.iload_n 2, 1) := dk_28 (dk_at dksX4_writesFull_4 10 rfl rfl)
theorem dX4_writesFull_106 : decode cX4_writesFull 106 = .ok (.invokevirtual 332, 3) := dk_182 1 76 (dk_at dksX4_writesFull_4 11 rfl rfl)
theorem dX4_writesFull_109 : decode cX4_writesFull 109 = .ok (.aload_n 0, 1) := dk_42 (dk_at dksX4_writesFull_4 14 rfl rfl)
theorem dX4_writesFull_110 : decode cX4_writesFull 110 = .ok (.bipush 41, 2) := dk_16 41 (dk_at dksX4_writesFull_4 15 rfl rfl)
theorem dX4_writesFull_112 : decode cX4_writesFull 112 = .ok (.invokevirtual 335, 3) := dk_182 1 79 (dk_at dksX4_writesFull_4 17 rfl rfl)
theorem dX4_writesFull_115 : decode cX4_writesFull 115 = .ok (.return_, 1) := dk_177 (dk_at dksX4_writesFull_4 20 rfl rfl)
abbrev cX4_writes : ByteArray := prog_22_method_88_code
def yX4_writes : MethodName := ⟨RX4, "writes", "(I)V"⟩
def dkwX4_writes_0 : List UInt8 := [42, 180, 0, 29, 42, 180, 1, 73, 27, 146, 85, 42, 89, 180, 1, 73, 4, 96, 181, 1, 73, 177]
abbrev dktX4_writes_0 : List UInt8 := dkwX4_writes_0 ++ []
theorem dksX4_writes_0 : cX4_writes.data.toList.drop 0 = dktX4_writes_0 := by decide +kernel
theorem dX4_writes_0 : decode cX4_writes 0 = .ok (.aload_n 0, 1) := dk_42 (dk_at dksX4_writes_0 0 rfl rfl)
theorem dX4_writes_1 : decode cX4_writes 1 = .ok (.getfield 29, 3) := dk_180 0 29 (dk_at dksX4_writes_0 1 rfl rfl)
theorem dX4_writes_4 : decode cX4_writes 4 = .ok (.aload_n 0, 1) := dk_42 (dk_at dksX4_writes_0 4 rfl rfl)
theorem dX4_writes_5 : decode cX4_writes 5 = .ok (.getfield 329, 3) := dk_180 1 73 (dk_at dksX4_writes_0 5 rfl rfl)
theorem dX4_writes_8 : decode cX4_writes 8 = .ok (.iload_n 1, 1) := dk_27 (dk_at dksX4_writes_0 8 rfl rfl)
theorem dX4_writes_9 : decode cX4_writes 9 = .ok (.i2c, 1) := dk_146 (dk_at dksX4_writes_0 9 rfl rfl)
theorem dX4_writes_10 : decode cX4_writes 10 = .ok (.castore, 1) := dk_85 (dk_at dksX4_writes_0 10 rfl rfl)
theorem dX4_writes_11 : decode cX4_writes 11 = .ok (.aload_n 0, 1) := dk_42 (dk_at dksX4_writes_0 11 rfl rfl)
theorem dX4_writes_12 : decode cX4_writes 12 = .ok (.dup, 1) := dk_89 (dk_at dksX4_writes_0 12 rfl rfl)
theorem dX4_writes_13 : decode cX4_writes 13 = .ok (.getfield 329, 3) := dk_180 1 73 (dk_at dksX4_writes_0 13 rfl rfl)
theorem dX4_writes_16 : decode cX4_writes 16 = .ok (.iconst 1, 1) := dk_4 (dk_at dksX4_writes_0 16 rfl rfl)
theorem dX4_writes_17 : decode cX4_writes 17 = .ok (.iadd, 1) := dk_96 (dk_at dksX4_writes_0 17 rfl rfl)
theorem dX4_writes_18 : decode cX4_writes 18 = .ok (.putfield 329, 3) := dk_181 1 73 (dk_at dksX4_writes_0 18 rfl rfl)
theorem dX4_writes_21 : decode cX4_writes 21 = .ok (.return_, 1) := dk_177 (dk_at dksX4_writes_0 21 rfl rfl)
abbrev cX4_writeShort : ByteArray := prog_22_method_91_code
def yX4_writeShort : MethodName := ⟨RX4, "writeShort", "()I"⟩
def dkwX4_writeShort_3 : List UInt8 := [46, 182, 1, 79, 132, 2, 1, 167, 255, 235, 42, 180, 1, 73, 172]
abbrev dktX4_writeShort_3 : List UInt8 := dkwX4_writeShort_3 ++ []
def dkwX4_writeShort_2 : List UInt8 := [167, 255, 225, 42, 3, 181, 1, 73, 3, 61, 28, 42, 180, 0, 161, 162, 0, 19, 42, 42, 180, 0, 33, 28]
abbrev dktX4_writeShort_2 : List UInt8 := dkwX4_writeShort_2 ++ dktX4_writeShort_3
def dkwX4_writeShort_1 : List UInt8 := [180, 0, 33, 27, 46, 16, 40, 160, 0, 12, 42, 27, 4, 182, 0, 216, 154, 255, 231, 132, 1, 1]
abbrev dktX4_writeShort_1 : List UInt8 := dkwX4_writeShort_1 ++ dktX4_writeShort_2
def dkwX4_writeShort_0 : List UInt8 := [42, 182, 0, 185, 154, 0, 5, 3, 172, 42, 182, 0, 213, 3, 60, 27, 42, 180, 0, 161, 162, 0, 29, 42]
abbrev dktX4_writeShort_0 : List UInt8 := dkwX4_writeShort_0 ++ dktX4_writeShort_1
theorem dksX4_writeShort_0 : cX4_writeShort.data.toList.drop 0 = dktX4_writeShort_0 := by decide +kernel
theorem dksX4_writeShort_1 : cX4_writeShort.data.toList.drop 24 = dktX4_writeShort_1 := dk_seg dksX4_writeShort_0 24 rfl rfl
theorem dksX4_writeShort_2 : cX4_writeShort.data.toList.drop 46 = dktX4_writeShort_2 := dk_seg dksX4_writeShort_1 22 rfl rfl
theorem dksX4_writeShort_3 : cX4_writeShort.data.toList.drop 70 = dktX4_writeShort_3 := dk_seg dksX4_writeShort_2 24 rfl rfl
theorem dX4_writeShort_0 : decode cX4_writeShort 0 = .ok (.aload_n 0, 1) := dk_42 (dk_at dksX4_writeShort_0 0 rfl rfl)
theorem dX4_writeShort_1 : decode cX4_writeShort 1 = .ok (.invokevirtual 185, 3) := dk_182 0 185 (dk_at dksX4_writeShort_0 1 rfl rfl)
theorem dX4_writeShort_4 : decode cX4_writeShort 4 = .ok (.ifCond .ne 5, 3) := dk_154 0 5 (dk_at dksX4_writeShort_0 4 rfl rfl)
theorem dX4_writeShort_7 : decode cX4_writeShort 7 = .ok (.iconst 0, 1) := dk_3 (dk_at dksX4_writeShort_0 7 rfl rfl)
theorem dX4_writeShort_8 : decode cX4_writeShort 8 = .ok (.ireturn, 1) := dk_172 (dk_at dksX4_writeShort_0 8 rfl rfl)
theorem dX4_writeShort_9 : decode cX4_writeShort 9 = .ok (.aload_n 0, 1) := dk_42 (dk_at dksX4_writeShort_0 9 rfl rfl)
theorem dX4_writeShort_10 : decode cX4_writeShort 10 = .ok (.invokevirtual 213, 3) := dk_182 0 213 (dk_at dksX4_writeShort_0 10 rfl rfl)
theorem dX4_writeShort_13 : decode cX4_writeShort 13 = .ok (.iconst 0, 1) := dk_3 (dk_at dksX4_writeShort_0 13 rfl rfl)
theorem dX4_writeShort_14 : decode cX4_writeShort 14 = .ok (.istore_n 1, 1) := dk_60 (dk_at dksX4_writeShort_0 14 rfl rfl)
theorem dX4_writeShort_15 : decode cX4_writeShort 15 = .ok (.iload_n 1, 1) := dk_27 (dk_at dksX4_writeShort_0 15 rfl rfl)
theorem dX4_writeShort_16 : decode cX4_writeShort 16 = .ok (.aload_n 0, 1) := dk_42 (dk_at dksX4_writeShort_0 16 rfl rfl)
theorem dX4_writeShort_17 : decode cX4_writeShort 17 = .ok (.getfield 161, 3) := dk_180 0 161 (dk_at dksX4_writeShort_0 17 rfl rfl)
theorem dX4_writeShort_20 : decode cX4_writeShort 20 = .ok (.if_icmp .ge 29, 3) := dk_162 0 29 (dk_at dksX4_writeShort_0 20 rfl rfl)
theorem dX4_writeShort_23 : decode cX4_writeShort 23 = .ok (.aload_n 0, 1) := dk_42 (dk_at dksX4_writeShort_0 23 rfl rfl)
theorem dX4_writeShort_24 : decode cX4_writeShort 24 = .ok (.getfield 33, 3) := dk_180 0 33 (dk_at dksX4_writeShort_1 0 rfl rfl)
theorem dX4_writeShort_27 : decode cX4_writeShort 27 = .ok (.iload_n 1, 1) := dk_27 (dk_at dksX4_writeShort_1 3 rfl rfl)
theorem dX4_writeShort_28 : decode cX4_writeShort 28 = .ok (.iaload, 1) := dk_46 (dk_at dksX4_writeShort_1 4 rfl rfl)
theorem dX4_writeShort_29 : decode cX4_writeShort 29 = .ok (.bipush 40, 2) := dk_16 40 (dk_at dksX4_writeShort_1 5 rfl rfl)
theorem dX4_writeShort_31 : decode cX4_writeShort 31 = .ok (.if_icmp .ne 12, 3) := dk_160 0 12 (dk_at dksX4_writeShort_1 7 rfl rfl)
theorem dX4_writeShort_34 : decode cX4_writeShort 34 = .ok (.aload_n 0, 1) := dk_42 (dk_at dksX4_writeShort_1 10 rfl rfl)
theorem dX4_writeShort_35 : decode cX4_writeShort 35 = .ok (.iload_n 1, 1) := dk_27 (dk_at dksX4_writeShort_1 11 rfl rfl)
theorem dX4_writeShort_36 : decode cX4_writeShort 36 = .ok (.iconst 1, 1) := dk_4 (dk_at dksX4_writeShort_1 12 rfl rfl)
theorem dX4_writeShort_37 : decode cX4_writeShort 37 = .ok (.invokevirtual 216, 3) := dk_182 0 216 (dk_at dksX4_writeShort_1 13 rfl rfl)
theorem dX4_writeShort_40 : decode cX4_writeShort 40 = .ok (.ifCond .ne (-25), 3) := dk_154 255 231 (dk_at dksX4_writeShort_1 16 rfl rfl)
theorem dX4_writeShort_43 : decode cX4_writeShort 43 = .ok (.iinc 1 1, 3) := dk_132 1 1 (dk_at dksX4_writeShort_1 19 rfl rfl)
theorem dX4_writeShort_46 : decode cX4_writeShort 46 = .ok (.goto (-31), 3) := dk_167 255 225 (dk_at dksX4_writeShort_2 0 rfl rfl)
theorem dX4_writeShort_49 : decode cX4_writeShort 49 = .ok (.aload_n 0, 1) := dk_42 (dk_at dksX4_writeShort_2 3 rfl rfl)
theorem dX4_writeShort_50 : decode cX4_writeShort 50 = .ok (.iconst 0, 1) := dk_3 (dk_at dksX4_writeShort_2 4 rfl rfl)
theorem dX4_writeShort_51 : decode cX4_writeShort 51 = .ok (.putfield 329, 3) := dk_181 1 73 (dk_at dksX4_writeShort_2 5 rfl rfl)
theorem dX4_writeShort_54 : decode cX4_writeShort 54 = .ok (.iconst 0, 1) := dk_3 (dk_at dksX4_writeShort_2 8 rfl rfl)
theorem dX4_writeShort_55 : decode cX4_writeShort 55 = .ok (.istore_n 2, 1) := dk_61 (dk_at dksX4_writeShort_2 9 rfl rfl)
theorem dX4_writeShort_56 : decode cX4_writeShort 56 = .ok (.iload_n 2, 1) := dk_28 (dk_at dksX4_writeShort_2 10 rfl rfl)
theorem dX4_writeShort_57 : decode cX4_writeShort 57 = .ok (.aload_n 0, 1) := dk_42 (dk_at dksX4_writeShort_2 11 rfl rfl)
theorem dX4_writeShort_58 : decode cX4_writeShort 58 = .ok (.getfield 161, 3) := dk_180 0 161 (dk_at dksX4_writeShort_2 12 rfl rfl)
theorem dX4_writeShort_61 : decode cX4_writeShort 61 = .ok (.if_icmp .ge 19, 3) := dk_162 0 19 (dk_at dksX4_writeShort_2 15 rfl rfl)
theorem dX4_writeShort_64 : decode cX4_writeShort 64 = .ok (.aload_n 0, 1) := dk_42 (dk_at dksX4_writeShort_2 18 rfl rfl)
theorem dX4_writeShort_65 : decode cX4_writeShort 65 = .ok (.aload_n 0, 1) := dk_42 (dk_at dksX4_writeShort_2 19 rfl rfl)
theorem dX4_writeShort_66 : decode cX4_writeShort 66 = .ok (.getfield 33, 3) := dk_180 0 33 (dk_at dksX4_writeShort_2 20 rfl rfl)
theorem dX4_writeShort_69 : decode cX4_writeShort 69 = .ok (.iload_n 2, 1) := dk_28 (dk_at dksX4_writeShort_2 23 rfl rfl)
theorem dX4_writeShort_70 : decode cX4_writeShort 70 = .ok (.iaload, 1) := dk_46 (dk_at dksX4_writeShort_3 0 rfl rfl)
theorem dX4_writeShort_71 : decode cX4_writeShort 71 = .ok (.invokevirtual 335, 3) := dk_182 1 79 (dk_at dksX4_writeShort_3 1 rfl rfl)
theorem dX4_writeShort_74 : decode cX4_writeShort 74 = .ok (.iinc 2 1, 3) := dk_132 2 1 (dk_at dksX4_writeShort_3 4 rfl rfl)
theorem dX4_writeShort_77 : decode cX4_writeShort 77 = .ok (.goto (-21), 3) := dk_167 255 235 (dk_at dksX4_writeShort_3 7 rfl rfl)
theorem dX4_writeShort_80 : decode cX4_writeShort 80 = .ok (.aload_n 0, 1) := dk_42 (dk_at dksX4_writeShort_3 10 rfl rfl)
theorem dX4_writeShort_81 : decode cX4_writeShort 81 = .ok (.getfield 329, 3) := dk_180 1 73 (dk_at dksX4_writeShort_3 11 rfl rfl)
theorem dX4_writeShort_84 : decode cX4_writeShort 84 = .ok (.ireturn, 1) := dk_172 (dk_at dksX4_writeShort_3 14 rfl rfl)
abbrev cX4_lineCharacter : ByteArray := prog_22_method_92_code
def yX4_lineCharacter : MethodName := ⟨RX4, "lineCharacter", "(I)C"⟩
def dkwX4_lineCharacter_1 : List UInt8 := [153, 0, 8, 16, 32, 167, 0, 9, 42, 180, 0, 29, 27, 52, 172]
abbrev dktX4_lineCharacter_1 : List UInt8 := dkwX4_lineCharacter_1 ++ []
def dkwX4_lineCharacter_0 : List UInt8 := [42, 27, 3, 42, 180, 1, 73, 4, 100, 184, 0, 103, 153, 0, 7, 3, 167, 0, 4, 4, 182, 0, 123]
abbrev dktX4_lineCharacter_0 : List UInt8 := dkwX4_lineCharacter_0 ++ dktX4_lineCharacter_1
theorem dksX4_lineCharacter_0 : cX4_lineCharacter.data.toList.drop 0 = dktX4_lineCharacter_0 := by decide +kernel
theorem dksX4_lineCharacter_1 : cX4_lineCharacter.data.toList.drop 23 = dktX4_lineCharacter_1 := dk_seg dksX4_lineCharacter_0 23 rfl rfl
theorem dX4_lineCharacter_0 : decode cX4_lineCharacter 0 = .ok (.aload_n 0, 1) := dk_42 (dk_at dksX4_lineCharacter_0 0 rfl rfl)
theorem dX4_lineCharacter_1 : decode cX4_lineCharacter 1 = .ok (.iload_n 1, 1) := dk_27 (dk_at dksX4_lineCharacter_0 1 rfl rfl)
theorem dX4_lineCharacter_2 : decode cX4_lineCharacter 2 = .ok (.iconst 0, 1) := dk_3 (dk_at dksX4_lineCharacter_0 2 rfl rfl)
theorem dX4_lineCharacter_3 : decode cX4_lineCharacter 3 = .ok (.aload_n 0, 1) := dk_42 (dk_at dksX4_lineCharacter_0 3 rfl rfl)
theorem dX4_lineCharacter_4 : decode cX4_lineCharacter 4 = .ok (.getfield 329, 3) := dk_180 1 73 (dk_at dksX4_lineCharacter_0 4 rfl rfl)
theorem dX4_lineCharacter_7 : decode cX4_lineCharacter 7 = .ok (.iconst 1, 1) := dk_4 (dk_at dksX4_lineCharacter_0 7 rfl rfl)
theorem dX4_lineCharacter_8 : decode cX4_lineCharacter 8 = .ok (.isub, 1) := dk_100 (dk_at dksX4_lineCharacter_0 8 rfl rfl)
theorem dX4_lineCharacter_9 : decode cX4_lineCharacter 9 = .ok (.invokestatic 103, 3) := dk_184 0 103 (dk_at dksX4_lineCharacter_0 9 rfl rfl)
theorem dX4_lineCharacter_12 : decode cX4_lineCharacter 12 = .ok (.ifCond .eq 7, 3) := dk_153 0 7 (dk_at dksX4_lineCharacter_0 12 rfl rfl)
theorem dX4_lineCharacter_15 : decode cX4_lineCharacter 15 = .ok (.iconst 0, 1) := dk_3 (dk_at dksX4_lineCharacter_0 15 rfl rfl)
theorem dX4_lineCharacter_16 : decode cX4_lineCharacter 16 = .ok (.goto 4, 3) := dk_167 0 4 (dk_at dksX4_lineCharacter_0 16 rfl rfl)
theorem dX4_lineCharacter_19 : decode cX4_lineCharacter 19 = .ok (.iconst 1, 1) := dk_4 (dk_at dksX4_lineCharacter_0 19 rfl rfl)
theorem dX4_lineCharacter_20 : decode cX4_lineCharacter 20 = .ok (.invokevirtual 123, 3) := dk_182 0 123 (dk_at dksX4_lineCharacter_0 20 rfl rfl)
theorem dX4_lineCharacter_23 : decode cX4_lineCharacter 23 = .ok (.ifCond .eq 8, 3) := dk_153 0 8 (dk_at dksX4_lineCharacter_1 0 rfl rfl)
theorem dX4_lineCharacter_26 : decode cX4_lineCharacter 26 = .ok (.bipush 32, 2) := dk_16 32 (dk_at dksX4_lineCharacter_1 3 rfl rfl)
theorem dX4_lineCharacter_28 : decode cX4_lineCharacter 28 = .ok (.goto 9, 3) := dk_167 0 9 (dk_at dksX4_lineCharacter_1 5 rfl rfl)
theorem dX4_lineCharacter_31 : decode cX4_lineCharacter 31 = .ok (.aload_n 0, 1) := dk_42 (dk_at dksX4_lineCharacter_1 8 rfl rfl)
theorem dX4_lineCharacter_32 : decode cX4_lineCharacter 32 = .ok (.getfield 29, 3) := dk_180 0 29 (dk_at dksX4_lineCharacter_1 9 rfl rfl)
theorem dX4_lineCharacter_35 : decode cX4_lineCharacter 35 = .ok (.iload_n 1, 1) := dk_27 (dk_at dksX4_lineCharacter_1 12 rfl rfl)
theorem dX4_lineCharacter_36 : decode cX4_lineCharacter 36 = .ok (.caload, 1) := dk_52 (dk_at dksX4_lineCharacter_1 13 rfl rfl)
theorem dX4_lineCharacter_37 : decode cX4_lineCharacter 37 = .ok (.ireturn, 1) := dk_172 (dk_at dksX4_lineCharacter_1 14 rfl rfl)
abbrev cX4_denial : ByteArray := prog_22_method_93_code
def yX4_denial : MethodName := ⟨RX4, "denial", "()I"⟩
def dkwX4_denial_1 : List UInt8 := [180, 0, 80, 172]
abbrev dktX4_denial_1 : List UInt8 := dkwX4_denial_1 ++ []
def dkwX4_denial_0 : List UInt8 := [42, 42, 180, 0, 80, 154, 0, 7, 4, 167, 0, 4, 3, 182, 0, 123, 153, 0, 7, 3, 167, 0, 7, 42]
abbrev dktX4_denial_0 : List UInt8 := dkwX4_denial_0 ++ dktX4_denial_1
theorem dksX4_denial_0 : cX4_denial.data.toList.drop 0 = dktX4_denial_0 := by decide +kernel
theorem dksX4_denial_1 : cX4_denial.data.toList.drop 24 = dktX4_denial_1 := dk_seg dksX4_denial_0 24 rfl rfl
theorem dX4_denial_0 : decode cX4_denial 0 = .ok (.aload_n 0, 1) := dk_42 (dk_at dksX4_denial_0 0 rfl rfl)
theorem dX4_denial_1 : decode cX4_denial 1 = .ok (.aload_n 0, 1) := dk_42 (dk_at dksX4_denial_0 1 rfl rfl)
theorem dX4_denial_2 : decode cX4_denial 2 = .ok (.getfield 80, 3) := dk_180 0 80 (dk_at dksX4_denial_0 2 rfl rfl)
theorem dX4_denial_5 : decode cX4_denial 5 = .ok (.ifCond .ne 7, 3) := dk_154 0 7 (dk_at dksX4_denial_0 5 rfl rfl)
theorem dX4_denial_8 : decode cX4_denial 8 = .ok (.iconst 1, 1) := dk_4 (dk_at dksX4_denial_0 8 rfl rfl)
theorem dX4_denial_9 : decode cX4_denial 9 = .ok (.goto 4, 3) := dk_167 0 4 (dk_at dksX4_denial_0 9 rfl rfl)
theorem dX4_denial_12 : decode cX4_denial 12 = .ok (.iconst 0, 1) := dk_3 (dk_at dksX4_denial_0 12 rfl rfl)
theorem dX4_denial_13 : decode cX4_denial 13 = .ok (.invokevirtual 123, 3) := dk_182 0 123 (dk_at dksX4_denial_0 13 rfl rfl)
theorem dX4_denial_16 : decode cX4_denial 16 = .ok (.ifCond .eq 7, 3) := dk_153 0 7 (dk_at dksX4_denial_0 16 rfl rfl)
theorem dX4_denial_19 : decode cX4_denial 19 = .ok (.iconst 0, 1) := dk_3 (dk_at dksX4_denial_0 19 rfl rfl)
theorem dX4_denial_20 : decode cX4_denial 20 = .ok (.goto 7, 3) := dk_167 0 7 (dk_at dksX4_denial_0 20 rfl rfl)
theorem dX4_denial_23 : decode cX4_denial 23 = .ok (.aload_n 0, 1) := dk_42 (dk_at dksX4_denial_0 23 rfl rfl)
theorem dX4_denial_24 : decode cX4_denial 24 = .ok (.getfield 80, 3) := dk_180 0 80 (dk_at dksX4_denial_1 0 rfl rfl)
theorem dX4_denial_27 : decode cX4_denial 27 = .ok (.ireturn, 1) := dk_172 (dk_at dksX4_denial_1 3 rfl rfl)
abbrev cX4_denialDetail : ByteArray := prog_22_method_94_code
def yX4_denialDetail : MethodName := ⟨RX4, "denialDetail", "()I"⟩
def dkwX4_denialDetail_1 : List UInt8 := [180, 0, 83, 172]
abbrev dktX4_denialDetail_1 : List UInt8 := dkwX4_denialDetail_1 ++ []
def dkwX4_denialDetail_0 : List UInt8 := [42, 42, 180, 0, 80, 154, 0, 7, 4, 167, 0, 4, 3, 182, 0, 123, 153, 0, 7, 3, 167, 0, 7, 42]
abbrev dktX4_denialDetail_0 : List UInt8 := dkwX4_denialDetail_0 ++ dktX4_denialDetail_1
theorem dksX4_denialDetail_0 : cX4_denialDetail.data.toList.drop 0 = dktX4_denialDetail_0 := by decide +kernel
theorem dksX4_denialDetail_1 : cX4_denialDetail.data.toList.drop 24 = dktX4_denialDetail_1 := dk_seg dksX4_denialDetail_0 24 rfl rfl
theorem dX4_denialDetail_0 : decode cX4_denialDetail 0 = .ok (.aload_n 0, 1) := dk_42 (dk_at dksX4_denialDetail_0 0 rfl rfl)
theorem dX4_denialDetail_1 : decode cX4_denialDetail 1 = .ok (.aload_n 0, 1) := dk_42 (dk_at dksX4_denialDetail_0 1 rfl rfl)
theorem dX4_denialDetail_2 : decode cX4_denialDetail 2 = .ok (.getfield 80, 3) := dk_180 0 80 (dk_at dksX4_denialDetail_0 2 rfl rfl)
theorem dX4_denialDetail_5 : decode cX4_denialDetail 5 = .ok (.ifCond .ne 7, 3) := dk_154 0 7 (dk_at dksX4_denialDetail_0 5 rfl rfl)
theorem dX4_denialDetail_8 : decode cX4_denialDetail 8 = .ok (.iconst 1, 1) := dk_4 (dk_at dksX4_denialDetail_0 8 rfl rfl)
theorem dX4_denialDetail_9 : decode cX4_denialDetail 9 = .ok (.goto 4, 3) := dk_167 0 4 (dk_at dksX4_denialDetail_0 9 rfl rfl)
theorem dX4_denialDetail_12 : decode cX4_denialDetail 12 = .ok (.iconst 0, 1) := dk_3 (dk_at dksX4_denialDetail_0 12 rfl rfl)
theorem dX4_denialDetail_13 : decode cX4_denialDetail 13 = .ok (.invokevirtual 123, 3) := dk_182 0 123 (dk_at dksX4_denialDetail_0 13 rfl rfl)
theorem dX4_denialDetail_16 : decode cX4_denialDetail 16 = .ok (.ifCond .eq 7, 3) := dk_153 0 7 (dk_at dksX4_denialDetail_0 16 rfl rfl)
theorem dX4_denialDetail_19 : decode cX4_denialDetail 19 = .ok (.iconst 0, 1) := dk_3 (dk_at dksX4_denialDetail_0 19 rfl rfl)
theorem dX4_denialDetail_20 : decode cX4_denialDetail 20 = .ok (.goto 7, 3) := dk_167 0 7 (dk_at dksX4_denialDetail_0 20 rfl rfl)
theorem dX4_denialDetail_23 : decode cX4_denialDetail 23 = .ok (.aload_n 0, 1) := dk_42 (dk_at dksX4_denialDetail_0 23 rfl rfl)
theorem dX4_denialDetail_24 : decode cX4_denialDetail 24 = .ok (.getfield 83, 3) := dk_180 0 83 (dk_at dksX4_denialDetail_1 0 rfl rfl)
theorem dX4_denialDetail_27 : decode cX4_denialDetail 27 = .ok (.ireturn, 1) := dk_172 (dk_at dksX4_denialDetail_1 3 rfl rfl)
abbrev cX4_denialCause : ByteArray := prog_22_method_95_code
def yX4_denialCause : MethodName := ⟨RX4, "denialCause", "()I"⟩
def dkwX4_denialCause_1 : List UInt8 := [180, 0, 86, 172]
abbrev dktX4_denialCause_1 : List UInt8 := dkwX4_denialCause_1 ++ []
def dkwX4_denialCause_0 : List UInt8 := [42, 42, 180, 0, 86, 154, 0, 7, 4, 167, 0, 4, 3, 182, 0, 123, 153, 0, 7, 3, 167, 0, 7, 42]
abbrev dktX4_denialCause_0 : List UInt8 := dkwX4_denialCause_0 ++ dktX4_denialCause_1
theorem dksX4_denialCause_0 : cX4_denialCause.data.toList.drop 0 = dktX4_denialCause_0 := by decide +kernel
theorem dksX4_denialCause_1 : cX4_denialCause.data.toList.drop 24 = dktX4_denialCause_1 := dk_seg dksX4_denialCause_0 24 rfl rfl
theorem dX4_denialCause_0 : decode cX4_denialCause 0 = .ok (.aload_n 0, 1) := dk_42 (dk_at dksX4_denialCause_0 0 rfl rfl)
theorem dX4_denialCause_1 : decode cX4_denialCause 1 = .ok (.aload_n 0, 1) := dk_42 (dk_at dksX4_denialCause_0 1 rfl rfl)
theorem dX4_denialCause_2 : decode cX4_denialCause 2 = .ok (.getfield 86, 3) := dk_180 0 86 (dk_at dksX4_denialCause_0 2 rfl rfl)
theorem dX4_denialCause_5 : decode cX4_denialCause 5 = .ok (.ifCond .ne 7, 3) := dk_154 0 7 (dk_at dksX4_denialCause_0 5 rfl rfl)
theorem dX4_denialCause_8 : decode cX4_denialCause 8 = .ok (.iconst 1, 1) := dk_4 (dk_at dksX4_denialCause_0 8 rfl rfl)
theorem dX4_denialCause_9 : decode cX4_denialCause 9 = .ok (.goto 4, 3) := dk_167 0 4 (dk_at dksX4_denialCause_0 9 rfl rfl)
theorem dX4_denialCause_12 : decode cX4_denialCause 12 = .ok (.iconst 0, 1) := dk_3 (dk_at dksX4_denialCause_0 12 rfl rfl)
theorem dX4_denialCause_13 : decode cX4_denialCause 13 = .ok (.invokevirtual 123, 3) := dk_182 0 123 (dk_at dksX4_denialCause_0 13 rfl rfl)
theorem dX4_denialCause_16 : decode cX4_denialCause 16 = .ok (.ifCond .eq 7, 3) := dk_153 0 7 (dk_at dksX4_denialCause_0 16 rfl rfl)
theorem dX4_denialCause_19 : decode cX4_denialCause 19 = .ok (.iconst 0, 1) := dk_3 (dk_at dksX4_denialCause_0 19 rfl rfl)
theorem dX4_denialCause_20 : decode cX4_denialCause 20 = .ok (.goto 7, 3) := dk_167 0 7 (dk_at dksX4_denialCause_0 20 rfl rfl)
theorem dX4_denialCause_23 : decode cX4_denialCause 23 = .ok (.aload_n 0, 1) := dk_42 (dk_at dksX4_denialCause_0 23 rfl rfl)
theorem dX4_denialCause_24 : decode cX4_denialCause 24 = .ok (.getfield 86, 3) := dk_180 0 86 (dk_at dksX4_denialCause_1 0 rfl rfl)
theorem dX4_denialCause_27 : decode cX4_denialCause 27 = .ok (.ireturn, 1) := dk_172 (dk_at dksX4_denialCause_1 3 rfl rfl)
abbrev cX4_undo : ByteArray := prog_22_method_96_code
def yX4_undo : MethodName := ⟨RX4, "undo", "()I"⟩
def dkwX4_undo_2 : List UInt8 := [184, 0, 95, 42, 180, 0, 92, 172]
abbrev dktX4_undo_2 : List UInt8 := dkwX4_undo_2 ++ []
def dkwX4_undo_1 : List UInt8 := [180, 0, 92, 4, 100, 181, 0, 92, 42, 180, 0, 13, 16, 44, 42, 180, 0, 92, 104, 42, 180, 0, 7, 3]
abbrev dktX4_undo_1 : List UInt8 := dkwX4_undo_1 ++ dktX4_undo_2
def dkwX4_undo_0 : List UInt8 := [42, 42, 180, 0, 92, 154, 0, 7, 4, 167, 0, 4, 3, 182, 0, 123, 153, 0, 5, 3, 172, 42, 89]
abbrev dktX4_undo_0 : List UInt8 := dkwX4_undo_0 ++ dktX4_undo_1
theorem dksX4_undo_0 : cX4_undo.data.toList.drop 0 = dktX4_undo_0 := by decide +kernel
theorem dksX4_undo_1 : cX4_undo.data.toList.drop 23 = dktX4_undo_1 := dk_seg dksX4_undo_0 23 rfl rfl
theorem dksX4_undo_2 : cX4_undo.data.toList.drop 47 = dktX4_undo_2 := dk_seg dksX4_undo_1 24 rfl rfl
theorem dX4_undo_0 : decode cX4_undo 0 = .ok (.aload_n 0, 1) := dk_42 (dk_at dksX4_undo_0 0 rfl rfl)
theorem dX4_undo_1 : decode cX4_undo 1 = .ok (.aload_n 0, 1) := dk_42 (dk_at dksX4_undo_0 1 rfl rfl)
theorem dX4_undo_2 : decode cX4_undo 2 = .ok (.getfield 92, 3) := dk_180 0 92 (dk_at dksX4_undo_0 2 rfl rfl)
theorem dX4_undo_5 : decode cX4_undo 5 = .ok (.ifCond .ne 7, 3) := dk_154 0 7 (dk_at dksX4_undo_0 5 rfl rfl)
theorem dX4_undo_8 : decode cX4_undo 8 = .ok (.iconst 1, 1) := dk_4 (dk_at dksX4_undo_0 8 rfl rfl)
theorem dX4_undo_9 : decode cX4_undo 9 = .ok (.goto 4, 3) := dk_167 0 4 (dk_at dksX4_undo_0 9 rfl rfl)
theorem dX4_undo_12 : decode cX4_undo 12 = .ok (.iconst 0, 1) := dk_3 (dk_at dksX4_undo_0 12 rfl rfl)
theorem dX4_undo_13 : decode cX4_undo 13 = .ok (.invokevirtual 123, 3) := dk_182 0 123 (dk_at dksX4_undo_0 13 rfl rfl)
theorem dX4_undo_16 : decode cX4_undo 16 = .ok (.ifCond .eq 5, 3) := dk_153 0 5 (dk_at dksX4_undo_0 16 rfl rfl)
theorem dX4_undo_19 : decode cX4_undo 19 = .ok (.iconst 0, 1) := dk_3 (dk_at dksX4_undo_0 19 rfl rfl)
theorem dX4_undo_20 : decode cX4_undo 20 = .ok (.ireturn, 1) := dk_172 (dk_at dksX4_undo_0 20 rfl rfl)
theorem dX4_undo_21 : decode cX4_undo 21 = .ok (.aload_n 0, 1) := dk_42 (dk_at dksX4_undo_0 21 rfl rfl)
theorem dX4_undo_22 : decode cX4_undo 22 = .ok (.dup, 1) := dk_89 (dk_at dksX4_undo_0 22 rfl rfl)
theorem dX4_undo_23 : decode cX4_undo 23 = .ok (.getfield 92, 3) := dk_180 0 92 (dk_at dksX4_undo_1 0 rfl rfl)
theorem dX4_undo_26 : decode cX4_undo 26 = .ok (.iconst 1, 1) := dk_4 (dk_at dksX4_undo_1 3 rfl rfl)
theorem dX4_undo_27 : decode cX4_undo 27 = .ok (.isub, 1) := dk_100 (dk_at dksX4_undo_1 4 rfl rfl)
theorem dX4_undo_28 : decode cX4_undo 28 = .ok (.putfield 92, 3) := dk_181 0 92 (dk_at dksX4_undo_1 5 rfl rfl)
theorem dX4_undo_31 : decode cX4_undo 31 = .ok (.aload_n 0, 1) := dk_42 (dk_at dksX4_undo_1 8 rfl rfl)
theorem dX4_undo_32 : decode cX4_undo 32 = .ok (.getfield 13, 3) := dk_180 0 13 (dk_at dksX4_undo_1 9 rfl rfl)
theorem dX4_undo_35 : decode cX4_undo 35 = .ok (.bipush 44, 2) := dk_16 44 (dk_at dksX4_undo_1 12 rfl rfl)
theorem dX4_undo_37 : decode cX4_undo 37 = .ok (.aload_n 0, 1) := dk_42 (dk_at dksX4_undo_1 14 rfl rfl)
theorem dX4_undo_38 : decode cX4_undo 38 = .ok (.getfield 92, 3) := dk_180 0 92 (dk_at dksX4_undo_1 15 rfl rfl)
theorem dX4_undo_41 : decode cX4_undo 41 = .ok (.imul, 1) := dk_104 (dk_at dksX4_undo_1 18 rfl rfl)
theorem dX4_undo_42 : decode cX4_undo 42 = .ok (.aload_n 0, 1) := dk_42 (dk_at dksX4_undo_1 19 rfl rfl)
theorem dX4_undo_43 : decode cX4_undo 43 = .ok (.getfield 7, 3) := dk_180 0 7 (dk_at dksX4_undo_1 20 rfl rfl)
theorem dX4_undo_46 : decode cX4_undo 46 = .ok (.iconst 0, 1) := dk_3 (dk_at dksX4_undo_1 23 rfl rfl)
theorem dX4_undo_47 : decode cX4_undo 47 = .ok (.invokestatic 95, 3) := dk_184 0 95 (dk_at dksX4_undo_2 0 rfl rfl)
theorem dX4_undo_50 : decode cX4_undo 50 = .ok (.aload_n 0, 1) := dk_42 (dk_at dksX4_undo_2 3 rfl rfl)
theorem dX4_undo_51 : decode cX4_undo 51 = .ok (.getfield 92, 3) := dk_180 0 92 (dk_at dksX4_undo_2 4 rfl rfl)
theorem dX4_undo_54 : decode cX4_undo 54 = .ok (.ireturn, 1) := dk_172 (dk_at dksX4_undo_2 7 rfl rfl)
abbrev cX4_undoCount : ByteArray := prog_22_method_97_code
def yX4_undoCount : MethodName := ⟨RX4, "undoCount", "()I"⟩
def dkwX4_undoCount_0 : List UInt8 := [42, 3, 181, 0, 73, 42, 180, 0, 92, 172]
abbrev dktX4_undoCount_0 : List UInt8 := dkwX4_undoCount_0 ++ []
theorem dksX4_undoCount_0 : cX4_undoCount.data.toList.drop 0 = dktX4_undoCount_0 := by decide +kernel
theorem dX4_undoCount_0 : decode cX4_undoCount 0 = .ok (.aload_n 0, 1) := dk_42 (dk_at dksX4_undoCount_0 0 rfl rfl)
theorem dX4_undoCount_1 : decode cX4_undoCount 1 = .ok (.iconst 0, 1) := dk_3 (dk_at dksX4_undoCount_0 1 rfl rfl)
theorem dX4_undoCount_2 : decode cX4_undoCount 2 = .ok (.putfield 73, 3) := dk_181 0 73 (dk_at dksX4_undoCount_0 2 rfl rfl)
theorem dX4_undoCount_5 : decode cX4_undoCount 5 = .ok (.aload_n 0, 1) := dk_42 (dk_at dksX4_undoCount_0 5 rfl rfl)
theorem dX4_undoCount_6 : decode cX4_undoCount 6 = .ok (.getfield 92, 3) := dk_180 0 92 (dk_at dksX4_undoCount_0 6 rfl rfl)
theorem dX4_undoCount_9 : decode cX4_undoCount 9 = .ok (.ireturn, 1) := dk_172 (dk_at dksX4_undoCount_0 9 rfl rfl)
abbrev cX4_saveSnapshot : ByteArray := prog_22_method_98_code
def yX4_saveSnapshot : MethodName := ⟨RX4, "saveSnapshot", "()I"⟩
def dkwX4_saveSnapshot_1 : List UInt8 := [180, 0, 7, 3, 46, 172]
abbrev dktX4_saveSnapshot_1 : List UInt8 := dkwX4_saveSnapshot_1 ++ []
def dkwX4_saveSnapshot_0 : List UInt8 := [42, 3, 181, 0, 73, 42, 4, 181, 1, 82, 42, 180, 0, 7, 3, 42, 180, 0, 16, 3, 184, 0, 95, 42]
abbrev dktX4_saveSnapshot_0 : List UInt8 := dkwX4_saveSnapshot_0 ++ dktX4_saveSnapshot_1
theorem dksX4_saveSnapshot_0 : cX4_saveSnapshot.data.toList.drop 0 = dktX4_saveSnapshot_0 := by decide +kernel
theorem dksX4_saveSnapshot_1 : cX4_saveSnapshot.data.toList.drop 24 = dktX4_saveSnapshot_1 := dk_seg dksX4_saveSnapshot_0 24 rfl rfl
theorem dX4_saveSnapshot_0 : decode cX4_saveSnapshot 0 = .ok (.aload_n 0, 1) := dk_42 (dk_at dksX4_saveSnapshot_0 0 rfl rfl)
theorem dX4_saveSnapshot_1 : decode cX4_saveSnapshot 1 = .ok (.iconst 0, 1) := dk_3 (dk_at dksX4_saveSnapshot_0 1 rfl rfl)
theorem dX4_saveSnapshot_2 : decode cX4_saveSnapshot 2 = .ok (.putfield 73, 3) := dk_181 0 73 (dk_at dksX4_saveSnapshot_0 2 rfl rfl)
theorem dX4_saveSnapshot_5 : decode cX4_saveSnapshot 5 = .ok (.aload_n 0, 1) := dk_42 (dk_at dksX4_saveSnapshot_0 5 rfl rfl)
theorem dX4_saveSnapshot_6 : decode cX4_saveSnapshot 6 = .ok (.iconst 1, 1) := dk_4 (dk_at dksX4_saveSnapshot_0 6 rfl rfl)
theorem dX4_saveSnapshot_7 : decode cX4_saveSnapshot 7 = .ok (.putfield 338, 3) := dk_181 1 82 (dk_at dksX4_saveSnapshot_0 7 rfl rfl)
theorem dX4_saveSnapshot_10 : decode cX4_saveSnapshot 10 = .ok (.aload_n 0, 1) := dk_42 (dk_at dksX4_saveSnapshot_0 10 rfl rfl)
theorem dX4_saveSnapshot_11 : decode cX4_saveSnapshot 11 = .ok (.getfield 7, 3) := dk_180 0 7 (dk_at dksX4_saveSnapshot_0 11 rfl rfl)
theorem dX4_saveSnapshot_14 : decode cX4_saveSnapshot 14 = .ok (.iconst 0, 1) := dk_3 (dk_at dksX4_saveSnapshot_0 14 rfl rfl)
theorem dX4_saveSnapshot_15 : decode cX4_saveSnapshot 15 = .ok (.aload_n 0, 1) := dk_42 (dk_at dksX4_saveSnapshot_0 15 rfl rfl)
theorem dX4_saveSnapshot_16 : decode cX4_saveSnapshot 16 = .ok (.getfield 16, 3) := dk_180 0 16 (dk_at dksX4_saveSnapshot_0 16 rfl rfl)
theorem dX4_saveSnapshot_19 : decode cX4_saveSnapshot 19 = .ok (.iconst 0, 1) := dk_3 (dk_at dksX4_saveSnapshot_0 19 rfl rfl)
theorem dX4_saveSnapshot_20 : decode cX4_saveSnapshot 20 = .ok (.invokestatic 95, 3) := dk_184 0 95 (dk_at dksX4_saveSnapshot_0 20 rfl rfl)
theorem dX4_saveSnapshot_23 : decode cX4_saveSnapshot 23 = .ok (.aload_n 0, 1) := dk_42 (dk_at dksX4_saveSnapshot_0 23 rfl rfl)
theorem dX4_saveSnapshot_24 : decode cX4_saveSnapshot 24 = .ok (.getfield 7, 3) := dk_180 0 7 (dk_at dksX4_saveSnapshot_1 0 rfl rfl)
theorem dX4_saveSnapshot_27 : decode cX4_saveSnapshot 27 = .ok (.iconst 0, 1) := dk_3 (dk_at dksX4_saveSnapshot_1 3 rfl rfl)
theorem dX4_saveSnapshot_28 : decode cX4_saveSnapshot 28 = .ok (.iaload, 1) := dk_46 (dk_at dksX4_saveSnapshot_1 4 rfl rfl)
theorem dX4_saveSnapshot_29 : decode cX4_saveSnapshot 29 = .ok (.ireturn, 1) := dk_172 (dk_at dksX4_saveSnapshot_1 5 rfl rfl)
abbrev cX4_restoreSnapshot : ByteArray := prog_22_method_99_code
def yX4_restoreSnapshot : MethodName := ⟨RX4, "restoreSnapshot", "()I"⟩
def dkwX4_restoreSnapshot_1 : List UInt8 := [180, 0, 16, 3, 42, 180, 0, 7, 3, 184, 0, 95, 42, 3, 181, 0, 92, 42, 180, 0, 7, 3, 46, 172]
abbrev dktX4_restoreSnapshot_1 : List UInt8 := dkwX4_restoreSnapshot_1 ++ []
def dkwX4_restoreSnapshot_0 : List UInt8 := [42, 42, 180, 1, 82, 153, 0, 7, 3, 167, 0, 4, 4, 182, 0, 123, 153, 0, 5, 3, 172, 42]
abbrev dktX4_restoreSnapshot_0 : List UInt8 := dkwX4_restoreSnapshot_0 ++ dktX4_restoreSnapshot_1
theorem dksX4_restoreSnapshot_0 : cX4_restoreSnapshot.data.toList.drop 0 = dktX4_restoreSnapshot_0 := by decide +kernel
theorem dksX4_restoreSnapshot_1 : cX4_restoreSnapshot.data.toList.drop 22 = dktX4_restoreSnapshot_1 := dk_seg dksX4_restoreSnapshot_0 22 rfl rfl
theorem dX4_restoreSnapshot_0 : decode cX4_restoreSnapshot 0 = .ok (.aload_n 0, 1) := dk_42 (dk_at dksX4_restoreSnapshot_0 0 rfl rfl)
theorem dX4_restoreSnapshot_1 : decode cX4_restoreSnapshot 1 = .ok (.aload_n 0, 1) := dk_42 (dk_at dksX4_restoreSnapshot_0 1 rfl rfl)
theorem dX4_restoreSnapshot_2 : decode cX4_restoreSnapshot 2 = .ok (.getfield 338, 3) := dk_180 1 82 (dk_at dksX4_restoreSnapshot_0 2 rfl rfl)
theorem dX4_restoreSnapshot_5 : decode cX4_restoreSnapshot 5 = .ok (.ifCond .eq 7, 3) := dk_153 0 7 (dk_at dksX4_restoreSnapshot_0 5 rfl rfl)
theorem dX4_restoreSnapshot_8 : decode cX4_restoreSnapshot 8 = .ok (.iconst 0, 1) := dk_3 (dk_at dksX4_restoreSnapshot_0 8 rfl rfl)
theorem dX4_restoreSnapshot_9 : decode cX4_restoreSnapshot 9 = .ok (.goto 4, 3) := dk_167 0 4 (dk_at dksX4_restoreSnapshot_0 9 rfl rfl)
theorem dX4_restoreSnapshot_12 : decode cX4_restoreSnapshot 12 = .ok (.iconst 1, 1) := dk_4 (dk_at dksX4_restoreSnapshot_0 12 rfl rfl)
theorem dX4_restoreSnapshot_13 : decode cX4_restoreSnapshot 13 = .ok (.invokevirtual 123, 3) := dk_182 0 123 (dk_at dksX4_restoreSnapshot_0 13 rfl rfl)
theorem dX4_restoreSnapshot_16 : decode cX4_restoreSnapshot 16 = .ok (.ifCond .eq 5, 3) := dk_153 0 5 (dk_at dksX4_restoreSnapshot_0 16 rfl rfl)
theorem dX4_restoreSnapshot_19 : decode cX4_restoreSnapshot 19 = .ok (.iconst 0, 1) := dk_3 (dk_at dksX4_restoreSnapshot_0 19 rfl rfl)
theorem dX4_restoreSnapshot_20 : decode cX4_restoreSnapshot 20 = .ok (.ireturn, 1) := dk_172 (dk_at dksX4_restoreSnapshot_0 20 rfl rfl)
theorem dX4_restoreSnapshot_21 : decode cX4_restoreSnapshot 21 = .ok (.aload_n 0, 1) := dk_42 (dk_at dksX4_restoreSnapshot_0 21 rfl rfl)
theorem dX4_restoreSnapshot_22 : decode cX4_restoreSnapshot 22 = .ok (.getfield 16, 3) := dk_180 0 16 (dk_at dksX4_restoreSnapshot_1 0 rfl rfl)
theorem dX4_restoreSnapshot_25 : decode cX4_restoreSnapshot 25 = .ok (.iconst 0, 1) := dk_3 (dk_at dksX4_restoreSnapshot_1 3 rfl rfl)
theorem dX4_restoreSnapshot_26 : decode cX4_restoreSnapshot 26 = .ok (.aload_n 0, 1) := dk_42 (dk_at dksX4_restoreSnapshot_1 4 rfl rfl)
theorem dX4_restoreSnapshot_27 : decode cX4_restoreSnapshot 27 = .ok (.getfield 7, 3) := dk_180 0 7 (dk_at dksX4_restoreSnapshot_1 5 rfl rfl)
theorem dX4_restoreSnapshot_30 : decode cX4_restoreSnapshot 30 = .ok (.iconst 0, 1) := dk_3 (dk_at dksX4_restoreSnapshot_1 8 rfl rfl)
theorem dX4_restoreSnapshot_31 : decode cX4_restoreSnapshot 31 = .ok (.invokestatic 95, 3) := dk_184 0 95 (dk_at dksX4_restoreSnapshot_1 9 rfl rfl)
theorem dX4_restoreSnapshot_34 : decode cX4_restoreSnapshot 34 = .ok (.aload_n 0, 1) := dk_42 (dk_at dksX4_restoreSnapshot_1 12 rfl rfl)
theorem dX4_restoreSnapshot_35 : decode cX4_restoreSnapshot 35 = .ok (.iconst 0, 1) := dk_3 (dk_at dksX4_restoreSnapshot_1 13 rfl rfl)
theorem dX4_restoreSnapshot_36 : decode cX4_restoreSnapshot 36 = .ok (.putfield 92, 3) := dk_181 0 92 (dk_at dksX4_restoreSnapshot_1 14 rfl rfl)
theorem dX4_restoreSnapshot_39 : decode cX4_restoreSnapshot 39 = .ok (.aload_n 0, 1) := dk_42 (dk_at dksX4_restoreSnapshot_1 17 rfl rfl)
theorem dX4_restoreSnapshot_40 : decode cX4_restoreSnapshot 40 = .ok (.getfield 7, 3) := dk_180 0 7 (dk_at dksX4_restoreSnapshot_1 18 rfl rfl)
theorem dX4_restoreSnapshot_43 : decode cX4_restoreSnapshot 43 = .ok (.iconst 0, 1) := dk_3 (dk_at dksX4_restoreSnapshot_1 21 rfl rfl)
theorem dX4_restoreSnapshot_44 : decode cX4_restoreSnapshot 44 = .ok (.iaload, 1) := dk_46 (dk_at dksX4_restoreSnapshot_1 22 rfl rfl)
theorem dX4_restoreSnapshot_45 : decode cX4_restoreSnapshot 45 = .ok (.ireturn, 1) := dk_172 (dk_at dksX4_restoreSnapshot_1 23 rfl rfl)
theorem q79 : (Jvm.Cond.initialized "RainbowOperatorsModel") ∈ lw_all := lw_g (lw_at lw_m1 11 rfl) rfl
theorem q2283 : (Jvm.Cond.fieldLink "RainbowOperatorsModel" (7 : Nat) "RainbowOperatorsModel" "g" "[I") ∈ lw_all := lw_g (lw_at lw_m10 55 rfl) rfl
theorem q2284 : (Jvm.Cond.fieldLink "RainbowOperatorsModel" (13 : Nat) "RainbowOperatorsModel" "kept" "[I") ∈ lw_all := lw_g (lw_at lw_m10 56 rfl) rfl
theorem q2285 : (Jvm.Cond.fieldLink "RainbowOperatorsModel" (16 : Nat) "RainbowOperatorsModel" "saved" "[I") ∈ lw_all := lw_g (lw_at lw_m10 57 rfl) rfl
theorem q2287 : (Jvm.Cond.fieldLink "RainbowOperatorsModel" (338 : Nat) "RainbowOperatorsModel" "isSaved" "Z") ∈ lw_all := lw_g (lw_at lw_m10 59 rfl) rfl
theorem q2288 : (Jvm.Cond.fieldLink "RainbowOperatorsModel" (92 : Nat) "RainbowOperatorsModel" "changes" "I") ∈ lw_all := lw_g (lw_at lw_m10 60 rfl) rfl
theorem q2289 : (Jvm.Cond.fieldLink "RainbowOperatorsModel" (89 : Nat) "RainbowOperatorsModel" "isWithin" "Z") ∈ lw_all := lw_g (lw_at lw_m10 61 rfl) rfl
theorem q2290 : (Jvm.Cond.fieldLink "RainbowOperatorsModel" (76 : Nat) "RainbowOperatorsModel" "isDenied" "Z") ∈ lw_all := lw_g (lw_at lw_m10 62 rfl) rfl
theorem q2291 : (Jvm.Cond.fieldLink "RainbowOperatorsModel" (73 : Nat) "RainbowOperatorsModel" "code" "I") ∈ lw_all := lw_g (lw_at lw_m10 63 rfl) rfl
theorem q2292 : (Jvm.Cond.fieldLink "RainbowOperatorsModel" (80 : Nat) "RainbowOperatorsModel" "why" "I") ∈ lw_all := lw_g (lw_at lw_m10 64 rfl) rfl
theorem q2293 : (Jvm.Cond.fieldLink "RainbowOperatorsModel" (83 : Nat) "RainbowOperatorsModel" "detail" "I") ∈ lw_all := lw_g (lw_at lw_m10 65 rfl) rfl
theorem q2294 : (Jvm.Cond.fieldLink "RainbowOperatorsModel" (86 : Nat) "RainbowOperatorsModel" "cause" "I") ∈ lw_all := lw_g (lw_at lw_m10 66 rfl) rfl
theorem q2295 : (Jvm.Cond.fieldLink "RainbowOperatorsModel" (22 : Nat) "RainbowOperatorsModel" "input" "[I") ∈ lw_all := lw_g (lw_at lw_m10 67 rfl) rfl
theorem q2296 : (Jvm.Cond.fieldLink "RainbowOperatorsModel" (242 : Nat) "RainbowOperatorsModel" "length" "I") ∈ lw_all := lw_g (lw_at lw_m10 68 rfl) rfl
theorem q2297 : (Jvm.Cond.fieldLink "RainbowOperatorsModel" (25 : Nat) "RainbowOperatorsModel" "fault" "I") ∈ lw_all := lw_g (lw_at lw_m10 69 rfl) rfl
theorem q2298 : (Jvm.Cond.fieldLink "RainbowOperatorsModel" (29 : Nat) "RainbowOperatorsModel" "signs" "[C") ∈ lw_all := lw_g (lw_at lw_m10 70 rfl) rfl
theorem q2299 : (Jvm.Cond.fieldLink "RainbowOperatorsModel" (329 : Nat) "RainbowOperatorsModel" "signMany" "I") ∈ lw_all := lw_g (lw_at lw_m10 71 rfl) rfl
theorem q2300 : (Jvm.Cond.fieldLink "RainbowOperatorsModel" (33 : Nat) "RainbowOperatorsModel" "work" "[I") ∈ lw_all := lw_g (lw_at lw_m10 72 rfl) rfl
theorem q2301 : (Jvm.Cond.fieldLink "RainbowOperatorsModel" (36 : Nat) "RainbowOperatorsModel" "ids" "[I") ∈ lw_all := lw_g (lw_at lw_m10 73 rfl) rfl
theorem q2302 : (Jvm.Cond.fieldLink "RainbowOperatorsModel" (161 : Nat) "RainbowOperatorsModel" "workMany" "I") ∈ lw_all := lw_g (lw_at lw_m10 74 rfl) rfl
theorem q2303 : (Jvm.Cond.fieldLink "RainbowOperatorsModel" (39 : Nat) "RainbowOperatorsModel" "firsts" "[I") ∈ lw_all := lw_g (lw_at lw_m10 75 rfl) rfl
theorem q2304 : (Jvm.Cond.fieldLink "RainbowOperatorsModel" (42 : Nat) "RainbowOperatorsModel" "seconds" "[I") ∈ lw_all := lw_g (lw_at lw_m10 76 rfl) rfl
theorem q2305 : (Jvm.Cond.fieldLink "RainbowOperatorsModel" (45 : Nat) "RainbowOperatorsModel" "trueFirsts" "[I") ∈ lw_all := lw_g (lw_at lw_m10 77 rfl) rfl
theorem q2306 : (Jvm.Cond.fieldLink "RainbowOperatorsModel" (48 : Nat) "RainbowOperatorsModel" "trueSeconds" "[I") ∈ lw_all := lw_g (lw_at lw_m10 78 rfl) rfl
theorem q2307 : (Jvm.Cond.fieldLink "RainbowOperatorsModel" (51 : Nat) "RainbowOperatorsModel" "row" "[I") ∈ lw_all := lw_g (lw_at lw_m10 79 rfl) rfl
theorem q2308 : (Jvm.Cond.fieldLink "RainbowOperatorsModel" (54 : Nat) "RainbowOperatorsModel" "between" "[I") ∈ lw_all := lw_g (lw_at lw_m10 80 rfl) rfl
theorem q2309 : (Jvm.Cond.fieldLink "RainbowOperatorsModel" (220 : Nat) "RainbowOperatorsModel" "rowMany" "I") ∈ lw_all := lw_g (lw_at lw_m10 81 rfl) rfl
theorem q2310 : (Jvm.Cond.fieldLink "RainbowOperatorsModel" (57 : Nat) "RainbowOperatorsModel" "made" "[I") ∈ lw_all := lw_g (lw_at lw_m10 82 rfl) rfl
theorem q2311 : (Jvm.Cond.fieldLink "RainbowOperatorsModel" (60 : Nat) "RainbowOperatorsModel" "start" "[I") ∈ lw_all := lw_g (lw_at lw_m10 83 rfl) rfl
theorem q2312 : (Jvm.Cond.fieldLink "RainbowOperatorsModel" (63 : Nat) "RainbowOperatorsModel" "many" "[I") ∈ lw_all := lw_g (lw_at lw_m10 84 rfl) rfl
theorem q2313 : (Jvm.Cond.fieldLink "RainbowOperatorsModel" (66 : Nat) "RainbowOperatorsModel" "isValue" "[Z") ∈ lw_all := lw_g (lw_at lw_m10 85 rfl) rfl
theorem q2314 : (Jvm.Cond.fieldLink "RainbowOperatorsModel" (245 : Nat) "RainbowOperatorsModel" "at" "I") ∈ lw_all := lw_g (lw_at lw_m10 86 rfl) rfl
theorem q2315 : (Jvm.Cond.fieldLink "RainbowOperatorsModel" (70 : Nat) "RainbowOperatorsModel" "told" "[I") ∈ lw_all := lw_g (lw_at lw_m10 87 rfl) rfl
theorem q2316 : (Jvm.Cond.fieldLink "RainbowOperatorsModel" (251 : Nat) "RainbowOperatorsModel" "toldMany" "I") ∈ lw_all := lw_g (lw_at lw_m10 88 rfl) rfl
theorem q2392 : (Jvm.Cond.instanceMethod ({ cls := "RainbowOperatorsModel", name := "put", desc := "(C)I" } : Jvm.MethodName)) ∈ lw_all := lw_g (lw_at lw_m10 164 rfl) rfl
theorem q2393 : (Jvm.Cond.selects "RainbowOperatorsModel" ({ cls := "RainbowOperatorsModel", name := "put", desc := "(C)I" } : Jvm.MethodName) ({ cls := "RainbowOperatorsModel", name := "put", desc := "(C)I" } : Jvm.MethodName)) ∈ lw_all := lw_g (lw_at lw_m10 165 rfl) rfl
theorem q2394 : (Jvm.Cond.code ({ cls := "RainbowOperatorsModel", name := "put", desc := "(C)I" } : Jvm.MethodName) prog_22_method_19_code (2 : Nat) (Option.some Jvm.ClassFile.FieldType.int)) ∈ lw_all := lw_g (lw_at lw_m10 166 rfl) rfl
theorem q2395 : (Jvm.Cond.methodLink "RainbowOperatorsModel" (120 : Nat) ({ cls := "RainbowOperatorsModel", name := "isCharacter", desc := "(I)Z" } : Jvm.MethodName)) ∈ lw_all := lw_g (lw_at lw_m10 167 rfl) rfl
theorem q2396 : (Jvm.Cond.static ({ cls := "RainbowOperatorsModel", name := "isCharacter", desc := "(I)Z" } : Jvm.MethodName)) ∈ lw_all := lw_g (lw_at lw_m10 168 rfl) rfl
theorem q2397 : (Jvm.Cond.code ({ cls := "RainbowOperatorsModel", name := "isCharacter", desc := "(I)Z" } : Jvm.MethodName) prog_22_method_15_code (1 : Nat) (Option.some Jvm.ClassFile.FieldType.boolean)) ∈ lw_all := lw_g (lw_at lw_m10 169 rfl) rfl
theorem q2398 : (Jvm.Cond.methodLink "RainbowOperatorsModel" (111 : Nat) ({ cls := "RainbowOperatorsModel", name := "isOperand", desc := "(I)Z" } : Jvm.MethodName)) ∈ lw_all := lw_g (lw_at lw_m10 170 rfl) rfl
theorem q2399 : (Jvm.Cond.static ({ cls := "RainbowOperatorsModel", name := "isOperand", desc := "(I)Z" } : Jvm.MethodName)) ∈ lw_all := lw_g (lw_at lw_m10 171 rfl) rfl
theorem q2400 : (Jvm.Cond.code ({ cls := "RainbowOperatorsModel", name := "isOperand", desc := "(I)Z" } : Jvm.MethodName) prog_22_method_13_code (1 : Nat) (Option.some Jvm.ClassFile.FieldType.boolean)) ∈ lw_all := lw_g (lw_at lw_m10 172 rfl) rfl
theorem q2401 : (Jvm.Cond.methodLink "RainbowOperatorsModel" (103 : Nat) ({ cls := "RainbowOperatorsModel", name := "in", desc := "(III)Z" } : Jvm.MethodName)) ∈ lw_all := lw_g (lw_at lw_m10 173 rfl) rfl
theorem q2402 : (Jvm.Cond.static ({ cls := "RainbowOperatorsModel", name := "in", desc := "(III)Z" } : Jvm.MethodName)) ∈ lw_all := lw_g (lw_at lw_m10 174 rfl) rfl
theorem q2403 : (Jvm.Cond.code ({ cls := "RainbowOperatorsModel", name := "in", desc := "(III)Z" } : Jvm.MethodName) prog_22_method_5_code (3 : Nat) (Option.some Jvm.ClassFile.FieldType.boolean)) ∈ lw_all := lw_g (lw_at lw_m10 175 rfl) rfl
theorem q2404 : (Jvm.Cond.methodLink "RainbowOperatorsModel" (107 : Nat) ({ cls := "RainbowOperatorsModel", name := "isSky", desc := "(I)Z" } : Jvm.MethodName)) ∈ lw_all := lw_g (lw_at lw_m10 176 rfl) rfl
theorem q2405 : (Jvm.Cond.static ({ cls := "RainbowOperatorsModel", name := "isSky", desc := "(I)Z" } : Jvm.MethodName)) ∈ lw_all := lw_g (lw_at lw_m10 177 rfl) rfl
theorem q2406 : (Jvm.Cond.code ({ cls := "RainbowOperatorsModel", name := "isSky", desc := "(I)Z" } : Jvm.MethodName) prog_22_method_12_code (1 : Nat) (Option.some Jvm.ClassFile.FieldType.boolean)) ∈ lw_all := lw_g (lw_at lw_m10 178 rfl) rfl
theorem q2407 : (Jvm.Cond.methodLink "RainbowOperatorsModel" (99 : Nat) ({ cls := "RainbowOperatorsModel", name := "signOf", desc := "(I)I" } : Jvm.MethodName)) ∈ lw_all := lw_g (lw_at lw_m10 179 rfl) rfl
theorem q2408 : (Jvm.Cond.static ({ cls := "RainbowOperatorsModel", name := "signOf", desc := "(I)I" } : Jvm.MethodName)) ∈ lw_all := lw_g (lw_at lw_m10 180 rfl) rfl
theorem q2409 : (Jvm.Cond.code ({ cls := "RainbowOperatorsModel", name := "signOf", desc := "(I)I" } : Jvm.MethodName) prog_22_method_9_code (1 : Nat) (Option.some Jvm.ClassFile.FieldType.int)) ∈ lw_all := lw_g (lw_at lw_m10 181 rfl) rfl
theorem q2410 : (Jvm.Cond.methodLink "RainbowOperatorsModel" (114 : Nat) ({ cls := "RainbowOperatorsModel", name := "isSun", desc := "(I)Z" } : Jvm.MethodName)) ∈ lw_all := lw_g (lw_at lw_m10 182 rfl) rfl
theorem q2411 : (Jvm.Cond.static ({ cls := "RainbowOperatorsModel", name := "isSun", desc := "(I)Z" } : Jvm.MethodName)) ∈ lw_all := lw_g (lw_at lw_m10 183 rfl) rfl
theorem q2412 : (Jvm.Cond.code ({ cls := "RainbowOperatorsModel", name := "isSun", desc := "(I)Z" } : Jvm.MethodName) prog_22_method_14_code (1 : Nat) (Option.some Jvm.ClassFile.FieldType.boolean)) ∈ lw_all := lw_g (lw_at lw_m10 184 rfl) rfl
theorem q2413 : (Jvm.Cond.methodLink "RainbowOperatorsModel" (123 : Nat) ({ cls := "RainbowOperatorsModel", name := "fails", desc := "(I)Z" } : Jvm.MethodName)) ∈ lw_all := lw_g (lw_at lw_m10 185 rfl) rfl
theorem q2415 : (Jvm.Cond.instanceMethod ({ cls := "RainbowOperatorsModel", name := "fails", desc := "(I)Z" } : Jvm.MethodName)) ∈ lw_all := lw_g (lw_at lw_m10 187 rfl) rfl
theorem q2416 : (Jvm.Cond.code ({ cls := "RainbowOperatorsModel", name := "fails", desc := "(I)Z" } : Jvm.MethodName) prog_22_method_3_code (2 : Nat) (Option.some Jvm.ClassFile.FieldType.boolean)) ∈ lw_all := lw_g (lw_at lw_m10 188 rfl) rfl
theorem q2417 : (Jvm.Cond.methodLink "RainbowOperatorsModel" (126 : Nat) ({ cls := "RainbowOperatorsModel", name := "denies", desc := "(III)I" } : Jvm.MethodName)) ∈ lw_all := lw_g (lw_at lw_m10 189 rfl) rfl
theorem q2419 : (Jvm.Cond.instanceMethod ({ cls := "RainbowOperatorsModel", name := "denies", desc := "(III)I" } : Jvm.MethodName)) ∈ lw_all := lw_g (lw_at lw_m10 191 rfl) rfl
theorem q2420 : (Jvm.Cond.code ({ cls := "RainbowOperatorsModel", name := "denies", desc := "(III)I" } : Jvm.MethodName) prog_22_method_4_code (4 : Nat) (Option.some Jvm.ClassFile.FieldType.int)) ∈ lw_all := lw_g (lw_at lw_m10 192 rfl) rfl
theorem q2421 : (Jvm.Cond.methodLink "RainbowOperatorsModel" (130 : Nat) ({ cls := "RainbowOperatorsModel", name := "operandMany", desc := "()I" } : Jvm.MethodName)) ∈ lw_all := lw_g (lw_at lw_m10 193 rfl) rfl
theorem q2423 : (Jvm.Cond.instanceMethod ({ cls := "RainbowOperatorsModel", name := "operandMany", desc := "()I" } : Jvm.MethodName)) ∈ lw_all := lw_g (lw_at lw_m10 195 rfl) rfl
theorem q2424 : (Jvm.Cond.code ({ cls := "RainbowOperatorsModel", name := "operandMany", desc := "()I" } : Jvm.MethodName) prog_22_method_18_code (3 : Nat) (Option.some Jvm.ClassFile.FieldType.int)) ∈ lw_all := lw_g (lw_at lw_m10 196 rfl) rfl
theorem q2425 : (Jvm.Cond.methodLink "RainbowOperatorsModel" (117 : Nat) ({ cls := "RainbowOperatorsModel", name := "draft", desc := "(I)I" } : Jvm.MethodName)) ∈ lw_all := lw_g (lw_at lw_m10 197 rfl) rfl
theorem q2427 : (Jvm.Cond.instanceMethod ({ cls := "RainbowOperatorsModel", name := "draft", desc := "(I)I" } : Jvm.MethodName)) ∈ lw_all := lw_g (lw_at lw_m10 199 rfl) rfl
theorem q2428 : (Jvm.Cond.code ({ cls := "RainbowOperatorsModel", name := "draft", desc := "(I)I" } : Jvm.MethodName) prog_22_method_17_code (2 : Nat) (Option.some Jvm.ClassFile.FieldType.int)) ∈ lw_all := lw_g (lw_at lw_m10 200 rfl) rfl
theorem q2429 : (Jvm.Cond.methodLink "RainbowOperatorsModel" (134 : Nat) ({ cls := "RainbowOperatorsModel", name := "keeps", desc := "([I)V" } : Jvm.MethodName)) ∈ lw_all := lw_g (lw_at lw_m10 201 rfl) rfl
theorem q2431 : (Jvm.Cond.instanceMethod ({ cls := "RainbowOperatorsModel", name := "keeps", desc := "([I)V" } : Jvm.MethodName)) ∈ lw_all := lw_g (lw_at lw_m10 203 rfl) rfl
theorem q2432 : (Jvm.Cond.code ({ cls := "RainbowOperatorsModel", name := "keeps", desc := "([I)V" } : Jvm.MethodName) prog_22_method_8_code (3 : Nat) (Option.none : Option Jvm.ClassFile.FieldType)) ∈ lw_all := lw_g (lw_at lw_m10 204 rfl) rfl
theorem q2433 : (Jvm.Cond.methodLink "RainbowOperatorsModel" (95 : Nat) ({ cls := "RainbowOperatorsModel", name := "copies", desc := "([II[II)V" } : Jvm.MethodName)) ∈ lw_all := lw_g (lw_at lw_m10 205 rfl) rfl
theorem q2434 : (Jvm.Cond.static ({ cls := "RainbowOperatorsModel", name := "copies", desc := "([II[II)V" } : Jvm.MethodName)) ∈ lw_all := lw_g (lw_at lw_m10 206 rfl) rfl
theorem q2435 : (Jvm.Cond.code ({ cls := "RainbowOperatorsModel", name := "copies", desc := "([II[II)V" } : Jvm.MethodName) prog_22_method_7_code (5 : Nat) (Option.none : Option Jvm.ClassFile.FieldType)) ∈ lw_all := lw_g (lw_at lw_m10 207 rfl) rfl
theorem q2437 : (Jvm.Cond.instanceMethod ({ cls := "RainbowOperatorsModel", name := "erase", desc := "()C" } : Jvm.MethodName)) ∈ lw_all := lw_g (lw_at lw_m10 209 rfl) rfl
theorem q2438 : (Jvm.Cond.selects "RainbowOperatorsModel" ({ cls := "RainbowOperatorsModel", name := "erase", desc := "()C" } : Jvm.MethodName) ({ cls := "RainbowOperatorsModel", name := "erase", desc := "()C" } : Jvm.MethodName)) ∈ lw_all := lw_g (lw_at lw_m10 210 rfl) rfl
theorem q2439 : (Jvm.Cond.code ({ cls := "RainbowOperatorsModel", name := "erase", desc := "()C" } : Jvm.MethodName) prog_22_method_20_code (3 : Nat) (Option.some Jvm.ClassFile.FieldType.char)) ∈ lw_all := lw_g (lw_at lw_m10 211 rfl) rfl
theorem q2441 : (Jvm.Cond.instanceMethod ({ cls := "RainbowOperatorsModel", name := "clear", desc := "()I" } : Jvm.MethodName)) ∈ lw_all := lw_g (lw_at lw_m10 213 rfl) rfl
theorem q2442 : (Jvm.Cond.selects "RainbowOperatorsModel" ({ cls := "RainbowOperatorsModel", name := "clear", desc := "()I" } : Jvm.MethodName) ({ cls := "RainbowOperatorsModel", name := "clear", desc := "()I" } : Jvm.MethodName)) ∈ lw_all := lw_g (lw_at lw_m10 214 rfl) rfl
theorem q2443 : (Jvm.Cond.code ({ cls := "RainbowOperatorsModel", name := "clear", desc := "()I" } : Jvm.MethodName) prog_22_method_21_code (3 : Nat) (Option.some Jvm.ClassFile.FieldType.int)) ∈ lw_all := lw_g (lw_at lw_m10 215 rfl) rfl
theorem q2460 : (Jvm.Cond.methodLink "RainbowOperatorsModel" (141 : Nat) ({ cls := "RainbowOperatorsModel", name := "broken", desc := "()I" } : Jvm.MethodName)) ∈ lw_all := lw_g (lw_at lw_m10 232 rfl) rfl
theorem q2462 : (Jvm.Cond.instanceMethod ({ cls := "RainbowOperatorsModel", name := "broken", desc := "()I" } : Jvm.MethodName)) ∈ lw_all := lw_g (lw_at lw_m10 234 rfl) rfl
theorem q2463 : (Jvm.Cond.code ({ cls := "RainbowOperatorsModel", name := "broken", desc := "()I" } : Jvm.MethodName) prog_22_method_25_code (6 : Nat) (Option.some Jvm.ClassFile.FieldType.int)) ∈ lw_all := lw_g (lw_at lw_m10 235 rfl) rfl
theorem q2464 : (Jvm.Cond.methodLink "RainbowOperatorsModel" (138 : Nat) ({ cls := "RainbowOperatorsModel", name := "isOperator", desc := "(I)Z" } : Jvm.MethodName)) ∈ lw_all := lw_g (lw_at lw_m10 236 rfl) rfl
theorem q2465 : (Jvm.Cond.static ({ cls := "RainbowOperatorsModel", name := "isOperator", desc := "(I)Z" } : Jvm.MethodName)) ∈ lw_all := lw_g (lw_at lw_m10 237 rfl) rfl
theorem q2466 : (Jvm.Cond.code ({ cls := "RainbowOperatorsModel", name := "isOperator", desc := "(I)Z" } : Jvm.MethodName) prog_22_method_11_code (1 : Nat) (Option.some Jvm.ClassFile.FieldType.boolean)) ∈ lw_all := lw_g (lw_at lw_m10 238 rfl) rfl
theorem q2472 : (Jvm.Cond.instanceMethod ({ cls := "RainbowOperatorsModel", name := "setColour", desc := "(CI)I" } : Jvm.MethodName)) ∈ lw_all := lw_g (lw_at lw_m11 4 rfl) rfl
theorem q2473 : (Jvm.Cond.selects "RainbowOperatorsModel" ({ cls := "RainbowOperatorsModel", name := "setColour", desc := "(CI)I" } : Jvm.MethodName) ({ cls := "RainbowOperatorsModel", name := "setColour", desc := "(CI)I" } : Jvm.MethodName)) ∈ lw_all := lw_g (lw_at lw_m11 5 rfl) rfl
theorem q2474 : (Jvm.Cond.code ({ cls := "RainbowOperatorsModel", name := "setColour", desc := "(CI)I" } : Jvm.MethodName) prog_22_method_28_code (4 : Nat) (Option.some Jvm.ClassFile.FieldType.int)) ∈ lw_all := lw_g (lw_at lw_m11 6 rfl) rfl
theorem q2476 : (Jvm.Cond.instanceMethod ({ cls := "RainbowOperatorsModel", name := "setMeaning", desc := "(CC)C" } : Jvm.MethodName)) ∈ lw_all := lw_g (lw_at lw_m11 8 rfl) rfl
theorem q2477 : (Jvm.Cond.selects "RainbowOperatorsModel" ({ cls := "RainbowOperatorsModel", name := "setMeaning", desc := "(CC)C" } : Jvm.MethodName) ({ cls := "RainbowOperatorsModel", name := "setMeaning", desc := "(CC)C" } : Jvm.MethodName)) ∈ lw_all := lw_g (lw_at lw_m11 9 rfl) rfl
theorem q2478 : (Jvm.Cond.code ({ cls := "RainbowOperatorsModel", name := "setMeaning", desc := "(CC)C" } : Jvm.MethodName) prog_22_method_29_code (4 : Nat) (Option.some Jvm.ClassFile.FieldType.char)) ∈ lw_all := lw_g (lw_at lw_m11 10 rfl) rfl
theorem q2479 : (Jvm.Cond.methodLink "RainbowOperatorsModel" (144 : Nat) ({ cls := "RainbowOperatorsModel", name := "isMeaning", desc := "(I)Z" } : Jvm.MethodName)) ∈ lw_all := lw_g (lw_at lw_m11 11 rfl) rfl
theorem q2480 : (Jvm.Cond.static ({ cls := "RainbowOperatorsModel", name := "isMeaning", desc := "(I)Z" } : Jvm.MethodName)) ∈ lw_all := lw_g (lw_at lw_m11 12 rfl) rfl
theorem q2481 : (Jvm.Cond.code ({ cls := "RainbowOperatorsModel", name := "isMeaning", desc := "(I)Z" } : Jvm.MethodName) prog_22_method_16_code (1 : Nat) (Option.some Jvm.ClassFile.FieldType.boolean)) ∈ lw_all := lw_g (lw_at lw_m11 13 rfl) rfl
theorem q2483 : (Jvm.Cond.instanceMethod ({ cls := "RainbowOperatorsModel", name := "turnStorm", desc := "(I)I" } : Jvm.MethodName)) ∈ lw_all := lw_g (lw_at lw_m11 15 rfl) rfl
theorem q2484 : (Jvm.Cond.selects "RainbowOperatorsModel" ({ cls := "RainbowOperatorsModel", name := "turnStorm", desc := "(I)I" } : Jvm.MethodName) ({ cls := "RainbowOperatorsModel", name := "turnStorm", desc := "(I)I" } : Jvm.MethodName)) ∈ lw_all := lw_g (lw_at lw_m11 16 rfl) rfl
theorem q2485 : (Jvm.Cond.code ({ cls := "RainbowOperatorsModel", name := "turnStorm", desc := "(I)I" } : Jvm.MethodName) prog_22_method_31_code (4 : Nat) (Option.some Jvm.ClassFile.FieldType.int)) ∈ lw_all := lw_g (lw_at lw_m11 17 rfl) rfl
theorem q2486 : (Jvm.Cond.methodLink "RainbowOperatorsModel" (147 : Nat) ({ cls := "RainbowOperatorsModel", name := "isRight", desc := "(I)Z" } : Jvm.MethodName)) ∈ lw_all := lw_g (lw_at lw_m11 18 rfl) rfl
theorem q2488 : (Jvm.Cond.instanceMethod ({ cls := "RainbowOperatorsModel", name := "isRight", desc := "(I)Z" } : Jvm.MethodName)) ∈ lw_all := lw_g (lw_at lw_m11 20 rfl) rfl
theorem q2489 : (Jvm.Cond.code ({ cls := "RainbowOperatorsModel", name := "isRight", desc := "(I)Z" } : Jvm.MethodName) prog_22_method_30_code (2 : Nat) (Option.some Jvm.ClassFile.FieldType.boolean)) ∈ lw_all := lw_g (lw_at lw_m11 21 rfl) rfl
theorem q2506 : (Jvm.Cond.methodLink "RainbowOperatorsModel" (150 : Nat) ({ cls := "RainbowOperatorsModel", name := "operator", desc := "(I)C" } : Jvm.MethodName)) ∈ lw_all := lw_g (lw_at lw_m11 38 rfl) rfl
theorem q2507 : (Jvm.Cond.static ({ cls := "RainbowOperatorsModel", name := "operator", desc := "(I)C" } : Jvm.MethodName)) ∈ lw_all := lw_g (lw_at lw_m11 39 rfl) rfl
theorem q2508 : (Jvm.Cond.code ({ cls := "RainbowOperatorsModel", name := "operator", desc := "(I)C" } : Jvm.MethodName) prog_22_method_10_code (1 : Nat) (Option.some Jvm.ClassFile.FieldType.char)) ∈ lw_all := lw_g (lw_at lw_m11 40 rfl) rfl
theorem q2513 : (Jvm.Cond.methodLink "RainbowOperatorsModel" (158 : Nat) ({ cls := "RainbowOperatorsModel", name := "makes", desc := "(III)I" } : Jvm.MethodName)) ∈ lw_all := lw_g (lw_at lw_m11 45 rfl) rfl
theorem q2514 : (Jvm.Cond.static ({ cls := "RainbowOperatorsModel", name := "makes", desc := "(III)I" } : Jvm.MethodName)) ∈ lw_all := lw_g (lw_at lw_m11 46 rfl) rfl
theorem q2515 : (Jvm.Cond.code ({ cls := "RainbowOperatorsModel", name := "makes", desc := "(III)I" } : Jvm.MethodName) prog_22_method_36_code (3 : Nat) (Option.some Jvm.ClassFile.FieldType.int)) ∈ lw_all := lw_g (lw_at lw_m11 47 rfl) rfl
theorem q2516 : (Jvm.Cond.methodLink "RainbowOperatorsModel" (154 : Nat) ({ cls := "RainbowOperatorsModel", name := "most", desc := "(II)I" } : Jvm.MethodName)) ∈ lw_all := lw_g (lw_at lw_m11 48 rfl) rfl
theorem q2517 : (Jvm.Cond.static ({ cls := "RainbowOperatorsModel", name := "most", desc := "(II)I" } : Jvm.MethodName)) ∈ lw_all := lw_g (lw_at lw_m11 49 rfl) rfl
theorem q2518 : (Jvm.Cond.code ({ cls := "RainbowOperatorsModel", name := "most", desc := "(II)I" } : Jvm.MethodName) prog_22_method_6_code (2 : Nat) (Option.some Jvm.ClassFile.FieldType.int)) ∈ lw_all := lw_g (lw_at lw_m11 50 rfl) rfl
theorem q2523 : (Jvm.Cond.methodLink "RainbowOperatorsModel" (189 : Nat) ({ cls := "RainbowOperatorsModel", name := "worthAll", desc := "()I" } : Jvm.MethodName)) ∈ lw_all := lw_g (lw_at lw_m11 55 rfl) rfl
theorem q2525 : (Jvm.Cond.instanceMethod ({ cls := "RainbowOperatorsModel", name := "worthAll", desc := "()I" } : Jvm.MethodName)) ∈ lw_all := lw_g (lw_at lw_m11 57 rfl) rfl
theorem q2526 : (Jvm.Cond.code ({ cls := "RainbowOperatorsModel", name := "worthAll", desc := "()I" } : Jvm.MethodName) prog_22_method_46_code (1 : Nat) (Option.some Jvm.ClassFile.FieldType.int)) ∈ lw_all := lw_g (lw_at lw_m11 58 rfl) rfl
theorem q2527 : (Jvm.Cond.methodLink "RainbowOperatorsModel" (185 : Nat) ({ cls := "RainbowOperatorsModel", name := "isDraft", desc := "()Z" } : Jvm.MethodName)) ∈ lw_all := lw_g (lw_at lw_m11 59 rfl) rfl
theorem q2529 : (Jvm.Cond.instanceMethod ({ cls := "RainbowOperatorsModel", name := "isDraft", desc := "()Z" } : Jvm.MethodName)) ∈ lw_all := lw_g (lw_at lw_m11 61 rfl) rfl
theorem q2530 : (Jvm.Cond.code ({ cls := "RainbowOperatorsModel", name := "isDraft", desc := "()Z" } : Jvm.MethodName) prog_22_method_38_code (3 : Nat) (Option.some Jvm.ClassFile.FieldType.boolean)) ∈ lw_all := lw_g (lw_at lw_m11 62 rfl) rfl
theorem q2531 : (Jvm.Cond.methodLink "RainbowOperatorsModel" (176 : Nat) ({ cls := "RainbowOperatorsModel", name := "worth", desc := "(II)I" } : Jvm.MethodName)) ∈ lw_all := lw_g (lw_at lw_m11 63 rfl) rfl
theorem q2533 : (Jvm.Cond.instanceMethod ({ cls := "RainbowOperatorsModel", name := "worth", desc := "(II)I" } : Jvm.MethodName)) ∈ lw_all := lw_g (lw_at lw_m11 65 rfl) rfl
theorem q2534 : (Jvm.Cond.code ({ cls := "RainbowOperatorsModel", name := "worth", desc := "(II)I" } : Jvm.MethodName) prog_22_method_44_code (5 : Nat) (Option.some Jvm.ClassFile.FieldType.int)) ∈ lw_all := lw_g (lw_at lw_m11 66 rfl) rfl
theorem q2535 : (Jvm.Cond.methodLink "RainbowOperatorsModel" (173 : Nat) ({ cls := "RainbowOperatorsModel", name := "split", desc := "(II)I" } : Jvm.MethodName)) ∈ lw_all := lw_g (lw_at lw_m11 67 rfl) rfl
theorem q2537 : (Jvm.Cond.instanceMethod ({ cls := "RainbowOperatorsModel", name := "split", desc := "(II)I" } : Jvm.MethodName)) ∈ lw_all := lw_g (lw_at lw_m11 69 rfl) rfl
theorem q2538 : (Jvm.Cond.code ({ cls := "RainbowOperatorsModel", name := "split", desc := "(II)I" } : Jvm.MethodName) prog_22_method_42_code (6 : Nat) (Option.some Jvm.ClassFile.FieldType.int)) ∈ lw_all := lw_g (lw_at lw_m11 70 rfl) rfl
theorem q2539 : (Jvm.Cond.methodLink "RainbowOperatorsModel" (167 : Nat) ({ cls := "RainbowOperatorsModel", name := "behind", desc := "(I)I" } : Jvm.MethodName)) ∈ lw_all := lw_g (lw_at lw_m11 71 rfl) rfl
theorem q2541 : (Jvm.Cond.instanceMethod ({ cls := "RainbowOperatorsModel", name := "behind", desc := "(I)I" } : Jvm.MethodName)) ∈ lw_all := lw_g (lw_at lw_m11 73 rfl) rfl
theorem q2542 : (Jvm.Cond.code ({ cls := "RainbowOperatorsModel", name := "behind", desc := "(I)I" } : Jvm.MethodName) prog_22_method_41_code (3 : Nat) (Option.some Jvm.ClassFile.FieldType.int)) ∈ lw_all := lw_g (lw_at lw_m11 74 rfl) rfl
theorem q2543 : (Jvm.Cond.methodLink "RainbowOperatorsModel" (164 : Nat) ({ cls := "RainbowOperatorsModel", name := "closing", desc := "(I)I" } : Jvm.MethodName)) ∈ lw_all := lw_g (lw_at lw_m11 75 rfl) rfl
theorem q2545 : (Jvm.Cond.instanceMethod ({ cls := "RainbowOperatorsModel", name := "closing", desc := "(I)I" } : Jvm.MethodName)) ∈ lw_all := lw_g (lw_at lw_m11 77 rfl) rfl
theorem q2546 : (Jvm.Cond.code ({ cls := "RainbowOperatorsModel", name := "closing", desc := "(I)I" } : Jvm.MethodName) prog_22_method_40_code (4 : Nat) (Option.some Jvm.ClassFile.FieldType.int)) ∈ lw_all := lw_g (lw_at lw_m11 78 rfl) rfl
theorem q2547 : (Jvm.Cond.methodLink "RainbowOperatorsModel" (170 : Nat) ({ cls := "RainbowOperatorsModel", name := "shade", desc := "(I)I" } : Jvm.MethodName)) ∈ lw_all := lw_g (lw_at lw_m11 79 rfl) rfl
theorem q2549 : (Jvm.Cond.instanceMethod ({ cls := "RainbowOperatorsModel", name := "shade", desc := "(I)I" } : Jvm.MethodName)) ∈ lw_all := lw_g (lw_at lw_m11 81 rfl) rfl
theorem q2550 : (Jvm.Cond.code ({ cls := "RainbowOperatorsModel", name := "shade", desc := "(I)I" } : Jvm.MethodName) prog_22_method_39_code (2 : Nat) (Option.some Jvm.ClassFile.FieldType.int)) ∈ lw_all := lw_g (lw_at lw_m11 82 rfl) rfl
theorem q2551 : (Jvm.Cond.methodLink "RainbowOperatorsModel" (179 : Nat) ({ cls := "RainbowOperatorsModel", name := "operandValue", desc := "(I)I" } : Jvm.MethodName)) ∈ lw_all := lw_g (lw_at lw_m11 83 rfl) rfl
theorem q2553 : (Jvm.Cond.instanceMethod ({ cls := "RainbowOperatorsModel", name := "operandValue", desc := "(I)I" } : Jvm.MethodName)) ∈ lw_all := lw_g (lw_at lw_m11 85 rfl) rfl
theorem q2554 : (Jvm.Cond.code ({ cls := "RainbowOperatorsModel", name := "operandValue", desc := "(I)I" } : Jvm.MethodName) prog_22_method_43_code (2 : Nat) (Option.some Jvm.ClassFile.FieldType.int)) ∈ lw_all := lw_g (lw_at lw_m11 86 rfl) rfl
theorem q2567 : (Jvm.Cond.methodLink "RainbowOperatorsModel" (182 : Nat) ({ cls := "RainbowOperatorsModel", name := "tall", desc := "(II)I" } : Jvm.MethodName)) ∈ lw_all := lw_g (lw_at lw_m11 99 rfl) rfl
theorem q2569 : (Jvm.Cond.instanceMethod ({ cls := "RainbowOperatorsModel", name := "tall", desc := "(II)I" } : Jvm.MethodName)) ∈ lw_all := lw_g (lw_at lw_m11 101 rfl) rfl
theorem q2570 : (Jvm.Cond.code ({ cls := "RainbowOperatorsModel", name := "tall", desc := "(II)I" } : Jvm.MethodName) prog_22_method_45_code (5 : Nat) (Option.some Jvm.ClassFile.FieldType.int)) ∈ lw_all := lw_g (lw_at lw_m11 102 rfl) rfl
theorem q2572 : (Jvm.Cond.instanceMethod ({ cls := "RainbowOperatorsModel", name := "keep", desc := "(C)I" } : Jvm.MethodName)) ∈ lw_all := lw_g (lw_at lw_m11 104 rfl) rfl
theorem q2573 : (Jvm.Cond.selects "RainbowOperatorsModel" ({ cls := "RainbowOperatorsModel", name := "keep", desc := "(C)I" } : Jvm.MethodName) ({ cls := "RainbowOperatorsModel", name := "keep", desc := "(C)I" } : Jvm.MethodName)) ∈ lw_all := lw_g (lw_at lw_m11 105 rfl) rfl
theorem q2574 : (Jvm.Cond.code ({ cls := "RainbowOperatorsModel", name := "keep", desc := "(C)I" } : Jvm.MethodName) prog_22_method_51_code (4 : Nat) (Option.some Jvm.ClassFile.FieldType.int)) ∈ lw_all := lw_g (lw_at lw_m11 106 rfl) rfl
theorem q2587 : (Jvm.Cond.methodLink "RainbowOperatorsModel" (213 : Nat) ({ cls := "RainbowOperatorsModel", name := "remembers", desc := "()V" } : Jvm.MethodName)) ∈ lw_all := lw_g (lw_at lw_m11 119 rfl) rfl
theorem q2589 : (Jvm.Cond.instanceMethod ({ cls := "RainbowOperatorsModel", name := "remembers", desc := "()V" } : Jvm.MethodName)) ∈ lw_all := lw_g (lw_at lw_m11 121 rfl) rfl
theorem q2590 : (Jvm.Cond.code ({ cls := "RainbowOperatorsModel", name := "remembers", desc := "()V" } : Jvm.MethodName) prog_22_method_56_code (2 : Nat) (Option.none : Option Jvm.ClassFile.FieldType)) ∈ lw_all := lw_g (lw_at lw_m11 122 rfl) rfl
theorem q2591 : (Jvm.Cond.methodLink "RainbowOperatorsModel" (199 : Nat) ({ cls := "RainbowOperatorsModel", name := "appliesAll", desc := "()V" } : Jvm.MethodName)) ∈ lw_all := lw_g (lw_at lw_m11 123 rfl) rfl
theorem q2593 : (Jvm.Cond.instanceMethod ({ cls := "RainbowOperatorsModel", name := "appliesAll", desc := "()V" } : Jvm.MethodName)) ∈ lw_all := lw_g (lw_at lw_m11 125 rfl) rfl
theorem q2594 : (Jvm.Cond.code ({ cls := "RainbowOperatorsModel", name := "appliesAll", desc := "()V" } : Jvm.MethodName) prog_22_method_55_code (2 : Nat) (Option.none : Option Jvm.ClassFile.FieldType)) ∈ lw_all := lw_g (lw_at lw_m11 126 rfl) rfl
theorem q2595 : (Jvm.Cond.methodLink "RainbowOperatorsModel" (195 : Nat) ({ cls := "RainbowOperatorsModel", name := "applies", desc := "(II)V" } : Jvm.MethodName)) ∈ lw_all := lw_g (lw_at lw_m11 127 rfl) rfl
theorem q2597 : (Jvm.Cond.instanceMethod ({ cls := "RainbowOperatorsModel", name := "applies", desc := "(II)V" } : Jvm.MethodName)) ∈ lw_all := lw_g (lw_at lw_m11 129 rfl) rfl
theorem q2598 : (Jvm.Cond.code ({ cls := "RainbowOperatorsModel", name := "applies", desc := "(II)V" } : Jvm.MethodName) prog_22_method_54_code (4 : Nat) (Option.none : Option Jvm.ClassFile.FieldType)) ∈ lw_all := lw_g (lw_at lw_m11 130 rfl) rfl
theorem q2599 : (Jvm.Cond.methodLink "RainbowOperatorsModel" (192 : Nat) ({ cls := "RainbowOperatorsModel", name := "placesOf", desc := "(II)I" } : Jvm.MethodName)) ∈ lw_all := lw_g (lw_at lw_m11 131 rfl) rfl
theorem q2601 : (Jvm.Cond.instanceMethod ({ cls := "RainbowOperatorsModel", name := "placesOf", desc := "(II)I" } : Jvm.MethodName)) ∈ lw_all := lw_g (lw_at lw_m11 133 rfl) rfl
theorem q2602 : (Jvm.Cond.code ({ cls := "RainbowOperatorsModel", name := "placesOf", desc := "(II)I" } : Jvm.MethodName) prog_22_method_53_code (5 : Nat) (Option.some Jvm.ClassFile.FieldType.int)) ∈ lw_all := lw_g (lw_at lw_m11 134 rfl) rfl
theorem q2603 : (Jvm.Cond.methodLink "RainbowOperatorsModel" (216 : Nat) ({ cls := "RainbowOperatorsModel", name := "isIdle", desc := "(IZ)Z" } : Jvm.MethodName)) ∈ lw_all := lw_g (lw_at lw_m11 135 rfl) rfl
theorem q2605 : (Jvm.Cond.instanceMethod ({ cls := "RainbowOperatorsModel", name := "isIdle", desc := "(IZ)Z" } : Jvm.MethodName)) ∈ lw_all := lw_g (lw_at lw_m11 137 rfl) rfl
theorem q2606 : (Jvm.Cond.code ({ cls := "RainbowOperatorsModel", name := "isIdle", desc := "(IZ)Z" } : Jvm.MethodName) prog_22_method_60_code (7 : Nat) (Option.some Jvm.ClassFile.FieldType.boolean)) ∈ lw_all := lw_g (lw_at lw_m11 138 rfl) rfl
theorem q2607 : (Jvm.Cond.methodLink "RainbowOperatorsModel" (202 : Nat) ({ cls := "RainbowOperatorsModel", name := "takes", desc := "(I)V" } : Jvm.MethodName)) ∈ lw_all := lw_g (lw_at lw_m11 139 rfl) rfl
theorem q2609 : (Jvm.Cond.instanceMethod ({ cls := "RainbowOperatorsModel", name := "takes", desc := "(I)V" } : Jvm.MethodName)) ∈ lw_all := lw_g (lw_at lw_m11 141 rfl) rfl
theorem q2610 : (Jvm.Cond.code ({ cls := "RainbowOperatorsModel", name := "takes", desc := "(I)V" } : Jvm.MethodName) prog_22_method_58_code (3 : Nat) (Option.none : Option Jvm.ClassFile.FieldType)) ∈ lw_all := lw_g (lw_at lw_m11 142 rfl) rfl
theorem q2611 : (Jvm.Cond.methodLink "RainbowOperatorsModel" (206 : Nat) ({ cls := "RainbowOperatorsModel", name := "isSame", desc := "()Z" } : Jvm.MethodName)) ∈ lw_all := lw_g (lw_at lw_m11 143 rfl) rfl
theorem q2613 : (Jvm.Cond.instanceMethod ({ cls := "RainbowOperatorsModel", name := "isSame", desc := "()Z" } : Jvm.MethodName)) ∈ lw_all := lw_g (lw_at lw_m11 145 rfl) rfl
theorem q2614 : (Jvm.Cond.code ({ cls := "RainbowOperatorsModel", name := "isSame", desc := "()Z" } : Jvm.MethodName) prog_22_method_57_code (2 : Nat) (Option.some Jvm.ClassFile.FieldType.boolean)) ∈ lw_all := lw_g (lw_at lw_m11 146 rfl) rfl
theorem q2615 : (Jvm.Cond.methodLink "RainbowOperatorsModel" (209 : Nat) ({ cls := "RainbowOperatorsModel", name := "inserts", desc := "(III)V" } : Jvm.MethodName)) ∈ lw_all := lw_g (lw_at lw_m11 147 rfl) rfl
theorem q2617 : (Jvm.Cond.instanceMethod ({ cls := "RainbowOperatorsModel", name := "inserts", desc := "(III)V" } : Jvm.MethodName)) ∈ lw_all := lw_g (lw_at lw_m11 149 rfl) rfl
theorem q2618 : (Jvm.Cond.code ({ cls := "RainbowOperatorsModel", name := "inserts", desc := "(III)V" } : Jvm.MethodName) prog_22_method_59_code (5 : Nat) (Option.none : Option Jvm.ClassFile.FieldType)) ∈ lw_all := lw_g (lw_at lw_m11 150 rfl) rfl
theorem q2623 : (Jvm.Cond.methodLink "RainbowOperatorsModel" (233 : Nat) ({ cls := "RainbowOperatorsModel", name := "bracketMany", desc := "()J" } : Jvm.MethodName)) ∈ lw_all := lw_g (lw_at lw_m11 155 rfl) rfl
theorem q2625 : (Jvm.Cond.instanceMethod ({ cls := "RainbowOperatorsModel", name := "bracketMany", desc := "()J" } : Jvm.MethodName)) ∈ lw_all := lw_g (lw_at lw_m11 157 rfl) rfl
theorem q2626 : (Jvm.Cond.code ({ cls := "RainbowOperatorsModel", name := "bracketMany", desc := "()J" } : Jvm.MethodName) prog_22_method_66_code (1 : Nat) (Option.some Jvm.ClassFile.FieldType.long)) ∈ lw_all := lw_g (lw_at lw_m11 158 rfl) rfl
theorem q2627 : (Jvm.Cond.methodLink "RainbowOperatorsModel" (230 : Nat) ({ cls := "RainbowOperatorsModel", name := "brackets", desc := "()I" } : Jvm.MethodName)) ∈ lw_all := lw_g (lw_at lw_m11 159 rfl) rfl
theorem q2629 : (Jvm.Cond.instanceMethod ({ cls := "RainbowOperatorsModel", name := "brackets", desc := "()I" } : Jvm.MethodName)) ∈ lw_all := lw_g (lw_at lw_m11 161 rfl) rfl
theorem q2630 : (Jvm.Cond.code ({ cls := "RainbowOperatorsModel", name := "brackets", desc := "()I" } : Jvm.MethodName) prog_22_method_64_code (6 : Nat) (Option.some Jvm.ClassFile.FieldType.int)) ∈ lw_all := lw_g (lw_at lw_m11 162 rfl) rfl
theorem q2631 : (Jvm.Cond.methodLink "RainbowOperatorsModel" (223 : Nat) ({ cls := "RainbowOperatorsModel", name := "rows", desc := "()V" } : Jvm.MethodName)) ∈ lw_all := lw_g (lw_at lw_m11 163 rfl) rfl
theorem q2633 : (Jvm.Cond.instanceMethod ({ cls := "RainbowOperatorsModel", name := "rows", desc := "()V" } : Jvm.MethodName)) ∈ lw_all := lw_g (lw_at lw_m11 165 rfl) rfl
theorem q2634 : (Jvm.Cond.code ({ cls := "RainbowOperatorsModel", name := "rows", desc := "()V" } : Jvm.MethodName) prog_22_method_63_code (2 : Nat) (Option.none : Option Jvm.ClassFile.FieldType)) ∈ lw_all := lw_g (lw_at lw_m11 166 rfl) rfl
theorem q2635 : (Jvm.Cond.methodLink "RainbowOperatorsModel" (226 : Nat) ({ cls := "RainbowOperatorsModel", name := "joins", desc := "(IIII)I" } : Jvm.MethodName)) ∈ lw_all := lw_g (lw_at lw_m11 167 rfl) rfl
theorem q2637 : (Jvm.Cond.instanceMethod ({ cls := "RainbowOperatorsModel", name := "joins", desc := "(IIII)I" } : Jvm.MethodName)) ∈ lw_all := lw_g (lw_at lw_m11 169 rfl) rfl
theorem q2638 : (Jvm.Cond.code ({ cls := "RainbowOperatorsModel", name := "joins", desc := "(IIII)I" } : Jvm.MethodName) prog_22_method_65_code (8 : Nat) (Option.some Jvm.ClassFile.FieldType.int)) ∈ lw_all := lw_g (lw_at lw_m11 170 rfl) rfl
theorem q2647 : (Jvm.Cond.methodLink "RainbowOperatorsModel" (237 : Nat) ({ cls := "RainbowOperatorsModel", name := "best", desc := "()I" } : Jvm.MethodName)) ∈ lw_all := lw_g (lw_at lw_m11 179 rfl) rfl
theorem q2649 : (Jvm.Cond.instanceMethod ({ cls := "RainbowOperatorsModel", name := "best", desc := "()I" } : Jvm.MethodName)) ∈ lw_all := lw_g (lw_at lw_m11 181 rfl) rfl
theorem q2650 : (Jvm.Cond.code ({ cls := "RainbowOperatorsModel", name := "best", desc := "()I" } : Jvm.MethodName) prog_22_method_69_code (4 : Nat) (Option.some Jvm.ClassFile.FieldType.int)) ∈ lw_all := lw_g (lw_at lw_m11 182 rfl) rfl
theorem q2663 : (Jvm.Cond.constantDouble "RainbowOperatorsModel" (240 : Nat) (4617315517961601024 : UInt64)) ∈ lw_all := lw_g (lw_at lw_m11 195 rfl) rfl
theorem q2679 : (Jvm.Cond.code ({ cls := "RainbowOperatorsModel", name := "isText", desc := "()Z" } : Jvm.MethodName) prog_22_method_82_code (1 : Nat) (Option.some Jvm.ClassFile.FieldType.boolean)) ∈ lw_all := lw_g (lw_at lw_m11 211 rfl) rfl
theorem q2683 : (Jvm.Cond.code ({ cls := "RainbowOperatorsModel", name := "commandHere", desc := "()Z" } : Jvm.MethodName) prog_22_method_81_code (2 : Nat) (Option.some Jvm.ClassFile.FieldType.boolean)) ∈ lw_all := lw_g (lw_at lw_m11 215 rfl) rfl
theorem q2684 : (Jvm.Cond.methodLink "RainbowOperatorsModel" (261 : Nat) ({ cls := "RainbowOperatorsModel", name := "skips", desc := "(I)Z" } : Jvm.MethodName)) ∈ lw_all := lw_g (lw_at lw_m11 216 rfl) rfl
theorem q2686 : (Jvm.Cond.instanceMethod ({ cls := "RainbowOperatorsModel", name := "skips", desc := "(I)Z" } : Jvm.MethodName)) ∈ lw_all := lw_g (lw_at lw_m11 218 rfl) rfl
theorem q2687 : (Jvm.Cond.code ({ cls := "RainbowOperatorsModel", name := "skips", desc := "(I)Z" } : Jvm.MethodName) prog_22_method_77_code (2 : Nat) (Option.some Jvm.ClassFile.FieldType.boolean)) ∈ lw_all := lw_g (lw_at lw_m11 219 rfl) rfl
theorem q2688 : (Jvm.Cond.methodLink "RainbowOperatorsModel" (248 : Nat) ({ cls := "RainbowOperatorsModel", name := "here", desc := "()I" } : Jvm.MethodName)) ∈ lw_all := lw_g (lw_at lw_m11 220 rfl) rfl
theorem q2690 : (Jvm.Cond.instanceMethod ({ cls := "RainbowOperatorsModel", name := "here", desc := "()I" } : Jvm.MethodName)) ∈ lw_all := lw_g (lw_at lw_m11 222 rfl) rfl
theorem q2691 : (Jvm.Cond.code ({ cls := "RainbowOperatorsModel", name := "here", desc := "()I" } : Jvm.MethodName) prog_22_method_76_code (1 : Nat) (Option.some Jvm.ClassFile.FieldType.int)) ∈ lw_all := lw_g (lw_at lw_m11 223 rfl) rfl
theorem q2717 : (Jvm.Cond.methodLink "RainbowOperatorsModel" (296 : Nat) ({ cls := "RainbowOperatorsModel", name := "puts", desc := "(II)I" } : Jvm.MethodName)) ∈ lw_all := lw_g (lw_at lw_m12 9 rfl) rfl
theorem q2719 : (Jvm.Cond.instanceMethod ({ cls := "RainbowOperatorsModel", name := "puts", desc := "(II)I" } : Jvm.MethodName)) ∈ lw_all := lw_g (lw_at lw_m12 11 rfl) rfl
theorem q2720 : (Jvm.Cond.code ({ cls := "RainbowOperatorsModel", name := "puts", desc := "(II)I" } : Jvm.MethodName) prog_22_method_83_code (5 : Nat) (Option.some Jvm.ClassFile.FieldType.int)) ∈ lw_all := lw_g (lw_at lw_m12 12 rfl) rfl
theorem q2721 : (Jvm.Cond.methodLink "RainbowOperatorsModel" (292 : Nat) ({ cls := "RainbowOperatorsModel", name := "put", desc := "(C)I" } : Jvm.MethodName)) ∈ lw_all := lw_g (lw_at lw_m12 13 rfl) rfl
theorem q2722 : (Jvm.Cond.methodLink "RainbowOperatorsModel" (299 : Nat) ({ cls := "RainbowOperatorsModel", name := "erase", desc := "()C" } : Jvm.MethodName)) ∈ lw_all := lw_g (lw_at lw_m12 14 rfl) rfl
theorem q2723 : (Jvm.Cond.methodLink "RainbowOperatorsModel" (303 : Nat) ({ cls := "RainbowOperatorsModel", name := "clear", desc := "()I" } : Jvm.MethodName)) ∈ lw_all := lw_g (lw_at lw_m12 15 rfl) rfl
theorem q2724 : (Jvm.Cond.methodLink "RainbowOperatorsModel" (306 : Nat) ({ cls := "RainbowOperatorsModel", name := "setColour", desc := "(CI)I" } : Jvm.MethodName)) ∈ lw_all := lw_g (lw_at lw_m12 16 rfl) rfl
theorem q2725 : (Jvm.Cond.methodLink "RainbowOperatorsModel" (310 : Nat) ({ cls := "RainbowOperatorsModel", name := "setMeaning", desc := "(CC)C" } : Jvm.MethodName)) ∈ lw_all := lw_g (lw_at lw_m12 17 rfl) rfl
theorem q2726 : (Jvm.Cond.methodLink "RainbowOperatorsModel" (314 : Nat) ({ cls := "RainbowOperatorsModel", name := "turnStorm", desc := "(I)I" } : Jvm.MethodName)) ∈ lw_all := lw_g (lw_at lw_m12 18 rfl) rfl
theorem q2727 : (Jvm.Cond.methodLink "RainbowOperatorsModel" (317 : Nat) ({ cls := "RainbowOperatorsModel", name := "keep", desc := "(C)I" } : Jvm.MethodName)) ∈ lw_all := lw_g (lw_at lw_m12 19 rfl) rfl
theorem q2740 : (Jvm.Cond.methodLink "RainbowOperatorsModel" (332 : Nat) ({ cls := "RainbowOperatorsModel", name := "writesFull", desc := "(II)V" } : Jvm.MethodName)) ∈ lw_all := lw_g (lw_at lw_m12 32 rfl) rfl
theorem q2742 : (Jvm.Cond.instanceMethod ({ cls := "RainbowOperatorsModel", name := "writesFull", desc := "(II)V" } : Jvm.MethodName)) ∈ lw_all := lw_g (lw_at lw_m12 34 rfl) rfl
theorem q2743 : (Jvm.Cond.code ({ cls := "RainbowOperatorsModel", name := "writesFull", desc := "(II)V" } : Jvm.MethodName) prog_22_method_89_code (4 : Nat) (Option.none : Option Jvm.ClassFile.FieldType)) ∈ lw_all := lw_g (lw_at lw_m12 35 rfl) rfl
theorem q2744 : (Jvm.Cond.methodLink "RainbowOperatorsModel" (335 : Nat) ({ cls := "RainbowOperatorsModel", name := "writes", desc := "(I)V" } : Jvm.MethodName)) ∈ lw_all := lw_g (lw_at lw_m12 36 rfl) rfl
theorem q2746 : (Jvm.Cond.instanceMethod ({ cls := "RainbowOperatorsModel", name := "writes", desc := "(I)V" } : Jvm.MethodName)) ∈ lw_all := lw_g (lw_at lw_m12 38 rfl) rfl
theorem q2747 : (Jvm.Cond.code ({ cls := "RainbowOperatorsModel", name := "writes", desc := "(I)V" } : Jvm.MethodName) prog_22_method_88_code (2 : Nat) (Option.none : Option Jvm.ClassFile.FieldType)) ∈ lw_all := lw_g (lw_at lw_m12 39 rfl) rfl
theorem fl_X4_73_X4 : FL RX4 73 2 8 := ⟨RX4, TX4, 34, tyX4, ck_X4, by decide, Or.inl q2291⟩
theorem mi_X4_isCharacter : MIc yX4_isCharacter cX4_isCharacter 1 (some .boolean) 1 := ⟨q2397, q79, by decide, by decide, by decide +kernel⟩
theorem mi_X4_isOperand : MIc yX4_isOperand cX4_isOperand 1 (some .boolean) 1 := ⟨q2400, q79, by decide, by decide, by decide +kernel⟩
theorem mi_X4_in : MIc yX4_in cX4_in 3 (some .boolean) 3 := ⟨q2403, q79, by decide, by decide, by decide +kernel⟩
theorem ss_X4_103 : SS RX4 103 yX4_in := ⟨q2401, q2402⟩
theorem mi_X4_isSky : MIc yX4_isSky cX4_isSky 1 (some .boolean) 1 := ⟨q2406, q79, by decide, by decide, by decide +kernel⟩
theorem ss_X4_107 : SS RX4 107 yX4_isSky := ⟨q2404, q2405⟩
theorem ss_X4_111 : SS RX4 111 yX4_isOperand := ⟨q2398, q2399⟩
theorem mi_X4_signOf : MIc yX4_signOf cX4_signOf 1 (some .int) 1 := ⟨q2409, q79, by decide, by decide, by decide +kernel⟩
theorem ss_X4_99 : SS RX4 99 yX4_signOf := ⟨q2407, q2408⟩
theorem mi_X4_isSun : MIc yX4_isSun cX4_isSun 1 (some .boolean) 1 := ⟨q2412, q79, by decide, by decide, by decide +kernel⟩
theorem ss_X4_114 : SS RX4 114 yX4_isSun := ⟨q2410, q2411⟩
theorem ss_X4_120 : SS RX4 120 yX4_isCharacter := ⟨q2395, q2396⟩
theorem mi_X4_fails : MIc yX4_fails cX4_fails 2 (some .boolean) 1 := ⟨q2416, q79, by decide, by decide, by decide +kernel⟩
theorem fw_X4_73_X4 : FW RX4 73 2 8 .int := ⟨RX4, TX4, 34, tyX4, ck_X4, by decide, Or.inl q2291, rfl, rfl⟩
theorem fw_X4_76_X4 : FW RX4 76 2 7 .boolean := ⟨RX4, TX4, 34, tyX4, ck_X4, by decide, Or.inl q2290, rfl, rfl⟩
theorem sv_X4_123 : SV RX4 123 yX4_fails := ⟨q2413, q2415, qs27⟩
theorem fl_X4_7_X4 : FL RX4 7 2 0 := ⟨RX4, TX4, 34, tyX4, ck_X4, by decide, Or.inl q2283⟩
theorem mi_X4_keeps : MIc yX4_keeps cX4_keeps 3 none 1 := ⟨q2432, q79, by decide, by decide, by decide +kernel⟩
theorem fl_X4_89_X4 : FL RX4 89 2 6 := ⟨RX4, TX4, 34, tyX4, ck_X4, by decide, Or.inl q2289⟩
theorem fl_X4_92_X4 : FL RX4 92 2 5 := ⟨RX4, TX4, 34, tyX4, ck_X4, by decide, Or.inl q2288⟩
theorem fw_X4_92_X4 : FW RX4 92 2 5 .int := ⟨RX4, TX4, 34, tyX4, ck_X4, by decide, Or.inl q2288, rfl, rfl⟩
theorem fl_X4_13_X4 : FL RX4 13 2 1 := ⟨RX4, TX4, 34, tyX4, ck_X4, by decide, Or.inl q2284⟩
theorem mi_X4_copies : MIc yX4_copies cX4_copies 5 none 4 := ⟨q2435, q79, by decide, by decide, by decide +kernel⟩
theorem ss_X4_95 : SS RX4 95 yX4_copies := ⟨q2433, q2434⟩
theorem sv_X4_134 : SV RX4 134 yX4_keeps := ⟨q2429, q2431, qs31⟩
theorem mi_X4_operandMany : MIc yX4_operandMany cX4_operandMany 3 (some .int) 0 := ⟨q2424, q79, by decide, by decide, by decide +kernel⟩
theorem mi_X4_draft : MIc yX4_draft cX4_draft 2 (some .int) 1 := ⟨q2428, q79, by decide, by decide, by decide +kernel⟩
theorem sv_X4_117 : SV RX4 117 yX4_draft := ⟨q2425, q2427, qs30⟩
theorem sv_X4_130 : SV RX4 130 yX4_operandMany := ⟨q2421, q2423, qs29⟩
theorem mi_X4_denies : MIc yX4_denies cX4_denies 4 (some .int) 3 := ⟨q2420, q79, by decide, by decide, by decide +kernel⟩
theorem fw_X4_80_X4 : FW RX4 80 2 9 .int := ⟨RX4, TX4, 34, tyX4, ck_X4, by decide, Or.inl q2292, rfl, rfl⟩
theorem fw_X4_83_X4 : FW RX4 83 2 10 .int := ⟨RX4, TX4, 34, tyX4, ck_X4, by decide, Or.inl q2293, rfl, rfl⟩
theorem fw_X4_86_X4 : FW RX4 86 2 11 .int := ⟨RX4, TX4, 34, tyX4, ck_X4, by decide, Or.inl q2294, rfl, rfl⟩
theorem sv_X4_126 : SV RX4 126 yX4_denies := ⟨q2417, q2419, qs28⟩
theorem mi_X4_broken : MIc yX4_broken cX4_broken 6 (some .int) 0 := ⟨q2463, q79, by decide, by decide, by decide +kernel⟩
theorem mi_X4_isOperator : MIc yX4_isOperator cX4_isOperator 1 (some .boolean) 1 := ⟨q2466, q79, by decide, by decide, by decide +kernel⟩
theorem ss_X4_138 : SS RX4 138 yX4_isOperator := ⟨q2464, q2465⟩
theorem sv_X4_141 : SV RX4 141 yX4_broken := ⟨q2460, q2462, qs32⟩
theorem mi_X4_isMeaning : MIc yX4_isMeaning cX4_isMeaning 1 (some .boolean) 1 := ⟨q2481, q79, by decide, by decide, by decide +kernel⟩
theorem ss_X4_144 : SS RX4 144 yX4_isMeaning := ⟨q2479, q2480⟩
theorem mi_X4_isRight : MIc yX4_isRight cX4_isRight 2 (some .boolean) 1 := ⟨q2489, q79, by decide, by decide, by decide +kernel⟩
theorem sv_X4_147 : SV RX4 147 yX4_isRight := ⟨q2486, q2488, qs33⟩
theorem mi_X4_operator : MIc yX4_operator cX4_operator 1 (some .char) 1 := ⟨q2508, q79, by decide, by decide, by decide +kernel⟩
theorem ss_X4_150 : SS RX4 150 yX4_operator := ⟨q2506, q2507⟩
theorem mi_X4_makes : MIc yX4_makes cX4_makes 3 (some .int) 3 := ⟨q2515, q79, by decide, by decide, by decide +kernel⟩
theorem mi_X4_most : MIc yX4_most cX4_most 2 (some .int) 2 := ⟨q2518, q79, by decide, by decide, by decide +kernel⟩
theorem ss_X4_154 : SS RX4 154 yX4_most := ⟨q2516, q2517⟩
theorem ss_X4_158 : SS RX4 158 yX4_makes := ⟨q2513, q2514⟩
theorem mi_X4_worthAll : MIc yX4_worthAll cX4_worthAll 1 (some .int) 0 := ⟨q2526, q79, by decide, by decide, by decide +kernel⟩
theorem mi_X4_isDraft : MIc yX4_isDraft cX4_isDraft 3 (some .boolean) 0 := ⟨q2530, q79, by decide, by decide, by decide +kernel⟩
theorem fw_X4_161_X4 : FW RX4 161 2 19 .int := ⟨RX4, TX4, 34, tyX4, ck_X4, by decide, Or.inl q2302, rfl, rfl⟩
theorem fl_X4_161_X4 : FL RX4 161 2 19 := ⟨RX4, TX4, 34, tyX4, ck_X4, by decide, Or.inl q2302⟩
theorem fl_X4_33_X4 : FL RX4 33 2 17 := ⟨RX4, TX4, 34, tyX4, ck_X4, by decide, Or.inl q2300⟩
theorem fl_X4_36_X4 : FL RX4 36 2 18 := ⟨RX4, TX4, 34, tyX4, ck_X4, by decide, Or.inl q2301⟩
theorem sv_X4_185 : SV RX4 185 yX4_isDraft := ⟨q2527, q2529, qs35⟩
theorem mi_X4_worth : MIc yX4_worth cX4_worth 5 (some .int) 2 := ⟨q2534, q79, by decide, by decide, by decide +kernel⟩
theorem mi_X4_split : MIc yX4_split cX4_split 6 (some .int) 2 := ⟨q2538, q79, by decide, by decide, by decide +kernel⟩
theorem mi_X4_behind : MIc yX4_behind cX4_behind 3 (some .int) 1 := ⟨q2542, q79, by decide, by decide, by decide +kernel⟩
theorem mi_X4_closing : MIc yX4_closing cX4_closing 4 (some .int) 1 := ⟨q2546, q79, by decide, by decide, by decide +kernel⟩
theorem sv_X4_164 : SV RX4 164 yX4_closing := ⟨q2543, q2545, qs39⟩
theorem sv_X4_167 : SV RX4 167 yX4_behind := ⟨q2539, q2541, qs38⟩
theorem mi_X4_shade : MIc yX4_shade cX4_shade 2 (some .int) 1 := ⟨q2550, q79, by decide, by decide, by decide +kernel⟩
theorem sv_X4_170 : SV RX4 170 yX4_shade := ⟨q2547, q2549, qs40⟩
theorem sv_X4_173 : SV RX4 173 yX4_split := ⟨q2535, q2537, qs37⟩
theorem mi_X4_operandValue : MIc yX4_operandValue cX4_operandValue 2 (some .int) 1 := ⟨q2554, q79, by decide, by decide, by decide +kernel⟩
theorem sv_X4_179 : SV RX4 179 yX4_operandValue := ⟨q2551, q2553, qs41⟩
theorem sv_X4_176 : SV RX4 176 yX4_worth := ⟨q2531, q2533, qs36⟩
theorem sv_X4_189 : SV RX4 189 yX4_worthAll := ⟨q2523, q2525, qs34⟩
theorem mi_X4_tall : MIc yX4_tall cX4_tall 5 (some .int) 2 := ⟨q2570, q79, by decide, by decide, by decide +kernel⟩
theorem sv_X4_182 : SV RX4 182 yX4_tall := ⟨q2567, q2569, qs42⟩
theorem mi_X4_remembers : MIc yX4_remembers cX4_remembers 2 none 0 := ⟨q2590, q79, by decide, by decide, by decide +kernel⟩
theorem mi_X4_appliesAll : MIc yX4_appliesAll cX4_appliesAll 2 none 0 := ⟨q2594, q79, by decide, by decide, by decide +kernel⟩
theorem mi_X4_applies : MIc yX4_applies cX4_applies 4 none 2 := ⟨q2598, q79, by decide, by decide, by decide +kernel⟩
theorem fl_X4_42_X4 : FL RX4 42 2 21 := ⟨RX4, TX4, 34, tyX4, ck_X4, by decide, Or.inl q2304⟩
theorem mi_X4_placesOf : MIc yX4_placesOf cX4_placesOf 5 (some .int) 2 := ⟨q2602, q79, by decide, by decide, by decide +kernel⟩
theorem sv_X4_192 : SV RX4 192 yX4_placesOf := ⟨q2599, q2601, qs46⟩
theorem sv_X4_195 : SV RX4 195 yX4_applies := ⟨q2595, q2597, qs45⟩
theorem fl_X4_39_X4 : FL RX4 39 2 20 := ⟨RX4, TX4, 34, tyX4, ck_X4, by decide, Or.inl q2303⟩
theorem sv_X4_199 : SV RX4 199 yX4_appliesAll := ⟨q2591, q2593, qs44⟩
theorem fl_X4_45_X4 : FL RX4 45 2 22 := ⟨RX4, TX4, 34, tyX4, ck_X4, by decide, Or.inl q2305⟩
theorem fl_X4_48_X4 : FL RX4 48 2 23 := ⟨RX4, TX4, 34, tyX4, ck_X4, by decide, Or.inl q2306⟩
theorem sv_X4_213 : SV RX4 213 yX4_remembers := ⟨q2587, q2589, qs43⟩
theorem mi_X4_isIdle : MIc yX4_isIdle cX4_isIdle 7 (some .boolean) 2 := ⟨q2606, q79, by decide, by decide, by decide +kernel⟩
theorem mi_X4_takes : MIc yX4_takes cX4_takes 3 none 1 := ⟨q2610, q79, by decide, by decide, by decide +kernel⟩
theorem sv_X4_202 : SV RX4 202 yX4_takes := ⟨q2607, q2609, qs48⟩
theorem mi_X4_isSame : MIc yX4_isSame cX4_isSame 2 (some .boolean) 0 := ⟨q2614, q79, by decide, by decide, by decide +kernel⟩
theorem sv_X4_206 : SV RX4 206 yX4_isSame := ⟨q2611, q2613, qs49⟩
theorem mi_X4_inserts : MIc yX4_inserts cX4_inserts 5 none 3 := ⟨q2618, q79, by decide, by decide, by decide +kernel⟩
theorem sv_X4_209 : SV RX4 209 yX4_inserts := ⟨q2615, q2617, qs50⟩
theorem sv_X4_216 : SV RX4 216 yX4_isIdle := ⟨q2603, q2605, qs47⟩
theorem mi_X4_bracketMany : MIc yX4_bracketMany cX4_bracketMany 1 (some .long) 0 := ⟨q2626, q79, by decide, by decide, by decide +kernel⟩
theorem mi_X4_brackets : MIc yX4_brackets cX4_brackets 6 (some .int) 0 := ⟨q2630, q79, by decide, by decide, by decide +kernel⟩
theorem mi_X4_rows : MIc yX4_rows cX4_rows 2 none 0 := ⟨q2634, q79, by decide, by decide, by decide +kernel⟩
theorem fw_X4_220_X4 : FW RX4 220 2 26 .int := ⟨RX4, TX4, 34, tyX4, ck_X4, by decide, Or.inl q2309, rfl, rfl⟩
theorem fl_X4_51_X4 : FL RX4 51 2 24 := ⟨RX4, TX4, 34, tyX4, ck_X4, by decide, Or.inl q2307⟩
theorem fl_X4_220_X4 : FL RX4 220 2 26 := ⟨RX4, TX4, 34, tyX4, ck_X4, by decide, Or.inl q2309⟩
theorem fl_X4_54_X4 : FL RX4 54 2 25 := ⟨RX4, TX4, 34, tyX4, ck_X4, by decide, Or.inl q2308⟩
theorem sv_X4_223 : SV RX4 223 yX4_rows := ⟨q2631, q2633, qs53⟩
theorem fl_X4_63_X4 : FL RX4 63 2 29 := ⟨RX4, TX4, 34, tyX4, ck_X4, by decide, Or.inl q2312⟩
theorem fl_X4_60_X4 : FL RX4 60 2 28 := ⟨RX4, TX4, 34, tyX4, ck_X4, by decide, Or.inl q2311⟩
theorem fl_X4_57_X4 : FL RX4 57 2 27 := ⟨RX4, TX4, 34, tyX4, ck_X4, by decide, Or.inl q2310⟩
theorem mi_X4_joins : MIc yX4_joins cX4_joins 8 (some .int) 4 := ⟨q2638, q79, by decide, by decide, by decide +kernel⟩
theorem sv_X4_226 : SV RX4 226 yX4_joins := ⟨q2635, q2637, qs54⟩
theorem sv_X4_230 : SV RX4 230 yX4_brackets := ⟨q2627, q2629, qs52⟩
theorem sv_X4_233 : SV RX4 233 yX4_bracketMany := ⟨q2623, q2625, qs51⟩
theorem mi_X4_best : MIc yX4_best cX4_best 4 (some .int) 0 := ⟨q2650, q79, by decide, by decide, by decide +kernel⟩
theorem sv_X4_237 : SV RX4 237 yX4_best := ⟨q2647, q2649, qs55⟩
theorem fl_X4_66_X4 : FL RX4 66 2 30 := ⟨RX4, TX4, 34, tyX4, ck_X4, by decide, Or.inl q2313⟩
theorem fl_X4_242_X4 : FL RX4 242 2 13 := ⟨RX4, TX4, 34, tyX4, ck_X4, by decide, Or.inl q2296⟩
theorem fl_X4_22_X4 : FL RX4 22 2 12 := ⟨RX4, TX4, 34, tyX4, ck_X4, by decide, Or.inl q2295⟩
theorem fw_X4_242_X4 : FW RX4 242 2 13 .int := ⟨RX4, TX4, 34, tyX4, ck_X4, by decide, Or.inl q2296, rfl, rfl⟩
theorem mi_X4_isText : MIc yX4_isText cX4_isText 1 (some .boolean) 0 := ⟨q2679, q79, by decide, by decide, by decide +kernel⟩
theorem fw_X4_245_X4 : FW RX4 245 2 31 .int := ⟨RX4, TX4, 34, tyX4, ck_X4, by decide, Or.inl q2314, rfl, rfl⟩
theorem fw_X4_251_X4 : FW RX4 251 2 33 .int := ⟨RX4, TX4, 34, tyX4, ck_X4, by decide, Or.inl q2316, rfl, rfl⟩
theorem mi_X4_commandHere : MIc yX4_commandHere cX4_commandHere 2 (some .boolean) 0 := ⟨q2683, q79, by decide, by decide, by decide +kernel⟩
theorem fl_X4_251_X4 : FL RX4 251 2 33 := ⟨RX4, TX4, 34, tyX4, ck_X4, by decide, Or.inl q2316⟩
theorem mi_X4_skips : MIc yX4_skips cX4_skips 2 (some .boolean) 1 := ⟨q2687, q79, by decide, by decide, by decide +kernel⟩
theorem mi_X4_here : MIc yX4_here cX4_here 1 (some .int) 0 := ⟨q2691, q79, by decide, by decide, by decide +kernel⟩
theorem fl_X4_245_X4 : FL RX4 245 2 31 := ⟨RX4, TX4, 34, tyX4, ck_X4, by decide, Or.inl q2314⟩
theorem sv_X4_248 : SV RX4 248 yX4_here := ⟨q2688, q2690, qs59⟩
theorem sv_X4_261 : SV RX4 261 yX4_skips := ⟨q2684, q2686, qs58⟩
theorem fl_X4_70_X4 : FL RX4 70 2 32 := ⟨RX4, TX4, 34, tyX4, ck_X4, by decide, Or.inl q2315⟩
theorem mi_X4_puts : MIc yX4_puts cX4_puts 5 (some .int) 2 := ⟨q2720, q79, by decide, by decide, by decide +kernel⟩
theorem mi_X4_put : MIc yX4_put cX4_put 2 (some .int) 1 := ⟨q2394, q79, by decide, by decide, by decide +kernel⟩
theorem sv_X4_292 : SV RX4 292 yX4_put := ⟨q2721, q2392, q2393⟩
theorem sv_X4_296 : SV RX4 296 yX4_puts := ⟨q2717, q2719, qs64⟩
theorem mi_X4_erase : MIc yX4_erase cX4_erase 3 (some .char) 0 := ⟨q2439, q79, by decide, by decide, by decide +kernel⟩
theorem sv_X4_299 : SV RX4 299 yX4_erase := ⟨q2722, q2437, q2438⟩
theorem mi_X4_clear : MIc yX4_clear cX4_clear 3 (some .int) 0 := ⟨q2443, q79, by decide, by decide, by decide +kernel⟩
theorem sv_X4_303 : SV RX4 303 yX4_clear := ⟨q2723, q2441, q2442⟩
theorem mi_X4_setColour : MIc yX4_setColour cX4_setColour 4 (some .int) 2 := ⟨q2474, q79, by decide, by decide, by decide +kernel⟩
theorem sv_X4_306 : SV RX4 306 yX4_setColour := ⟨q2724, q2472, q2473⟩
theorem mi_X4_setMeaning : MIc yX4_setMeaning cX4_setMeaning 4 (some .char) 2 := ⟨q2478, q79, by decide, by decide, by decide +kernel⟩
theorem sv_X4_310 : SV RX4 310 yX4_setMeaning := ⟨q2725, q2476, q2477⟩
theorem mi_X4_turnStorm : MIc yX4_turnStorm cX4_turnStorm 4 (some .int) 1 := ⟨q2485, q79, by decide, by decide, by decide +kernel⟩
theorem sv_X4_314 : SV RX4 314 yX4_turnStorm := ⟨q2726, q2483, q2484⟩
theorem mi_X4_keep : MIc yX4_keep cX4_keep 4 (some .int) 1 := ⟨q2574, q79, by decide, by decide, by decide +kernel⟩
theorem sv_X4_317 : SV RX4 317 yX4_keep := ⟨q2727, q2572, q2573⟩
theorem fl_X4_76_X4 : FL RX4 76 2 7 := ⟨RX4, TX4, 34, tyX4, ck_X4, by decide, Or.inl q2290⟩
theorem fl_X4_80_X4 : FL RX4 80 2 9 := ⟨RX4, TX4, 34, tyX4, ck_X4, by decide, Or.inl q2292⟩
theorem fl_X4_25_X4 : FL RX4 25 2 14 := ⟨RX4, TX4, 34, tyX4, ck_X4, by decide, Or.inl q2297⟩
theorem fw_X4_329_X4 : FW RX4 329 2 16 .int := ⟨RX4, TX4, 34, tyX4, ck_X4, by decide, Or.inl q2299, rfl, rfl⟩
theorem mi_X4_writesFull : MIc yX4_writesFull cX4_writesFull 4 none 2 := ⟨q2743, q79, by decide, by decide, by decide +kernel⟩
theorem mi_X4_writes : MIc yX4_writes cX4_writes 2 none 1 := ⟨q2747, q79, by decide, by decide, by decide +kernel⟩
theorem fl_X4_29_X4 : FL RX4 29 2 15 := ⟨RX4, TX4, 34, tyX4, ck_X4, by decide, Or.inl q2298⟩
theorem fl_X4_329_X4 : FL RX4 329 2 16 := ⟨RX4, TX4, 34, tyX4, ck_X4, by decide, Or.inl q2299⟩
theorem sv_X4_335 : SV RX4 335 yX4_writes := ⟨q2744, q2746, qs67⟩
theorem sv_X4_332 : SV RX4 332 yX4_writesFull := ⟨q2740, q2742, qs66⟩
theorem fl_X4_83_X4 : FL RX4 83 2 10 := ⟨RX4, TX4, 34, tyX4, ck_X4, by decide, Or.inl q2293⟩
theorem fl_X4_86_X4 : FL RX4 86 2 11 := ⟨RX4, TX4, 34, tyX4, ck_X4, by decide, Or.inl q2294⟩
theorem fw_X4_338_X4 : FW RX4 338 2 4 .boolean := ⟨RX4, TX4, 34, tyX4, ck_X4, by decide, Or.inl q2287, rfl, rfl⟩
theorem fl_X4_16_X4 : FL RX4 16 2 2 := ⟨RX4, TX4, 34, tyX4, ck_X4, by decide, Or.inl q2285⟩
theorem fl_X4_338_X4 : FL RX4 338 2 4 := ⟨RX4, TX4, 34, tyX4, ck_X4, by decide, Or.inl q2287⟩
