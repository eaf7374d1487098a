set_option maxRecDepth 100000
/-! DECODE ROWS BY BYTES: one lemma an opcode; a method's code is cut into short pieces once, and a row reads its own piece alone. -/
set_option maxRecDepth 100000
/-- the code has just these bytes from pc on -/
def DkAt (code : ByteArray) (pc : Nat) (bs : List UInt8) : Prop := ∀ (j : Nat) (b : UInt8), bs[j]? = some b → code.data.toList[pc + j]? = some b
/-- the piece W has the bytes bs from its place j on -/
def dkIn (W : List UInt8) (j : Nat) (bs : List UInt8) : Bool := decide ((W.drop j).take bs.length = bs)
theorem dk_seg {l W T : List UInt8} {o o2 : Nat} (h : l.drop o = W ++ T) (n : Nat) (hn : W.length = n) (ho : o + n = o2) : l.drop o2 = T := by
  subst ho
  rw [← List.drop_drop, h, List.drop_left' hn]
theorem dk_at {code : ByteArray} {W T bs : List UInt8} {o pc : Nat} (h : code.data.toList.drop o = W ++ T) (j : Nat) (hp : o + j = pc) (hw : dkIn W j bs = true) : DkAt code pc bs := by
  subst hp
  intro i b e
  have h1 := of_decide_eq_true hw
  have h2 : i < bs.length := (List.getElem?_eq_some_iff.mp e).1
  have h3 : W[j + i]? = some b := by
    rw [← h1, List.getElem?_take, if_pos h2, List.getElem?_drop] at e
    exact e
  have h4 : j + i < W.length := (List.getElem?_eq_some_iff.mp h3).1
  have h5 : (code.data.toList.drop o)[j + i]? = some b := by
    rw [h, List.getElem?_append_left h4]
    exact h3
  rw [List.getElem?_drop, ← Nat.add_assoc] at h5
  exact h5
theorem dk_u1 {A : ByteArray} {p : Nat} {b : UInt8} (h : A.data.toList[p]? = some b) : (Reader.u1 : Reader DecodeError Nat) A p = .ok (b.toNat, p + 1) := by
  obtain ⟨h1, h2⟩ := List.getElem?_eq_some_iff.mp h
  have h3 : p < A.size := by simpa using h1
  have h4 : A[p]'h3 = b := h2
  have e : (Reader.u1 : Reader DecodeError Nat) A p = (if h : p < A.size then .ok (A[p].toNat, p + 1) else .error (HasTruncated.truncated p)) := by
    show (do if h : p < A.size then do set (p + 1); Pure.pure A[p].toNat else MonadExcept.throw (HasTruncated.truncated p) : Reader DecodeError Nat) A p = _
    by_cases hi : p < A.size
    · rw [dif_pos hi, dif_pos hi]; rfl
    · rw [dif_neg hi, dif_neg hi]; rfl
  rw [e, dif_pos h3, h4]
theorem dk_bind {α β : Type} {r : Reader DecodeError α} {f : α → Reader DecodeError β} {A : ByteArray} {p s : Nat} {a : α} (h : r A p = .ok (a, s)) : (r >>= f) A p = f a A s := by
  show (do let (a, s) ← r A p; f a A s : Except DecodeError (β × Nat)) = _
  rw [h]
  rfl
theorem dk_map {α β : Type} {r : Reader DecodeError α} {g : α → β} {A : ByteArray} {p s : Nat} {a : α} (h : r A p = .ok (a, s)) : (g <$> r) A p = .ok (g a, s) := by
  show (do let (a, s) ← r A p; .ok (g a, s) : Except DecodeError (β × Nat)) = _
  rw [h]
  rfl
theorem dk_u2 {A : ByteArray} {p : Nat} {a b : UInt8} (h : A.data.toList[p]? = some a) (h2 : A.data.toList[p + 1]? = some b) : (Reader.u2 : Reader DecodeError Nat) A p = .ok (a.toNat * 256 + b.toNat, p + 2) := by
  show (Reader.u1 >>= fun hi => Reader.u1 >>= fun lo => Pure.pure (hi * 256 + lo) : Reader DecodeError Nat) A p = _
  rw [dk_bind (dk_u1 h), dk_bind (dk_u1 h2)]
  rfl
theorem dk_of {code : ByteArray} {pc n : Nat} {i : Instr} (h : Decoder.instr pc code pc = .ok (i, pc + n)) : decode code pc = .ok (i, n) := by
  have e : decode code pc = (match Decoder.instr pc code pc with | .error x => .error x | .ok (j, s) => .ok (j, s - pc)) := by
    show (do let (j, s) ← Decoder.instr pc code pc; Pure.pure (j, s - pc) : Except DecodeError (Instr × Nat)) = _
    cases Decoder.instr pc code pc <;> rfl
  rw [e, h]
  show Except.ok (i, pc + n - pc) = _
  rw [Nat.add_sub_cancel_left]
theorem dk_1 {code : ByteArray} {pc : Nat} (h : DkAt code pc [1]) : decode code pc = .ok (.aconst_null, 1) := dk_of ((dk_bind (dk_u1 (h 0 _ rfl))).trans rfl)
theorem dk_2 {code : ByteArray} {pc : Nat} (h : DkAt code pc [2]) : decode code pc = .ok (.iconst (-1), 1) := dk_of ((dk_bind (dk_u1 (h 0 _ rfl))).trans rfl)
theorem dk_3 {code : ByteArray} {pc : Nat} (h : DkAt code pc [3]) : decode code pc = .ok (.iconst 0, 1) := dk_of ((dk_bind (dk_u1 (h 0 _ rfl))).trans rfl)
theorem dk_4 {code : ByteArray} {pc : Nat} (h : DkAt code pc [4]) : decode code pc = .ok (.iconst 1, 1) := dk_of ((dk_bind (dk_u1 (h 0 _ rfl))).trans rfl)
theorem dk_5 {code : ByteArray} {pc : Nat} (h : DkAt code pc [5]) : decode code pc = .ok (.iconst 2, 1) := dk_of ((dk_bind (dk_u1 (h 0 _ rfl))).trans rfl)
theorem dk_6 {code : ByteArray} {pc : Nat} (h : DkAt code pc [6]) : decode code pc = .ok (.iconst 3, 1) := dk_of ((dk_bind (dk_u1 (h 0 _ rfl))).trans rfl)
theorem dk_7 {code : ByteArray} {pc : Nat} (h : DkAt code pc [7]) : decode code pc = .ok (.iconst 4, 1) := dk_of ((dk_bind (dk_u1 (h 0 _ rfl))).trans rfl)
theorem dk_8 {code : ByteArray} {pc : Nat} (h : DkAt code pc [8]) : decode code pc = .ok (.iconst 5, 1) := dk_of ((dk_bind (dk_u1 (h 0 _ rfl))).trans rfl)
theorem dk_9 {code : ByteArray} {pc : Nat} (h : DkAt code pc [9]) : decode code pc = .ok (.lconst 0, 1) := dk_of ((dk_bind (dk_u1 (h 0 _ rfl))).trans rfl)
theorem dk_10 {code : ByteArray} {pc : Nat} (h : DkAt code pc [10]) : decode code pc = .ok (.lconst 1, 1) := dk_of ((dk_bind (dk_u1 (h 0 _ rfl))).trans rfl)
theorem dk_11 {code : ByteArray} {pc : Nat} (h : DkAt code pc [11]) : decode code pc = .ok (.fconst 0, 1) := dk_of ((dk_bind (dk_u1 (h 0 _ rfl))).trans rfl)
theorem dk_14 {code : ByteArray} {pc : Nat} (h : DkAt code pc [14]) : decode code pc = .ok (.dconst 0, 1) := dk_of ((dk_bind (dk_u1 (h 0 _ rfl))).trans rfl)
theorem dk_16 {code : ByteArray} {pc : Nat} (a : UInt8) (h : DkAt code pc [16, a]) : decode code pc = .ok (.bipush (Reader.signed 8 a.toNat), 2) := dk_of ((dk_bind (dk_u1 (h 0 _ rfl))).trans ((dk_bind (dk_map (dk_u1 (h 1 _ rfl)))).trans rfl))
theorem dk_17 {code : ByteArray} {pc : Nat} (a b : UInt8) (h : DkAt code pc [17, a, b]) : decode code pc = .ok (.sipush (Reader.signed 16 (a.toNat * 256 + b.toNat)), 3) := dk_of ((dk_bind (dk_u1 (h 0 _ rfl))).trans ((dk_bind (dk_map (dk_u2 (h 1 _ rfl) (h 2 _ rfl)))).trans rfl))
theorem dk_18 {code : ByteArray} {pc : Nat} (a : UInt8) (h : DkAt code pc [18, a]) : decode code pc = .ok (.ldc a.toNat, 2) := dk_of ((dk_bind (dk_u1 (h 0 _ rfl))).trans ((dk_bind (dk_u1 (h 1 _ rfl))).trans rfl))
theorem dk_19 {code : ByteArray} {pc : Nat} (a b : UInt8) (h : DkAt code pc [19, a, b]) : decode code pc = .ok (.ldc_w (a.toNat * 256 + b.toNat), 3) := dk_of ((dk_bind (dk_u1 (h 0 _ rfl))).trans ((dk_bind (dk_u2 (h 1 _ rfl) (h 2 _ rfl))).trans rfl))
theorem dk_21 {code : ByteArray} {pc : Nat} (a : UInt8) (h : DkAt code pc [21, a]) : decode code pc = .ok (.iload a.toNat, 2) := dk_of ((dk_bind (dk_u1 (h 0 _ rfl))).trans ((dk_bind (dk_u1 (h 1 _ rfl))).trans rfl))
theorem dk_23 {code : ByteArray} {pc : Nat} (a : UInt8) (h : DkAt code pc [23, a]) : decode code pc = .ok (.fload a.toNat, 2) := dk_of ((dk_bind (dk_u1 (h 0 _ rfl))).trans ((dk_bind (dk_u1 (h 1 _ rfl))).trans rfl))
theorem dk_24 {code : ByteArray} {pc : Nat} (a : UInt8) (h : DkAt code pc [24, a]) : decode code pc = .ok (.dload a.toNat, 2) := dk_of ((dk_bind (dk_u1 (h 0 _ rfl))).trans ((dk_bind (dk_u1 (h 1 _ rfl))).trans rfl))
theorem dk_25 {code : ByteArray} {pc : Nat} (a : UInt8) (h : DkAt code pc [25, a]) : decode code pc = .ok (.aload a.toNat, 2) := dk_of ((dk_bind (dk_u1 (h 0 _ rfl))).trans ((dk_bind (dk_u1 (h 1 _ rfl))).trans rfl))
theorem dk_26 {code : ByteArray} {pc : Nat} (h : DkAt code pc [26]) : decode code pc = .ok (.iload_n 0, 1) := dk_of ((dk_bind (dk_u1 (h 0 _ rfl))).trans rfl)
theorem dk_27 {code : ByteArray} {pc : Nat} (h : DkAt code pc [27]) : decode code pc = .ok (.iload_n 1, 1) := dk_of ((dk_bind (dk_u1 (h 0 _ rfl))).trans rfl)
theorem dk_28 {code : ByteArray} {pc : Nat} (h : DkAt code pc [28]) : decode code pc = .ok (.iload_n 2, 1) := dk_of ((dk_bind (dk_u1 (h 0 _ rfl))).trans rfl)
theorem dk_29 {code : ByteArray} {pc : Nat} (h : DkAt code pc [29]) : decode code pc = .ok (.iload_n 3, 1) := dk_of ((dk_bind (dk_u1 (h 0 _ rfl))).trans rfl)
theorem dk_42 {code : ByteArray} {pc : Nat} (h : DkAt code pc [42]) : decode code pc = .ok (.aload_n 0, 1) := dk_of ((dk_bind (dk_u1 (h 0 _ rfl))).trans rfl)
theorem dk_43 {code : ByteArray} {pc : Nat} (h : DkAt code pc [43]) : decode code pc = .ok (.aload_n 1, 1) := dk_of ((dk_bind (dk_u1 (h 0 _ rfl))).trans rfl)
theorem dk_44 {code : ByteArray} {pc : Nat} (h : DkAt code pc [44]) : decode code pc = .ok (.aload_n 2, 1) := dk_of ((dk_bind (dk_u1 (h 0 _ rfl))).trans rfl)
theorem dk_45 {code : ByteArray} {pc : Nat} (h : DkAt code pc [45]) : decode code pc = .ok (.aload_n 3, 1) := dk_of ((dk_bind (dk_u1 (h 0 _ rfl))).trans rfl)
theorem dk_46 {code : ByteArray} {pc : Nat} (h : DkAt code pc [46]) : decode code pc = .ok (.iaload, 1) := dk_of ((dk_bind (dk_u1 (h 0 _ rfl))).trans rfl)
theorem dk_47 {code : ByteArray} {pc : Nat} (h : DkAt code pc [47]) : decode code pc = .ok (.laload, 1) := dk_of ((dk_bind (dk_u1 (h 0 _ rfl))).trans rfl)
theorem dk_49 {code : ByteArray} {pc : Nat} (h : DkAt code pc [49]) : decode code pc = .ok (.daload, 1) := dk_of ((dk_bind (dk_u1 (h 0 _ rfl))).trans rfl)
theorem dk_50 {code : ByteArray} {pc : Nat} (h : DkAt code pc [50]) : decode code pc = .ok (.aaload, 1) := dk_of ((dk_bind (dk_u1 (h 0 _ rfl))).trans rfl)
theorem dk_51 {code : ByteArray} {pc : Nat} (h : DkAt code pc [51]) : decode code pc = .ok (.baload, 1) := dk_of ((dk_bind (dk_u1 (h 0 _ rfl))).trans rfl)
theorem dk_52 {code : ByteArray} {pc : Nat} (h : DkAt code pc [52]) : decode code pc = .ok (.caload, 1) := dk_of ((dk_bind (dk_u1 (h 0 _ rfl))).trans rfl)
theorem dk_54 {code : ByteArray} {pc : Nat} (a : UInt8) (h : DkAt code pc [54, a]) : decode code pc = .ok (.istore a.toNat, 2) := dk_of ((dk_bind (dk_u1 (h 0 _ rfl))).trans ((dk_bind (dk_u1 (h 1 _ rfl))).trans rfl))
theorem dk_56 {code : ByteArray} {pc : Nat} (a : UInt8) (h : DkAt code pc [56, a]) : decode code pc = .ok (.fstore a.toNat, 2) := dk_of ((dk_bind (dk_u1 (h 0 _ rfl))).trans ((dk_bind (dk_u1 (h 1 _ rfl))).trans rfl))
theorem dk_57 {code : ByteArray} {pc : Nat} (a : UInt8) (h : DkAt code pc [57, a]) : decode code pc = .ok (.dstore a.toNat, 2) := dk_of ((dk_bind (dk_u1 (h 0 _ rfl))).trans ((dk_bind (dk_u1 (h 1 _ rfl))).trans rfl))
theorem dk_58 {code : ByteArray} {pc : Nat} (a : UInt8) (h : DkAt code pc [58, a]) : decode code pc = .ok (.astore a.toNat, 2) := dk_of ((dk_bind (dk_u1 (h 0 _ rfl))).trans ((dk_bind (dk_u1 (h 1 _ rfl))).trans rfl))
theorem dk_59 {code : ByteArray} {pc : Nat} (h : DkAt code pc [59]) : decode code pc = .ok (.istore_n 0, 1) := dk_of ((dk_bind (dk_u1 (h 0 _ rfl))).trans rfl)
theorem dk_60 {code : ByteArray} {pc : Nat} (h : DkAt code pc [60]) : decode code pc = .ok (.istore_n 1, 1) := dk_of ((dk_bind (dk_u1 (h 0 _ rfl))).trans rfl)
theorem dk_61 {code : ByteArray} {pc : Nat} (h : DkAt code pc [61]) : decode code pc = .ok (.istore_n 2, 1) := dk_of ((dk_bind (dk_u1 (h 0 _ rfl))).trans rfl)
theorem dk_62 {code : ByteArray} {pc : Nat} (h : DkAt code pc [62]) : decode code pc = .ok (.istore_n 3, 1) := dk_of ((dk_bind (dk_u1 (h 0 _ rfl))).trans rfl)
theorem dk_76 {code : ByteArray} {pc : Nat} (h : DkAt code pc [76]) : decode code pc = .ok (.astore_n 1, 1) := dk_of ((dk_bind (dk_u1 (h 0 _ rfl))).trans rfl)
theorem dk_77 {code : ByteArray} {pc : Nat} (h : DkAt code pc [77]) : decode code pc = .ok (.astore_n 2, 1) := dk_of ((dk_bind (dk_u1 (h 0 _ rfl))).trans rfl)
theorem dk_78 {code : ByteArray} {pc : Nat} (h : DkAt code pc [78]) : decode code pc = .ok (.astore_n 3, 1) := dk_of ((dk_bind (dk_u1 (h 0 _ rfl))).trans rfl)
theorem dk_79 {code : ByteArray} {pc : Nat} (h : DkAt code pc [79]) : decode code pc = .ok (.iastore, 1) := dk_of ((dk_bind (dk_u1 (h 0 _ rfl))).trans rfl)
theorem dk_80 {code : ByteArray} {pc : Nat} (h : DkAt code pc [80]) : decode code pc = .ok (.lastore, 1) := dk_of ((dk_bind (dk_u1 (h 0 _ rfl))).trans rfl)
theorem dk_82 {code : ByteArray} {pc : Nat} (h : DkAt code pc [82]) : decode code pc = .ok (.dastore, 1) := dk_of ((dk_bind (dk_u1 (h 0 _ rfl))).trans rfl)
theorem dk_83 {code : ByteArray} {pc : Nat} (h : DkAt code pc [83]) : decode code pc = .ok (.aastore, 1) := dk_of ((dk_bind (dk_u1 (h 0 _ rfl))).trans rfl)
theorem dk_84 {code : ByteArray} {pc : Nat} (h : DkAt code pc [84]) : decode code pc = .ok (.bastore, 1) := dk_of ((dk_bind (dk_u1 (h 0 _ rfl))).trans rfl)
theorem dk_85 {code : ByteArray} {pc : Nat} (h : DkAt code pc [85]) : decode code pc = .ok (.castore, 1) := dk_of ((dk_bind (dk_u1 (h 0 _ rfl))).trans rfl)
theorem dk_87 {code : ByteArray} {pc : Nat} (h : DkAt code pc [87]) : decode code pc = .ok (.pop, 1) := dk_of ((dk_bind (dk_u1 (h 0 _ rfl))).trans rfl)
theorem dk_89 {code : ByteArray} {pc : Nat} (h : DkAt code pc [89]) : decode code pc = .ok (.dup, 1) := dk_of ((dk_bind (dk_u1 (h 0 _ rfl))).trans rfl)
theorem dk_90 {code : ByteArray} {pc : Nat} (h : DkAt code pc [90]) : decode code pc = .ok (.dup_x1, 1) := dk_of ((dk_bind (dk_u1 (h 0 _ rfl))).trans rfl)
theorem dk_92 {code : ByteArray} {pc : Nat} (h : DkAt code pc [92]) : decode code pc = .ok (.dup2, 1) := dk_of ((dk_bind (dk_u1 (h 0 _ rfl))).trans rfl)
theorem dk_96 {code : ByteArray} {pc : Nat} (h : DkAt code pc [96]) : decode code pc = .ok (.iadd, 1) := dk_of ((dk_bind (dk_u1 (h 0 _ rfl))).trans rfl)
theorem dk_100 {code : ByteArray} {pc : Nat} (h : DkAt code pc [100]) : decode code pc = .ok (.isub, 1) := dk_of ((dk_bind (dk_u1 (h 0 _ rfl))).trans rfl)
theorem dk_104 {code : ByteArray} {pc : Nat} (h : DkAt code pc [104]) : decode code pc = .ok (.imul, 1) := dk_of ((dk_bind (dk_u1 (h 0 _ rfl))).trans rfl)
theorem dk_108 {code : ByteArray} {pc : Nat} (h : DkAt code pc [108]) : decode code pc = .ok (.idiv, 1) := dk_of ((dk_bind (dk_u1 (h 0 _ rfl))).trans rfl)
theorem dk_110 {code : ByteArray} {pc : Nat} (h : DkAt code pc [110]) : decode code pc = .ok (.fdiv, 1) := dk_of ((dk_bind (dk_u1 (h 0 _ rfl))).trans rfl)
theorem dk_111 {code : ByteArray} {pc : Nat} (h : DkAt code pc [111]) : decode code pc = .ok (.ddiv, 1) := dk_of ((dk_bind (dk_u1 (h 0 _ rfl))).trans rfl)
theorem dk_112 {code : ByteArray} {pc : Nat} (h : DkAt code pc [112]) : decode code pc = .ok (.irem, 1) := dk_of ((dk_bind (dk_u1 (h 0 _ rfl))).trans rfl)
theorem dk_116 {code : ByteArray} {pc : Nat} (h : DkAt code pc [116]) : decode code pc = .ok (.ineg, 1) := dk_of ((dk_bind (dk_u1 (h 0 _ rfl))).trans rfl)
theorem dk_120 {code : ByteArray} {pc : Nat} (h : DkAt code pc [120]) : decode code pc = .ok (.ishl, 1) := dk_of ((dk_bind (dk_u1 (h 0 _ rfl))).trans rfl)
theorem dk_122 {code : ByteArray} {pc : Nat} (h : DkAt code pc [122]) : decode code pc = .ok (.ishr, 1) := dk_of ((dk_bind (dk_u1 (h 0 _ rfl))).trans rfl)
theorem dk_124 {code : ByteArray} {pc : Nat} (h : DkAt code pc [124]) : decode code pc = .ok (.iushr, 1) := dk_of ((dk_bind (dk_u1 (h 0 _ rfl))).trans rfl)
theorem dk_126 {code : ByteArray} {pc : Nat} (h : DkAt code pc [126]) : decode code pc = .ok (.iand, 1) := dk_of ((dk_bind (dk_u1 (h 0 _ rfl))).trans rfl)
theorem dk_128 {code : ByteArray} {pc : Nat} (h : DkAt code pc [128]) : decode code pc = .ok (.ior, 1) := dk_of ((dk_bind (dk_u1 (h 0 _ rfl))).trans rfl)
theorem dk_132 {code : ByteArray} {pc : Nat} (a b : UInt8) (h : DkAt code pc [132, a, b]) : decode code pc = .ok (.iinc a.toNat (Reader.signed 8 b.toNat), 3) := dk_of ((dk_bind (dk_u1 (h 0 _ rfl))).trans ((dk_bind (dk_u1 (h 1 _ rfl))).trans ((dk_bind (dk_map (dk_u1 (h 2 _ rfl)))).trans rfl)))
theorem dk_133 {code : ByteArray} {pc : Nat} (h : DkAt code pc [133]) : decode code pc = .ok (.i2l, 1) := dk_of ((dk_bind (dk_u1 (h 0 _ rfl))).trans rfl)
theorem dk_134 {code : ByteArray} {pc : Nat} (h : DkAt code pc [134]) : decode code pc = .ok (.i2f, 1) := dk_of ((dk_bind (dk_u1 (h 0 _ rfl))).trans rfl)
theorem dk_135 {code : ByteArray} {pc : Nat} (h : DkAt code pc [135]) : decode code pc = .ok (.i2d, 1) := dk_of ((dk_bind (dk_u1 (h 0 _ rfl))).trans rfl)
theorem dk_141 {code : ByteArray} {pc : Nat} (h : DkAt code pc [141]) : decode code pc = .ok (.f2d, 1) := dk_of ((dk_bind (dk_u1 (h 0 _ rfl))).trans rfl)
theorem dk_145 {code : ByteArray} {pc : Nat} (h : DkAt code pc [145]) : decode code pc = .ok (.i2b, 1) := dk_of ((dk_bind (dk_u1 (h 0 _ rfl))).trans rfl)
theorem dk_146 {code : ByteArray} {pc : Nat} (h : DkAt code pc [146]) : decode code pc = .ok (.i2c, 1) := dk_of ((dk_bind (dk_u1 (h 0 _ rfl))).trans rfl)
theorem dk_148 {code : ByteArray} {pc : Nat} (h : DkAt code pc [148]) : decode code pc = .ok (.lcmp, 1) := dk_of ((dk_bind (dk_u1 (h 0 _ rfl))).trans rfl)
theorem dk_149 {code : ByteArray} {pc : Nat} (h : DkAt code pc [149]) : decode code pc = .ok (.fcmp .l, 1) := dk_of ((dk_bind (dk_u1 (h 0 _ rfl))).trans rfl)
theorem dk_151 {code : ByteArray} {pc : Nat} (h : DkAt code pc [151]) : decode code pc = .ok (.dcmp .l, 1) := dk_of ((dk_bind (dk_u1 (h 0 _ rfl))).trans rfl)
theorem dk_153 {code : ByteArray} {pc : Nat} (a b : UInt8) (h : DkAt code pc [153, a, b]) : decode code pc = .ok (.ifCond .eq (Reader.signed 16 (a.toNat * 256 + b.toNat)), 3) := dk_of ((dk_bind (dk_u1 (h 0 _ rfl))).trans ((dk_bind (dk_map (dk_u2 (h 1 _ rfl) (h 2 _ rfl)))).trans rfl))
theorem dk_154 {code : ByteArray} {pc : Nat} (a b : UInt8) (h : DkAt code pc [154, a, b]) : decode code pc = .ok (.ifCond .ne (Reader.signed 16 (a.toNat * 256 + b.toNat)), 3) := dk_of ((dk_bind (dk_u1 (h 0 _ rfl))).trans ((dk_bind (dk_map (dk_u2 (h 1 _ rfl) (h 2 _ rfl)))).trans rfl))
theorem dk_155 {code : ByteArray} {pc : Nat} (a b : UInt8) (h : DkAt code pc [155, a, b]) : decode code pc = .ok (.ifCond .lt (Reader.signed 16 (a.toNat * 256 + b.toNat)), 3) := dk_of ((dk_bind (dk_u1 (h 0 _ rfl))).trans ((dk_bind (dk_map (dk_u2 (h 1 _ rfl) (h 2 _ rfl)))).trans rfl))
theorem dk_156 {code : ByteArray} {pc : Nat} (a b : UInt8) (h : DkAt code pc [156, a, b]) : decode code pc = .ok (.ifCond .ge (Reader.signed 16 (a.toNat * 256 + b.toNat)), 3) := dk_of ((dk_bind (dk_u1 (h 0 _ rfl))).trans ((dk_bind (dk_map (dk_u2 (h 1 _ rfl) (h 2 _ rfl)))).trans rfl))
theorem dk_157 {code : ByteArray} {pc : Nat} (a b : UInt8) (h : DkAt code pc [157, a, b]) : decode code pc = .ok (.ifCond .gt (Reader.signed 16 (a.toNat * 256 + b.toNat)), 3) := dk_of ((dk_bind (dk_u1 (h 0 _ rfl))).trans ((dk_bind (dk_map (dk_u2 (h 1 _ rfl) (h 2 _ rfl)))).trans rfl))
theorem dk_158 {code : ByteArray} {pc : Nat} (a b : UInt8) (h : DkAt code pc [158, a, b]) : decode code pc = .ok (.ifCond .le (Reader.signed 16 (a.toNat * 256 + b.toNat)), 3) := dk_of ((dk_bind (dk_u1 (h 0 _ rfl))).trans ((dk_bind (dk_map (dk_u2 (h 1 _ rfl) (h 2 _ rfl)))).trans rfl))
theorem dk_159 {code : ByteArray} {pc : Nat} (a b : UInt8) (h : DkAt code pc [159, a, b]) : decode code pc = .ok (.if_icmp .eq (Reader.signed 16 (a.toNat * 256 + b.toNat)), 3) := dk_of ((dk_bind (dk_u1 (h 0 _ rfl))).trans ((dk_bind (dk_map (dk_u2 (h 1 _ rfl) (h 2 _ rfl)))).trans rfl))
theorem dk_160 {code : ByteArray} {pc : Nat} (a b : UInt8) (h : DkAt code pc [160, a, b]) : decode code pc = .ok (.if_icmp .ne (Reader.signed 16 (a.toNat * 256 + b.toNat)), 3) := dk_of ((dk_bind (dk_u1 (h 0 _ rfl))).trans ((dk_bind (dk_map (dk_u2 (h 1 _ rfl) (h 2 _ rfl)))).trans rfl))
theorem dk_161 {code : ByteArray} {pc : Nat} (a b : UInt8) (h : DkAt code pc [161, a, b]) : decode code pc = .ok (.if_icmp .lt (Reader.signed 16 (a.toNat * 256 + b.toNat)), 3) := dk_of ((dk_bind (dk_u1 (h 0 _ rfl))).trans ((dk_bind (dk_map (dk_u2 (h 1 _ rfl) (h 2 _ rfl)))).trans rfl))
theorem dk_162 {code : ByteArray} {pc : Nat} (a b : UInt8) (h : DkAt code pc [162, a, b]) : decode code pc = .ok (.if_icmp .ge (Reader.signed 16 (a.toNat * 256 + b.toNat)), 3) := dk_of ((dk_bind (dk_u1 (h 0 _ rfl))).trans ((dk_bind (dk_map (dk_u2 (h 1 _ rfl) (h 2 _ rfl)))).trans rfl))
theorem dk_163 {code : ByteArray} {pc : Nat} (a b : UInt8) (h : DkAt code pc [163, a, b]) : decode code pc = .ok (.if_icmp .gt (Reader.signed 16 (a.toNat * 256 + b.toNat)), 3) := dk_of ((dk_bind (dk_u1 (h 0 _ rfl))).trans ((dk_bind (dk_map (dk_u2 (h 1 _ rfl) (h 2 _ rfl)))).trans rfl))
theorem dk_164 {code : ByteArray} {pc : Nat} (a b : UInt8) (h : DkAt code pc [164, a, b]) : decode code pc = .ok (.if_icmp .le (Reader.signed 16 (a.toNat * 256 + b.toNat)), 3) := dk_of ((dk_bind (dk_u1 (h 0 _ rfl))).trans ((dk_bind (dk_map (dk_u2 (h 1 _ rfl) (h 2 _ rfl)))).trans rfl))
theorem dk_165 {code : ByteArray} {pc : Nat} (a b : UInt8) (h : DkAt code pc [165, a, b]) : decode code pc = .ok (.if_acmp .eq (Reader.signed 16 (a.toNat * 256 + b.toNat)), 3) := dk_of ((dk_bind (dk_u1 (h 0 _ rfl))).trans ((dk_bind (dk_map (dk_u2 (h 1 _ rfl) (h 2 _ rfl)))).trans rfl))
theorem dk_166 {code : ByteArray} {pc : Nat} (a b : UInt8) (h : DkAt code pc [166, a, b]) : decode code pc = .ok (.if_acmp .ne (Reader.signed 16 (a.toNat * 256 + b.toNat)), 3) := dk_of ((dk_bind (dk_u1 (h 0 _ rfl))).trans ((dk_bind (dk_map (dk_u2 (h 1 _ rfl) (h 2 _ rfl)))).trans rfl))
theorem dk_167 {code : ByteArray} {pc : Nat} (a b : UInt8) (h : DkAt code pc [167, a, b]) : decode code pc = .ok (.goto (Reader.signed 16 (a.toNat * 256 + b.toNat)), 3) := dk_of ((dk_bind (dk_u1 (h 0 _ rfl))).trans ((dk_bind (dk_map (dk_u2 (h 1 _ rfl) (h 2 _ rfl)))).trans rfl))
theorem dk_172 {code : ByteArray} {pc : Nat} (h : DkAt code pc [172]) : decode code pc = .ok (.ireturn, 1) := dk_of ((dk_bind (dk_u1 (h 0 _ rfl))).trans rfl)
theorem dk_174 {code : ByteArray} {pc : Nat} (h : DkAt code pc [174]) : decode code pc = .ok (.freturn, 1) := dk_of ((dk_bind (dk_u1 (h 0 _ rfl))).trans rfl)
theorem dk_175 {code : ByteArray} {pc : Nat} (h : DkAt code pc [175]) : decode code pc = .ok (.dreturn, 1) := dk_of ((dk_bind (dk_u1 (h 0 _ rfl))).trans rfl)
theorem dk_176 {code : ByteArray} {pc : Nat} (h : DkAt code pc [176]) : decode code pc = .ok (.areturn, 1) := dk_of ((dk_bind (dk_u1 (h 0 _ rfl))).trans rfl)
theorem dk_177 {code : ByteArray} {pc : Nat} (h : DkAt code pc [177]) : decode code pc = .ok (.return_, 1) := dk_of ((dk_bind (dk_u1 (h 0 _ rfl))).trans rfl)
theorem dk_178 {code : ByteArray} {pc : Nat} (a b : UInt8) (h : DkAt code pc [178, a, b]) : decode code pc = .ok (.getstatic (a.toNat * 256 + b.toNat), 3) := dk_of ((dk_bind (dk_u1 (h 0 _ rfl))).trans ((dk_bind (dk_u2 (h 1 _ rfl) (h 2 _ rfl))).trans rfl))
theorem dk_180 {code : ByteArray} {pc : Nat} (a b : UInt8) (h : DkAt code pc [180, a, b]) : decode code pc = .ok (.getfield (a.toNat * 256 + b.toNat), 3) := dk_of ((dk_bind (dk_u1 (h 0 _ rfl))).trans ((dk_bind (dk_u2 (h 1 _ rfl) (h 2 _ rfl))).trans rfl))
theorem dk_181 {code : ByteArray} {pc : Nat} (a b : UInt8) (h : DkAt code pc [181, a, b]) : decode code pc = .ok (.putfield (a.toNat * 256 + b.toNat), 3) := dk_of ((dk_bind (dk_u1 (h 0 _ rfl))).trans ((dk_bind (dk_u2 (h 1 _ rfl) (h 2 _ rfl))).trans rfl))
theorem dk_182 {code : ByteArray} {pc : Nat} (a b : UInt8) (h : DkAt code pc [182, a, b]) : decode code pc = .ok (.invokevirtual (a.toNat * 256 + b.toNat), 3) := dk_of ((dk_bind (dk_u1 (h 0 _ rfl))).trans ((dk_bind (dk_u2 (h 1 _ rfl) (h 2 _ rfl))).trans rfl))
theorem dk_183 {code : ByteArray} {pc : Nat} (a b : UInt8) (h : DkAt code pc [183, a, b]) : decode code pc = .ok (.invokespecial (a.toNat * 256 + b.toNat), 3) := dk_of ((dk_bind (dk_u1 (h 0 _ rfl))).trans ((dk_bind (dk_u2 (h 1 _ rfl) (h 2 _ rfl))).trans rfl))
theorem dk_184 {code : ByteArray} {pc : Nat} (a b : UInt8) (h : DkAt code pc [184, a, b]) : decode code pc = .ok (.invokestatic (a.toNat * 256 + b.toNat), 3) := dk_of ((dk_bind (dk_u1 (h 0 _ rfl))).trans ((dk_bind (dk_u2 (h 1 _ rfl) (h 2 _ rfl))).trans rfl))
theorem dk_187 {code : ByteArray} {pc : Nat} (a b : UInt8) (h : DkAt code pc [187, a, b]) : decode code pc = .ok (.new (a.toNat * 256 + b.toNat), 3) := dk_of ((dk_bind (dk_u1 (h 0 _ rfl))).trans ((dk_bind (dk_u2 (h 1 _ rfl) (h 2 _ rfl))).trans rfl))
theorem dk_188_5 {code : ByteArray} {pc : Nat} (h : DkAt code pc [188, 5]) : decode code pc = .ok (.newarray .char, 2) := dk_of ((dk_bind (dk_u1 (h 0 _ rfl))).trans ((dk_bind (dk_u1 (h 1 _ rfl))).trans rfl))
theorem dk_188_7 {code : ByteArray} {pc : Nat} (h : DkAt code pc [188, 7]) : decode code pc = .ok (.newarray .double, 2) := dk_of ((dk_bind (dk_u1 (h 0 _ rfl))).trans ((dk_bind (dk_u1 (h 1 _ rfl))).trans rfl))
theorem dk_188_8 {code : ByteArray} {pc : Nat} (h : DkAt code pc [188, 8]) : decode code pc = .ok (.newarray .byte, 2) := dk_of ((dk_bind (dk_u1 (h 0 _ rfl))).trans ((dk_bind (dk_u1 (h 1 _ rfl))).trans rfl))
theorem dk_188_10 {code : ByteArray} {pc : Nat} (h : DkAt code pc [188, 10]) : decode code pc = .ok (.newarray .int, 2) := dk_of ((dk_bind (dk_u1 (h 0 _ rfl))).trans ((dk_bind (dk_u1 (h 1 _ rfl))).trans rfl))
theorem dk_188_11 {code : ByteArray} {pc : Nat} (h : DkAt code pc [188, 11]) : decode code pc = .ok (.newarray .long, 2) := dk_of ((dk_bind (dk_u1 (h 0 _ rfl))).trans ((dk_bind (dk_u1 (h 1 _ rfl))).trans rfl))
theorem dk_189 {code : ByteArray} {pc : Nat} (a b : UInt8) (h : DkAt code pc [189, a, b]) : decode code pc = .ok (.anewarray (a.toNat * 256 + b.toNat), 3) := dk_of ((dk_bind (dk_u1 (h 0 _ rfl))).trans ((dk_bind (dk_u2 (h 1 _ rfl) (h 2 _ rfl))).trans rfl))
theorem dk_190 {code : ByteArray} {pc : Nat} (h : DkAt code pc [190]) : decode code pc = .ok (.arraylength, 1) := dk_of ((dk_bind (dk_u1 (h 0 _ rfl))).trans rfl)
theorem dk_191 {code : ByteArray} {pc : Nat} (h : DkAt code pc [191]) : decode code pc = .ok (.athrow, 1) := dk_of ((dk_bind (dk_u1 (h 0 _ rfl))).trans rfl)
theorem dk_192 {code : ByteArray} {pc : Nat} (a b : UInt8) (h : DkAt code pc [192, a, b]) : decode code pc = .ok (.checkcast (a.toNat * 256 + b.toNat), 3) := dk_of ((dk_bind (dk_u1 (h 0 _ rfl))).trans ((dk_bind (dk_u2 (h 1 _ rfl) (h 2 _ rfl))).trans rfl))
theorem dk_193 {code : ByteArray} {pc : Nat} (a b : UInt8) (h : DkAt code pc [193, a, b]) : decode code pc = .ok (.instanceof (a.toNat * 256 + b.toNat), 3) := dk_of ((dk_bind (dk_u1 (h 0 _ rfl))).trans ((dk_bind (dk_u2 (h 1 _ rfl) (h 2 _ rfl))).trans rfl))
theorem dk_198 {code : ByteArray} {pc : Nat} (a b : UInt8) (h : DkAt code pc [198, a, b]) : decode code pc = .ok (.ifnull (Reader.signed 16 (a.toNat * 256 + b.toNat)), 3) := dk_of ((dk_bind (dk_u1 (h 0 _ rfl))).trans ((dk_bind (dk_map (dk_u2 (h 1 _ rfl) (h 2 _ rfl)))).trans rfl))
theorem dk_199 {code : ByteArray} {pc : Nat} (a b : UInt8) (h : DkAt code pc [199, a, b]) : decode code pc = .ok (.ifnonnull (Reader.signed 16 (a.toNat * 256 + b.toNat)), 3) := dk_of ((dk_bind (dk_u1 (h 0 _ rfl))).trans ((dk_bind (dk_map (dk_u2 (h 1 _ rfl) (h 2 _ rfl)))).trans rfl))
/-! java/util/AbstractCollection -/
def RJ0 : String := "java/util/AbstractCollection"
abbrev cJ0_init : ByteArray := prog_44_method_1_code
def yJ0_init : MethodName := ⟨RJ0, "<init>", "()V"⟩
theorem q78 : (Jvm.Cond.initialized "java/util/AbstractCollection") ∈ lw_all := lw_g (lw_at lw_m1 3 rfl) rfl
theorem q139 : (Jvm.Cond.instanceMethod ({ cls := "java/util/AbstractCollection", name := "<init>", desc := "()V" } : Jvm.MethodName)) ∈ lw_all := lw_g (lw_at lw_m1 64 rfl) rfl
theorem q140 : (Jvm.Cond.code ({ cls := "java/util/AbstractCollection", name := "<init>", desc := "()V" } : Jvm.MethodName) prog_44_method_1_code (1 : Nat) (Option.none : Option Jvm.ClassFile.FieldType)) ∈ lw_all := lw_g (lw_at lw_m1 65 rfl) rfl
theorem q141 : (Jvm.Cond.methodLink "java/util/AbstractCollection" (1 : Nat) ({ cls := "java/lang/Object", name := "<init>", desc := "()V" } : Jvm.MethodName)) ∈ lw_all := lw_g (lw_at lw_m1 66 rfl) rfl
/-! java/util/AbstractList -/
def RJ1 : String := "java/util/AbstractList"
abbrev cJ1_init : ByteArray := prog_45_method_1_code
def yJ1_init : MethodName := ⟨RJ1, "<init>", "()V"⟩
theorem q79 : (Jvm.Cond.initialized "java/util/AbstractList") ∈ lw_all := lw_g (lw_at lw_m1 4 rfl) rfl
theorem q136 : (Jvm.Cond.instanceMethod ({ cls := "java/util/AbstractList", name := "<init>", desc := "()V" } : Jvm.MethodName)) ∈ lw_all := lw_g (lw_at lw_m1 61 rfl) rfl
theorem q137 : (Jvm.Cond.code ({ cls := "java/util/AbstractList", name := "<init>", desc := "()V" } : Jvm.MethodName) prog_45_method_1_code (1 : Nat) (Option.none : Option Jvm.ClassFile.FieldType)) ∈ lw_all := lw_g (lw_at lw_m1 62 rfl) rfl
theorem q138 : (Jvm.Cond.methodLink "java/util/AbstractList" (1 : Nat) ({ cls := "java/util/AbstractCollection", name := "<init>", desc := "()V" } : Jvm.MethodName)) ∈ lw_all := lw_g (lw_at lw_m1 63 rfl) rfl
theorem q148 : (Jvm.Cond.fieldLink "java/util/AbstractList" (7 : Nat) "java/util/AbstractList" "modCount" "I") ∈ lw_all := lw_g (lw_at lw_m1 73 rfl) rfl
theorem q157 : (Jvm.Cond.soleField "java/util/AbstractList" "modCount") ∈ lw_all := lw_g (lw_at lw_m1 82 rfl) rfl
/-! java/lang/String -/
def RJ10 : String := "java/lang/String"
def TJ10 : u_T := fun k => match k with
  | 0 => ("java/lang/String", "value", "[B", true)
  | 1 => ("java/lang/String", "coder", "B", true)
  | 2 => ("java/lang/String", "hash", "I", false)
  | _ => ("java/lang/String", "hashIsZero", "Z", false)
def tyJ10 : Nat → FieldType := fun k => match k with
  | 0 => .array .byte
  | 1 => .byte
  | 2 => .int
  | _ => .boolean
abbrev wsJ100 : List Cond := u_ws RJ10 TJ10 4
theorem nmJ10 : ∀ a, a < 4 → ∀ b, b < 4 → a ≠ b → (TJ10 a).2.1 ≠ (TJ10 b).2.1 := by decide +kernel
theorem tyJ10_ok : ∀ k, k < 4 → parseFieldDescriptor (TJ10 k).2.2.1 = some (tyJ10 k) := by decide +kernel
abbrev cJ10_length : ByteArray := prog_34_method_54_code
def yJ10_length : MethodName := ⟨RJ10, "length", "()I"⟩
abbrev cJ10_coder : ByteArray := prog_34_method_152_code
def yJ10_coder : MethodName := ⟨RJ10, "coder", "()B"⟩
abbrev cJ10_charAt : ByteArray := prog_34_method_56_code
def yJ10_charAt : MethodName := ⟨RJ10, "charAt", "(I)C"⟩
abbrev cJ10_isLatin1 : ByteArray := prog_34_method_154_code
def yJ10_isLatin1 : MethodName := ⟨RJ10, "isLatin1", "()Z"⟩
abbrev cJ10_checkIndex : ByteArray := prog_34_method_155_code
def yJ10_checkIndex : MethodName := ⟨RJ10, "checkIndex", "(II)V"⟩
abbrev cJ10_indexOf : ByteArray := prog_34_method_79_code
def yJ10_indexOf : MethodName := ⟨RJ10, "indexOf", "(I)I"⟩
abbrev cJ10_indexOf_2 : ByteArray := prog_34_method_80_code
def yJ10_indexOf_2 : MethodName := ⟨RJ10, "indexOf", "(II)I"⟩
abbrev cJ10_checkBoundsBeginEnd : ByteArray := prog_34_method_158_code
def yJ10_checkBoundsBeginEnd : MethodName := ⟨RJ10, "checkBoundsBeginEnd", "(III)V"⟩
abbrev cJ10_checkBoundsOffCount : ByteArray := prog_34_method_157_code
def yJ10_checkBoundsOffCount : MethodName := ⟨RJ10, "checkBoundsOffCount", "(III)I"⟩
abbrev cJ10_getBytes : ByteArray := prog_34_method_147_code
def yJ10_getBytes : MethodName := ⟨RJ10, "getBytes", "([BIB)V"⟩
abbrev cJ10_init : ByteArray := prog_34_method_53_code
def yJ10_init : MethodName := ⟨RJ10, "<init>", "(Ljava/lang/StringBuilder;)V"⟩
abbrev cJ10_init_2 : ByteArray := prog_34_method_150_code
def yJ10_init_2 : MethodName := ⟨RJ10, "<init>", "(Ljava/lang/AbstractStringBuilder;Ljava/lang/Void;)V"⟩
theorem q88 : (Jvm.Cond.initialized "java/lang/String") ∈ lw_all := lw_g (lw_at lw_m1 13 rfl) rfl
theorem q365 : (Jvm.Cond.laysStatic "java/lang/String" "COMPACT_STRINGS" "Z") ∈ lw_tbl := lw_at lw_m2 50 rfl
theorem q376 : (Jvm.Cond.fieldLink "java/lang/String" (1048 : Nat) "java/lang/AbstractStringBuilder" "maybeLatin1" "Z") ∈ lw_all := lw_g (lw_at lw_m2 61 rfl) rfl
theorem q549 : (Jvm.Cond.instanceMethod ({ cls := "java/lang/String", name := "length", desc := "()I" } : Jvm.MethodName)) ∈ lw_all := lw_g (lw_at lw_m2 234 rfl) rfl
theorem q550 : (Jvm.Cond.selects "java/lang/String" ({ cls := "java/lang/String", name := "length", desc := "()I" } : Jvm.MethodName) ({ cls := "java/lang/String", name := "length", desc := "()I" } : Jvm.MethodName)) ∈ lw_all := lw_g (lw_at lw_m2 235 rfl) rfl
theorem q551 : (Jvm.Cond.code ({ cls := "java/lang/String", name := "length", desc := "()I" } : Jvm.MethodName) prog_34_method_54_code (1 : Nat) (Option.some Jvm.ClassFile.FieldType.int)) ∈ lw_all := lw_g (lw_at lw_m2 236 rfl) rfl
theorem q552 : (Jvm.Cond.methodLink "java/lang/String" (335 : Nat) ({ cls := "java/lang/String", name := "coder", desc := "()B" } : Jvm.MethodName)) ∈ lw_all := lw_g (lw_at lw_m2 237 rfl) rfl
theorem q553 : (Jvm.Cond.instanceMethod ({ cls := "java/lang/String", name := "coder", desc := "()B" } : Jvm.MethodName)) ∈ lw_all := lw_g (lw_at lw_m2 238 rfl) rfl
theorem q554 : (Jvm.Cond.selects "java/lang/String" ({ cls := "java/lang/String", name := "coder", desc := "()B" } : Jvm.MethodName) ({ cls := "java/lang/String", name := "coder", desc := "()B" } : Jvm.MethodName)) ∈ lw_all := lw_g (lw_at lw_m2 239 rfl) rfl
theorem q555 : (Jvm.Cond.code ({ cls := "java/lang/String", name := "coder", desc := "()B" } : Jvm.MethodName) prog_34_method_152_code (1 : Nat) (Option.some Jvm.ClassFile.FieldType.byte)) ∈ lw_all := lw_g (lw_at lw_m3 0 rfl) rfl
theorem q556 : (Jvm.Cond.fieldLink "java/lang/String" (38 : Nat) "java/lang/String" "COMPACT_STRINGS" "Z") ∈ lw_all := lw_g (lw_at lw_m3 1 rfl) rfl
theorem q558 : (Jvm.Cond.instanceMethod ({ cls := "java/lang/String", name := "charAt", desc := "(I)C" } : Jvm.MethodName)) ∈ lw_all := lw_g (lw_at lw_m3 3 rfl) rfl
theorem q559 : (Jvm.Cond.selects "java/lang/String" ({ cls := "java/lang/String", name := "charAt", desc := "(I)C" } : Jvm.MethodName) ({ cls := "java/lang/String", name := "charAt", desc := "(I)C" } : Jvm.MethodName)) ∈ lw_all := lw_g (lw_at lw_m3 4 rfl) rfl
theorem q560 : (Jvm.Cond.code ({ cls := "java/lang/String", name := "charAt", desc := "(I)C" } : Jvm.MethodName) prog_34_method_56_code (2 : Nat) (Option.some Jvm.ClassFile.FieldType.char)) ∈ lw_all := lw_g (lw_at lw_m3 5 rfl) rfl
theorem q561 : (Jvm.Cond.methodLink "java/lang/String" (492 : Nat) ({ cls := "java/lang/String", name := "isLatin1", desc := "()Z" } : Jvm.MethodName)) ∈ lw_all := lw_g (lw_at lw_m3 6 rfl) rfl
theorem q562 : (Jvm.Cond.instanceMethod ({ cls := "java/lang/String", name := "isLatin1", desc := "()Z" } : Jvm.MethodName)) ∈ lw_all := lw_g (lw_at lw_m3 7 rfl) rfl
theorem q563 : (Jvm.Cond.selects "java/lang/String" ({ cls := "java/lang/String", name := "isLatin1", desc := "()Z" } : Jvm.MethodName) ({ cls := "java/lang/String", name := "isLatin1", desc := "()Z" } : Jvm.MethodName)) ∈ lw_all := lw_g (lw_at lw_m3 8 rfl) rfl
theorem q564 : (Jvm.Cond.code ({ cls := "java/lang/String", name := "isLatin1", desc := "()Z" } : Jvm.MethodName) prog_34_method_154_code (1 : Nat) (Option.some Jvm.ClassFile.FieldType.boolean)) ∈ lw_all := lw_g (lw_at lw_m3 9 rfl) rfl
theorem q565 : (Jvm.Cond.methodLink "java/lang/String" (495 : Nat) ({ cls := "java/lang/StringLatin1", name := "charAt", desc := "([BI)C" } : Jvm.MethodName)) ∈ lw_all := lw_g (lw_at lw_m3 10 rfl) rfl
theorem q569 : (Jvm.Cond.static ({ cls := "java/lang/String", name := "checkIndex", desc := "(II)V" } : Jvm.MethodName)) ∈ lw_all := lw_g (lw_at lw_m3 14 rfl) rfl
theorem q570 : (Jvm.Cond.code ({ cls := "java/lang/String", name := "checkIndex", desc := "(II)V" } : Jvm.MethodName) prog_34_method_155_code (2 : Nat) (Option.none : Option Jvm.ClassFile.FieldType)) ∈ lw_all := lw_g (lw_at lw_m3 15 rfl) rfl
theorem q571 : (Jvm.Cond.fieldLink "java/lang/String" (1053 : Nat) "jdk/internal/util/Preconditions" "SIOOBE_FORMATTER" "Ljava/util/function/BiFunction;") ∈ lw_all := lw_g (lw_at lw_m3 16 rfl) rfl
theorem q573 : (Jvm.Cond.methodLink "java/lang/String" (1059 : Nat) ({ cls := "jdk/internal/util/Preconditions", name := "checkIndex", desc := "(IILjava/util/function/BiFunction;)I" } : Jvm.MethodName)) ∈ lw_all := lw_g (lw_at lw_m3 18 rfl) rfl
theorem q574 : (Jvm.Cond.methodLink "java/lang/String" (498 : Nat) ({ cls := "java/lang/StringUTF16", name := "charAt", desc := "([BI)C" } : Jvm.MethodName)) ∈ lw_all := lw_g (lw_at lw_m3 19 rfl) rfl
theorem q699 : (Jvm.Cond.selects "java/lang/String" ({ cls := "java/lang/Object", name := "getClass", desc := "()Ljava/lang/Class;" } : Jvm.MethodName) ({ cls := "java/lang/Object", name := "getClass", desc := "()Ljava/lang/Class;" } : Jvm.MethodName)) ∈ lw_all := lw_g (lw_at lw_m3 144 rfl) rfl
theorem q1017 : (Jvm.Cond.instantiable "java/lang/String" (4 : Nat)) ∈ lw_all := lw_g (lw_at lw_m4 222 rfl) rfl
theorem q1018 : (Jvm.Cond.laysFinal "java/lang/String" "java/lang/String" "value" "[B") ∈ lw_all := lw_g (lw_at lw_m4 223 rfl) rfl
theorem q1019 : (Jvm.Cond.soleField "java/lang/String" "value") ∈ lw_all := lw_g (lw_at lw_m4 224 rfl) rfl
theorem q1020 : (Jvm.Cond.laysFinal "java/lang/String" "java/lang/String" "coder" "B") ∈ lw_all := lw_g (lw_at lw_m4 225 rfl) rfl
theorem q1021 : (Jvm.Cond.soleField "java/lang/String" "coder") ∈ lw_all := lw_g (lw_at lw_m4 226 rfl) rfl
theorem q1204 : (Jvm.Cond.instanceMethod ({ cls := "java/lang/String", name := "indexOf", desc := "(I)I" } : Jvm.MethodName)) ∈ lw_all := lw_g (lw_at lw_m5 169 rfl) rfl
theorem q1205 : (Jvm.Cond.selects "java/lang/String" ({ cls := "java/lang/String", name := "indexOf", desc := "(I)I" } : Jvm.MethodName) ({ cls := "java/lang/String", name := "indexOf", desc := "(I)I" } : Jvm.MethodName)) ∈ lw_all := lw_g (lw_at lw_m5 170 rfl) rfl
theorem q1206 : (Jvm.Cond.code ({ cls := "java/lang/String", name := "indexOf", desc := "(I)I" } : Jvm.MethodName) prog_34_method_79_code (2 : Nat) (Option.some Jvm.ClassFile.FieldType.int)) ∈ lw_all := lw_g (lw_at lw_m5 171 rfl) rfl
theorem q1207 : (Jvm.Cond.methodLink "java/lang/String" (633 : Nat) ({ cls := "java/lang/String", name := "indexOf", desc := "(II)I" } : Jvm.MethodName)) ∈ lw_all := lw_g (lw_at lw_m5 172 rfl) rfl
theorem q1208 : (Jvm.Cond.instanceMethod ({ cls := "java/lang/String", name := "indexOf", desc := "(II)I" } : Jvm.MethodName)) ∈ lw_all := lw_g (lw_at lw_m5 173 rfl) rfl
theorem q1209 : (Jvm.Cond.selects "java/lang/String" ({ cls := "java/lang/String", name := "indexOf", desc := "(II)I" } : Jvm.MethodName) ({ cls := "java/lang/String", name := "indexOf", desc := "(II)I" } : Jvm.MethodName)) ∈ lw_all := lw_g (lw_at lw_m5 174 rfl) rfl
theorem q1210 : (Jvm.Cond.code ({ cls := "java/lang/String", name := "indexOf", desc := "(II)I" } : Jvm.MethodName) prog_34_method_80_code (3 : Nat) (Option.some Jvm.ClassFile.FieldType.int)) ∈ lw_all := lw_g (lw_at lw_m5 175 rfl) rfl
theorem q1211 : (Jvm.Cond.methodLink "java/lang/String" (505 : Nat) ({ cls := "java/lang/String", name := "length", desc := "()I" } : Jvm.MethodName)) ∈ lw_all := lw_g (lw_at lw_m5 176 rfl) rfl
theorem q1212 : (Jvm.Cond.methodLink "java/lang/String" (637 : Nat) ({ cls := "java/lang/StringLatin1", name := "indexOf", desc := "([BIII)I" } : Jvm.MethodName)) ∈ lw_all := lw_g (lw_at lw_m5 177 rfl) rfl
theorem q1223 : (Jvm.Cond.methodLink "java/lang/String" (640 : Nat) ({ cls := "java/lang/StringUTF16", name := "indexOf", desc := "([BIII)I" } : Jvm.MethodName)) ∈ lw_all := lw_g (lw_at lw_m5 188 rfl) rfl
theorem q1236 : (Jvm.Cond.static ({ cls := "java/lang/String", name := "checkBoundsBeginEnd", desc := "(III)V" } : Jvm.MethodName)) ∈ lw_all := lw_g (lw_at lw_m5 201 rfl) rfl
theorem q1237 : (Jvm.Cond.code ({ cls := "java/lang/String", name := "checkBoundsBeginEnd", desc := "(III)V" } : Jvm.MethodName) prog_34_method_158_code (3 : Nat) (Option.none : Option Jvm.ClassFile.FieldType)) ∈ lw_all := lw_g (lw_at lw_m5 202 rfl) rfl
theorem q1238 : (Jvm.Cond.methodLink "java/lang/String" (1062 : Nat) ({ cls := "jdk/internal/util/Preconditions", name := "checkFromToIndex", desc := "(IIILjava/util/function/BiFunction;)I" } : Jvm.MethodName)) ∈ lw_all := lw_g (lw_at lw_m5 203 rfl) rfl
theorem q1547 : (Jvm.Cond.static ({ cls := "java/lang/String", name := "checkBoundsOffCount", desc := "(III)I" } : Jvm.MethodName)) ∈ lw_all := lw_g (lw_at lw_m7 32 rfl) rfl
theorem q1548 : (Jvm.Cond.code ({ cls := "java/lang/String", name := "checkBoundsOffCount", desc := "(III)I" } : Jvm.MethodName) prog_34_method_157_code (3 : Nat) (Option.some Jvm.ClassFile.FieldType.int)) ∈ lw_all := lw_g (lw_at lw_m7 33 rfl) rfl
theorem q1549 : (Jvm.Cond.methodLink "java/lang/String" (1065 : Nat) ({ cls := "jdk/internal/util/Preconditions", name := "checkFromIndexSize", desc := "(IIILjava/util/function/BiFunction;)I" } : Jvm.MethodName)) ∈ lw_all := lw_g (lw_at lw_m7 34 rfl) rfl
theorem q1553 : (Jvm.Cond.instanceMethod ({ cls := "java/lang/String", name := "getBytes", desc := "([BIB)V" } : Jvm.MethodName)) ∈ lw_all := lw_g (lw_at lw_m7 38 rfl) rfl
theorem q1554 : (Jvm.Cond.selects "java/lang/String" ({ cls := "java/lang/String", name := "getBytes", desc := "([BIB)V" } : Jvm.MethodName) ({ cls := "java/lang/String", name := "getBytes", desc := "([BIB)V" } : Jvm.MethodName)) ∈ lw_all := lw_g (lw_at lw_m7 39 rfl) rfl
theorem q1555 : (Jvm.Cond.code ({ cls := "java/lang/String", name := "getBytes", desc := "([BIB)V" } : Jvm.MethodName) prog_34_method_147_code (4 : Nat) (Option.none : Option Jvm.ClassFile.FieldType)) ∈ lw_all := lw_g (lw_at lw_m7 40 rfl) rfl
theorem q1556 : (Jvm.Cond.methodLink "java/lang/String" (212 : Nat) ({ cls := "java/lang/System", name := "arraycopy", desc := "(Ljava/lang/Object;ILjava/lang/Object;II)V" } : Jvm.MethodName)) ∈ lw_all := lw_g (lw_at lw_m7 41 rfl) rfl
theorem q1557 : (Jvm.Cond.methodLink "java/lang/String" (106 : Nat) ({ cls := "java/lang/StringLatin1", name := "inflate", desc := "([BI[BII)V" } : Jvm.MethodName)) ∈ lw_all := lw_g (lw_at lw_m7 42 rfl) rfl
theorem q1584 : (Jvm.Cond.instanceMethod ({ cls := "java/lang/String", name := "<init>", desc := "(Ljava/lang/StringBuilder;)V" } : Jvm.MethodName)) ∈ lw_all := lw_g (lw_at lw_m7 69 rfl) rfl
theorem q1585 : (Jvm.Cond.code ({ cls := "java/lang/String", name := "<init>", desc := "(Ljava/lang/StringBuilder;)V" } : Jvm.MethodName) prog_34_method_53_code (2 : Nat) (Option.none : Option Jvm.ClassFile.FieldType)) ∈ lw_all := lw_g (lw_at lw_m7 70 rfl) rfl
theorem q1586 : (Jvm.Cond.methodLink "java/lang/String" (489 : Nat) ({ cls := "java/lang/String", name := "<init>", desc := "(Ljava/lang/AbstractStringBuilder;Ljava/lang/Void;)V" } : Jvm.MethodName)) ∈ lw_all := lw_g (lw_at lw_m7 71 rfl) rfl
theorem q1587 : (Jvm.Cond.instanceMethod ({ cls := "java/lang/String", name := "<init>", desc := "(Ljava/lang/AbstractStringBuilder;Ljava/lang/Void;)V" } : Jvm.MethodName)) ∈ lw_all := lw_g (lw_at lw_m7 72 rfl) rfl
theorem q1588 : (Jvm.Cond.code ({ cls := "java/lang/String", name := "<init>", desc := "(Ljava/lang/AbstractStringBuilder;Ljava/lang/Void;)V" } : Jvm.MethodName) prog_34_method_150_code (5 : Nat) (Option.none : Option Jvm.ClassFile.FieldType)) ∈ lw_all := lw_g (lw_at lw_m7 73 rfl) rfl
theorem q1589 : (Jvm.Cond.methodLink "java/lang/String" (1 : Nat) ({ cls := "java/lang/Object", name := "<init>", desc := "()V" } : Jvm.MethodName)) ∈ lw_all := lw_g (lw_at lw_m7 74 rfl) rfl
theorem q1590 : (Jvm.Cond.methodLink "java/lang/String" (552 : Nat) ({ cls := "java/lang/AbstractStringBuilder", name := "getValue", desc := "()[B" } : Jvm.MethodName)) ∈ lw_all := lw_g (lw_at lw_m7 75 rfl) rfl
theorem q1595 : (Jvm.Cond.methodLink "java/lang/String" (549 : Nat) ({ cls := "java/lang/AbstractStringBuilder", name := "length", desc := "()I" } : Jvm.MethodName)) ∈ lw_all := lw_g (lw_at lw_m7 80 rfl) rfl
theorem q1603 : (Jvm.Cond.methodLink "java/lang/String" (1047 : Nat) ({ cls := "java/lang/AbstractStringBuilder", name := "isLatin1", desc := "()Z" } : Jvm.MethodName)) ∈ lw_all := lw_g (lw_at lw_m7 88 rfl) rfl
theorem q1604 : (Jvm.Cond.methodLink "java/lang/String" (54 : Nat) ({ cls := "java/util/Arrays", name := "copyOfRange", desc := "([BII)[B" } : Jvm.MethodName)) ∈ lw_all := lw_g (lw_at lw_m7 89 rfl) rfl
theorem q1624 : (Jvm.Cond.methodLink "java/lang/String" (1051 : Nat) ({ cls := "java/lang/StringUTF16", name := "compress", desc := "([BII)[B" } : Jvm.MethodName)) ∈ lw_all := lw_g (lw_at lw_m7 109 rfl) rfl
theorem q1631 : (Jvm.Cond.methodLink "java/lang/String" (47 : Nat) ({ cls := "java/lang/StringUTF16", name := "coderFromArrayLen", desc := "([BI)B" } : Jvm.MethodName)) ∈ lw_all := lw_g (lw_at lw_m7 116 rfl) rfl
theorem q1634 : (Jvm.Cond.fieldLink "java/lang/String" (9 : Nat) "java/lang/String" "value" "[B") ∈ lw_all := lw_g (lw_at lw_m7 119 rfl) rfl
theorem q1635 : (Jvm.Cond.fieldLink "java/lang/String" (15 : Nat) "java/lang/String" "coder" "B") ∈ lw_all := lw_g (lw_at lw_m7 120 rfl) rfl
theorem q1636 : (Jvm.Cond.lays "java/lang/String" "java/lang/String" "hash" "I") ∈ lw_all := lw_g (lw_at lw_m7 121 rfl) rfl
theorem q1637 : (Jvm.Cond.soleField "java/lang/String" "hash") ∈ lw_all := lw_g (lw_at lw_m7 122 rfl) rfl
theorem q1638 : (Jvm.Cond.lays "java/lang/String" "java/lang/String" "hashIsZero" "Z") ∈ lw_all := lw_g (lw_at lw_m7 123 rfl) rfl
theorem q1639 : (Jvm.Cond.soleField "java/lang/String" "hashIsZero") ∈ lw_all := lw_g (lw_at lw_m7 124 rfl) rfl
theorem q1640 : (Jvm.Cond.superclass "java/lang/String" "java/lang/Object") ∈ lw_all := lw_g (lw_at lw_m7 125 rfl) rfl
theorem q2459 : (Jvm.Cond.castable "java/lang/String" "java/lang/Object") ∈ lw_tbl := lw_at lw_m10 224 rfl
theorem in_J10 : ∀ w ∈ wsJ100, w ∈ lw_all := lw_in wsJ100 [1018, 1020, 1636, 1638] (by decide +kernel) (by decide +kernel)
/-! java/lang/StringUTF16 -/
def RJ11 : String := "java/lang/StringUTF16"
abbrev cJ11_newBytesFor : ByteArray := prog_38_method_2_code
def yJ11_newBytesFor : MethodName := ⟨RJ11, "newBytesFor", "(I)[B"⟩
abbrev cJ11_newBytesLength : ByteArray := prog_38_method_3_code
def yJ11_newBytesLength : MethodName := ⟨RJ11, "newBytesLength", "(I)I"⟩
abbrev cJ11_charAt : ByteArray := prog_38_method_83_code
def yJ11_charAt : MethodName := ⟨RJ11, "charAt", "([BI)C"⟩
abbrev cJ11_checkIndex : ByteArray := prog_38_method_91_code
def yJ11_checkIndex : MethodName := ⟨RJ11, "checkIndex", "(I[B)V"⟩
abbrev cJ11_length : ByteArray := prog_38_method_6_code
def yJ11_length : MethodName := ⟨RJ11, "length", "([B)I"⟩
abbrev cJ11_getChar : ByteArray := prog_38_method_5_code
def yJ11_getChar : MethodName := ⟨RJ11, "getChar", "([BI)C"⟩
abbrev cJ11_indexOf : ByteArray := prog_38_method_40_code
def yJ11_indexOf : MethodName := ⟨RJ11, "indexOf", "([BIII)I"⟩
abbrev cJ11_indexOfChar : ByteArray := prog_38_method_47_code
def yJ11_indexOfChar : MethodName := ⟨RJ11, "indexOfChar", "([BIII)I"⟩
abbrev cJ11_checkBoundsBeginEnd : ByteArray := prog_38_method_93_code
def yJ11_checkBoundsBeginEnd : MethodName := ⟨RJ11, "checkBoundsBeginEnd", "(II[B)V"⟩
abbrev cJ11_indexOfCharUnsafe : ByteArray := prog_38_method_48_code
def yJ11_indexOfCharUnsafe : MethodName := ⟨RJ11, "indexOfCharUnsafe", "([BIII)I"⟩
abbrev cJ11_indexOfSupplementary : ByteArray := prog_38_method_49_code
def yJ11_indexOfSupplementary : MethodName := ⟨RJ11, "indexOfSupplementary", "([BIII)I"⟩
abbrev cJ11_getChars : ByteArray := prog_38_method_77_code
def yJ11_getChars : MethodName := ⟨RJ11, "getChars", "(III[B)I"⟩
abbrev cJ11_getChars_2 : ByteArray := prog_38_method_89_code
def yJ11_getChars_2 : MethodName := ⟨RJ11, "getChars", "(II[B)I"⟩
abbrev cJ11_putChar : ByteArray := prog_38_method_4_code
def yJ11_putChar : MethodName := ⟨RJ11, "putChar", "([BII)V"⟩
abbrev cJ11_putCharsAt : ByteArray := prog_38_method_81_code
def yJ11_putCharsAt : MethodName := ⟨RJ11, "putCharsAt", "([BICCCC)I"⟩
abbrev cJ11_inflate : ByteArray := prog_38_method_86_code
def yJ11_inflate : MethodName := ⟨RJ11, "inflate", "([BI[BII)V"⟩
abbrev cJ11_checkBoundsOffCount : ByteArray := prog_38_method_94_code
def yJ11_checkBoundsOffCount : MethodName := ⟨RJ11, "checkBoundsOffCount", "(II[B)V"⟩
abbrev cJ11_putCharSB : ByteArray := prog_38_method_71_code
def yJ11_putCharSB : MethodName := ⟨RJ11, "putCharSB", "([BII)V"⟩
abbrev cJ11_compress : ByteArray := prog_38_method_17_code
def yJ11_compress : MethodName := ⟨RJ11, "compress", "([BII)[B"⟩
abbrev cJ11_compress_2 : ByteArray := prog_38_method_22_code
def yJ11_compress_2 : MethodName := ⟨RJ11, "compress", "([BI[BII)I"⟩
abbrev cJ11_coderFromArrayLen : ByteArray := prog_38_method_15_code
def yJ11_coderFromArrayLen : MethodName := ⟨RJ11, "coderFromArrayLen", "([BI)B"⟩
abbrev cJ11_fillNull : ByteArray := prog_38_method_70_code
def yJ11_fillNull : MethodName := ⟨RJ11, "fillNull", "([BII)V"⟩
theorem q89 : (Jvm.Cond.initialized "java/lang/StringUTF16") ∈ lw_all := lw_g (lw_at lw_m1 14 rfl) rfl
theorem q367 : (Jvm.Cond.static ({ cls := "java/lang/StringUTF16", name := "newBytesFor", desc := "(I)[B" } : Jvm.MethodName)) ∈ lw_all := lw_g (lw_at lw_m2 52 rfl) rfl
theorem q368 : (Jvm.Cond.code ({ cls := "java/lang/StringUTF16", name := "newBytesFor", desc := "(I)[B" } : Jvm.MethodName) prog_38_method_2_code (1 : Nat) (Option.some (Jvm.ClassFile.FieldType.array Jvm.ClassFile.FieldType.byte))) ∈ lw_all := lw_g (lw_at lw_m2 53 rfl) rfl
theorem q369 : (Jvm.Cond.methodLink "java/lang/StringUTF16" (11 : Nat) ({ cls := "java/lang/StringUTF16", name := "newBytesLength", desc := "(I)I" } : Jvm.MethodName)) ∈ lw_all := lw_g (lw_at lw_m2 54 rfl) rfl
theorem q370 : (Jvm.Cond.static ({ cls := "java/lang/StringUTF16", name := "newBytesLength", desc := "(I)I" } : Jvm.MethodName)) ∈ lw_all := lw_g (lw_at lw_m2 55 rfl) rfl
theorem q371 : (Jvm.Cond.code ({ cls := "java/lang/StringUTF16", name := "newBytesLength", desc := "(I)I" } : Jvm.MethodName) prog_38_method_3_code (1 : Nat) (Option.some Jvm.ClassFile.FieldType.int)) ∈ lw_all := lw_g (lw_at lw_m2 56 rfl) rfl
theorem q372 : (Jvm.Cond.constant "java/lang/StringUTF16" (20 : Nat) (1073741823 : Int32)) ∈ lw_all := lw_g (lw_at lw_m2 57 rfl) rfl
theorem q575 : (Jvm.Cond.static ({ cls := "java/lang/StringUTF16", name := "charAt", desc := "([BI)C" } : Jvm.MethodName)) ∈ lw_all := lw_g (lw_at lw_m3 20 rfl) rfl
theorem q576 : (Jvm.Cond.code ({ cls := "java/lang/StringUTF16", name := "charAt", desc := "([BI)C" } : Jvm.MethodName) prog_38_method_83_code (2 : Nat) (Option.some Jvm.ClassFile.FieldType.char)) ∈ lw_all := lw_g (lw_at lw_m3 21 rfl) rfl
theorem q577 : (Jvm.Cond.methodLink "java/lang/StringUTF16" (67 : Nat) ({ cls := "java/lang/StringUTF16", name := "checkIndex", desc := "(I[B)V" } : Jvm.MethodName)) ∈ lw_all := lw_g (lw_at lw_m3 22 rfl) rfl
theorem q578 : (Jvm.Cond.static ({ cls := "java/lang/StringUTF16", name := "checkIndex", desc := "(I[B)V" } : Jvm.MethodName)) ∈ lw_all := lw_g (lw_at lw_m3 23 rfl) rfl
theorem q579 : (Jvm.Cond.code ({ cls := "java/lang/StringUTF16", name := "checkIndex", desc := "(I[B)V" } : Jvm.MethodName) prog_38_method_91_code (2 : Nat) (Option.none : Option Jvm.ClassFile.FieldType)) ∈ lw_all := lw_g (lw_at lw_m3 24 rfl) rfl
theorem q580 : (Jvm.Cond.methodLink "java/lang/StringUTF16" (48 : Nat) ({ cls := "java/lang/StringUTF16", name := "length", desc := "([B)I" } : Jvm.MethodName)) ∈ lw_all := lw_g (lw_at lw_m3 25 rfl) rfl
theorem q581 : (Jvm.Cond.static ({ cls := "java/lang/StringUTF16", name := "length", desc := "([B)I" } : Jvm.MethodName)) ∈ lw_all := lw_g (lw_at lw_m3 26 rfl) rfl
theorem q582 : (Jvm.Cond.code ({ cls := "java/lang/StringUTF16", name := "length", desc := "([B)I" } : Jvm.MethodName) prog_38_method_6_code (1 : Nat) (Option.some Jvm.ClassFile.FieldType.int)) ∈ lw_all := lw_g (lw_at lw_m3 27 rfl) rfl
theorem q583 : (Jvm.Cond.methodLink "java/lang/StringUTF16" (414 : Nat) ({ cls := "java/lang/String", name := "checkIndex", desc := "(II)V" } : Jvm.MethodName)) ∈ lw_all := lw_g (lw_at lw_m3 28 rfl) rfl
theorem q584 : (Jvm.Cond.methodLink "java/lang/StringUTF16" (71 : Nat) ({ cls := "java/lang/StringUTF16", name := "getChar", desc := "([BI)C" } : Jvm.MethodName)) ∈ lw_all := lw_g (lw_at lw_m3 29 rfl) rfl
theorem q585 : (Jvm.Cond.static ({ cls := "java/lang/StringUTF16", name := "getChar", desc := "([BI)C" } : Jvm.MethodName)) ∈ lw_all := lw_g (lw_at lw_m3 30 rfl) rfl
theorem q586 : (Jvm.Cond.code ({ cls := "java/lang/StringUTF16", name := "getChar", desc := "([BI)C" } : Jvm.MethodName) prog_38_method_5_code (2 : Nat) (Option.some Jvm.ClassFile.FieldType.char)) ∈ lw_all := lw_g (lw_at lw_m3 31 rfl) rfl
theorem q587 : (Jvm.Cond.fieldLink "java/lang/StringUTF16" (44 : Nat) "java/lang/StringUTF16" "$assertionsDisabled" "Z") ∈ lw_all := lw_g (lw_at lw_m3 32 rfl) rfl
theorem q588 : (Jvm.Cond.laysStatic "java/lang/StringUTF16" "$assertionsDisabled" "Z") ∈ lw_tbl := lw_at lw_m3 33 rfl
theorem q589 : (Jvm.Cond.fieldLink "java/lang/StringUTF16" (59 : Nat) "java/lang/StringUTF16" "HI_BYTE_SHIFT" "I") ∈ lw_all := lw_g (lw_at lw_m3 34 rfl) rfl
theorem q590 : (Jvm.Cond.laysStatic "java/lang/StringUTF16" "HI_BYTE_SHIFT" "I") ∈ lw_tbl := lw_at lw_m3 35 rfl
theorem q591 : (Jvm.Cond.fieldLink "java/lang/StringUTF16" (63 : Nat) "java/lang/StringUTF16" "LO_BYTE_SHIFT" "I") ∈ lw_all := lw_g (lw_at lw_m3 36 rfl) rfl
theorem q592 : (Jvm.Cond.laysStatic "java/lang/StringUTF16" "LO_BYTE_SHIFT" "I") ∈ lw_tbl := lw_at lw_m3 37 rfl
theorem q1224 : (Jvm.Cond.static ({ cls := "java/lang/StringUTF16", name := "indexOf", desc := "([BIII)I" } : Jvm.MethodName)) ∈ lw_all := lw_g (lw_at lw_m5 189 rfl) rfl
theorem q1225 : (Jvm.Cond.code ({ cls := "java/lang/StringUTF16", name := "indexOf", desc := "([BIII)I" } : Jvm.MethodName) prog_38_method_40_code (4 : Nat) (Option.some Jvm.ClassFile.FieldType.int)) ∈ lw_all := lw_g (lw_at lw_m5 190 rfl) rfl
theorem q1226 : (Jvm.Cond.methodLink "java/lang/StringUTF16" (224 : Nat) ({ cls := "java/lang/Math", name := "max", desc := "(II)I" } : Jvm.MethodName)) ∈ lw_all := lw_g (lw_at lw_m5 191 rfl) rfl
theorem q1227 : (Jvm.Cond.methodLink "java/lang/StringUTF16" (183 : Nat) ({ cls := "java/lang/Math", name := "min", desc := "(II)I" } : Jvm.MethodName)) ∈ lw_all := lw_g (lw_at lw_m5 192 rfl) rfl
theorem q1228 : (Jvm.Cond.constant "java/lang/StringUTF16" (227 : Nat) (65536 : Int32)) ∈ lw_all := lw_g (lw_at lw_m5 193 rfl) rfl
theorem q1229 : (Jvm.Cond.methodLink "java/lang/StringUTF16" (228 : Nat) ({ cls := "java/lang/StringUTF16", name := "indexOfChar", desc := "([BIII)I" } : Jvm.MethodName)) ∈ lw_all := lw_g (lw_at lw_m5 194 rfl) rfl
theorem q1230 : (Jvm.Cond.static ({ cls := "java/lang/StringUTF16", name := "indexOfChar", desc := "([BIII)I" } : Jvm.MethodName)) ∈ lw_all := lw_g (lw_at lw_m5 195 rfl) rfl
theorem q1231 : (Jvm.Cond.code ({ cls := "java/lang/StringUTF16", name := "indexOfChar", desc := "([BIII)I" } : Jvm.MethodName) prog_38_method_47_code (4 : Nat) (Option.some Jvm.ClassFile.FieldType.int)) ∈ lw_all := lw_g (lw_at lw_m5 196 rfl) rfl
theorem q1232 : (Jvm.Cond.methodLink "java/lang/StringUTF16" (96 : Nat) ({ cls := "java/lang/StringUTF16", name := "checkBoundsBeginEnd", desc := "(II[B)V" } : Jvm.MethodName)) ∈ lw_all := lw_g (lw_at lw_m5 197 rfl) rfl
theorem q1233 : (Jvm.Cond.static ({ cls := "java/lang/StringUTF16", name := "checkBoundsBeginEnd", desc := "(II[B)V" } : Jvm.MethodName)) ∈ lw_all := lw_g (lw_at lw_m5 198 rfl) rfl
theorem q1234 : (Jvm.Cond.code ({ cls := "java/lang/StringUTF16", name := "checkBoundsBeginEnd", desc := "(II[B)V" } : Jvm.MethodName) prog_38_method_93_code (3 : Nat) (Option.none : Option Jvm.ClassFile.FieldType)) ∈ lw_all := lw_g (lw_at lw_m5 199 rfl) rfl
theorem q1235 : (Jvm.Cond.methodLink "java/lang/StringUTF16" (241 : Nat) ({ cls := "java/lang/String", name := "checkBoundsBeginEnd", desc := "(III)V" } : Jvm.MethodName)) ∈ lw_all := lw_g (lw_at lw_m5 200 rfl) rfl
theorem q1241 : (Jvm.Cond.methodLink "java/lang/StringUTF16" (244 : Nat) ({ cls := "java/lang/StringUTF16", name := "indexOfCharUnsafe", desc := "([BIII)I" } : Jvm.MethodName)) ∈ lw_all := lw_g (lw_at lw_m5 206 rfl) rfl
theorem q1242 : (Jvm.Cond.static ({ cls := "java/lang/StringUTF16", name := "indexOfCharUnsafe", desc := "([BIII)I" } : Jvm.MethodName)) ∈ lw_all := lw_g (lw_at lw_m5 207 rfl) rfl
theorem q1243 : (Jvm.Cond.code ({ cls := "java/lang/StringUTF16", name := "indexOfCharUnsafe", desc := "([BIII)I" } : Jvm.MethodName) prog_38_method_48_code (5 : Nat) (Option.some Jvm.ClassFile.FieldType.int)) ∈ lw_all := lw_g (lw_at lw_m5 208 rfl) rfl
theorem q1244 : (Jvm.Cond.methodLink "java/lang/StringUTF16" (232 : Nat) ({ cls := "java/lang/StringUTF16", name := "indexOfSupplementary", desc := "([BIII)I" } : Jvm.MethodName)) ∈ lw_all := lw_g (lw_at lw_m5 209 rfl) rfl
theorem q1245 : (Jvm.Cond.static ({ cls := "java/lang/StringUTF16", name := "indexOfSupplementary", desc := "([BIII)I" } : Jvm.MethodName)) ∈ lw_all := lw_g (lw_at lw_m5 210 rfl) rfl
theorem q1246 : (Jvm.Cond.code ({ cls := "java/lang/StringUTF16", name := "indexOfSupplementary", desc := "([BIII)I" } : Jvm.MethodName) prog_38_method_49_code (7 : Nat) (Option.some Jvm.ClassFile.FieldType.int)) ∈ lw_all := lw_g (lw_at lw_m5 211 rfl) rfl
theorem q1247 : (Jvm.Cond.methodLink "java/lang/StringUTF16" (164 : Nat) ({ cls := "java/lang/Character", name := "isValidCodePoint", desc := "(I)Z" } : Jvm.MethodName)) ∈ lw_all := lw_g (lw_at lw_m5 212 rfl) rfl
theorem q1250 : (Jvm.Cond.methodLink "java/lang/StringUTF16" (157 : Nat) ({ cls := "java/lang/Character", name := "highSurrogate", desc := "(I)C" } : Jvm.MethodName)) ∈ lw_all := lw_g (lw_at lw_m5 215 rfl) rfl
theorem q1254 : (Jvm.Cond.methodLink "java/lang/StringUTF16" (161 : Nat) ({ cls := "java/lang/Character", name := "lowSurrogate", desc := "(I)C" } : Jvm.MethodName)) ∈ lw_all := lw_g (lw_at lw_m5 219 rfl) rfl
theorem q1498 : (Jvm.Cond.static ({ cls := "java/lang/StringUTF16", name := "getChars", desc := "(III[B)I" } : Jvm.MethodName)) ∈ lw_all := lw_g (lw_at lw_m6 223 rfl) rfl
theorem q1499 : (Jvm.Cond.code ({ cls := "java/lang/StringUTF16", name := "getChars", desc := "(III[B)I" } : Jvm.MethodName) prog_38_method_77_code (5 : Nat) (Option.some Jvm.ClassFile.FieldType.int)) ∈ lw_all := lw_g (lw_at lw_m6 224 rfl) rfl
theorem q1500 : (Jvm.Cond.methodLink "java/lang/StringUTF16" (393 : Nat) ({ cls := "java/lang/StringUTF16", name := "getChars", desc := "(II[B)I" } : Jvm.MethodName)) ∈ lw_all := lw_g (lw_at lw_m6 225 rfl) rfl
theorem q1501 : (Jvm.Cond.static ({ cls := "java/lang/StringUTF16", name := "getChars", desc := "(II[B)I" } : Jvm.MethodName)) ∈ lw_all := lw_g (lw_at lw_m6 226 rfl) rfl
theorem q1502 : (Jvm.Cond.code ({ cls := "java/lang/StringUTF16", name := "getChars", desc := "(II[B)I" } : Jvm.MethodName) prog_38_method_89_code (7 : Nat) (Option.some Jvm.ClassFile.FieldType.int)) ∈ lw_all := lw_g (lw_at lw_m6 227 rfl) rfl
theorem q1503 : (Jvm.Cond.fieldLink "java/lang/StringUTF16" (403 : Nat) "java/lang/Integer" "DigitOnes" "[B") ∈ lw_all := lw_g (lw_at lw_m6 228 rfl) rfl
theorem q1504 : (Jvm.Cond.methodLink "java/lang/StringUTF16" (111 : Nat) ({ cls := "java/lang/StringUTF16", name := "putChar", desc := "([BII)V" } : Jvm.MethodName)) ∈ lw_all := lw_g (lw_at lw_m6 229 rfl) rfl
theorem q1505 : (Jvm.Cond.static ({ cls := "java/lang/StringUTF16", name := "putChar", desc := "([BII)V" } : Jvm.MethodName)) ∈ lw_all := lw_g (lw_at lw_m6 230 rfl) rfl
theorem q1506 : (Jvm.Cond.code ({ cls := "java/lang/StringUTF16", name := "putChar", desc := "([BII)V" } : Jvm.MethodName) prog_38_method_4_code (3 : Nat) (Option.none : Option Jvm.ClassFile.FieldType)) ∈ lw_all := lw_g (lw_at lw_m6 231 rfl) rfl
theorem q1507 : (Jvm.Cond.fieldLink "java/lang/StringUTF16" (407 : Nat) "java/lang/Integer" "DigitTens" "[B") ∈ lw_all := lw_g (lw_at lw_m6 232 rfl) rfl
theorem q1521 : (Jvm.Cond.static ({ cls := "java/lang/StringUTF16", name := "putCharsAt", desc := "([BICCCC)I" } : Jvm.MethodName)) ∈ lw_all := lw_g (lw_at lw_m7 6 rfl) rfl
theorem q1522 : (Jvm.Cond.code ({ cls := "java/lang/StringUTF16", name := "putCharsAt", desc := "([BICCCC)I" } : Jvm.MethodName) prog_38_method_81_code (7 : Nat) (Option.some Jvm.ClassFile.FieldType.int)) ∈ lw_all := lw_g (lw_at lw_m7 7 rfl) rfl
theorem q1541 : (Jvm.Cond.static ({ cls := "java/lang/StringUTF16", name := "inflate", desc := "([BI[BII)V" } : Jvm.MethodName)) ∈ lw_all := lw_g (lw_at lw_m7 26 rfl) rfl
theorem q1542 : (Jvm.Cond.code ({ cls := "java/lang/StringUTF16", name := "inflate", desc := "([BI[BII)V" } : Jvm.MethodName) prog_38_method_86_code (6 : Nat) (Option.none : Option Jvm.ClassFile.FieldType)) ∈ lw_all := lw_g (lw_at lw_m7 27 rfl) rfl
theorem q1543 : (Jvm.Cond.methodLink "java/lang/StringUTF16" (173 : Nat) ({ cls := "java/lang/StringUTF16", name := "checkBoundsOffCount", desc := "(II[B)V" } : Jvm.MethodName)) ∈ lw_all := lw_g (lw_at lw_m7 28 rfl) rfl
theorem q1544 : (Jvm.Cond.static ({ cls := "java/lang/StringUTF16", name := "checkBoundsOffCount", desc := "(II[B)V" } : Jvm.MethodName)) ∈ lw_all := lw_g (lw_at lw_m7 29 rfl) rfl
theorem q1545 : (Jvm.Cond.code ({ cls := "java/lang/StringUTF16", name := "checkBoundsOffCount", desc := "(II[B)V" } : Jvm.MethodName) prog_38_method_94_code (3 : Nat) (Option.none : Option Jvm.ClassFile.FieldType)) ∈ lw_all := lw_g (lw_at lw_m7 30 rfl) rfl
theorem q1546 : (Jvm.Cond.methodLink "java/lang/StringUTF16" (419 : Nat) ({ cls := "java/lang/String", name := "checkBoundsOffCount", desc := "(III)I" } : Jvm.MethodName)) ∈ lw_all := lw_g (lw_at lw_m7 31 rfl) rfl
theorem q1569 : (Jvm.Cond.static ({ cls := "java/lang/StringUTF16", name := "putCharSB", desc := "([BII)V" } : Jvm.MethodName)) ∈ lw_all := lw_g (lw_at lw_m7 54 rfl) rfl
theorem q1570 : (Jvm.Cond.code ({ cls := "java/lang/StringUTF16", name := "putCharSB", desc := "([BII)V" } : Jvm.MethodName) prog_38_method_71_code (3 : Nat) (Option.none : Option Jvm.ClassFile.FieldType)) ∈ lw_all := lw_g (lw_at lw_m7 55 rfl) rfl
theorem q1625 : (Jvm.Cond.static ({ cls := "java/lang/StringUTF16", name := "compress", desc := "([BII)[B" } : Jvm.MethodName)) ∈ lw_all := lw_g (lw_at lw_m7 110 rfl) rfl
theorem q1626 : (Jvm.Cond.code ({ cls := "java/lang/StringUTF16", name := "compress", desc := "([BII)[B" } : Jvm.MethodName) prog_38_method_17_code (6 : Nat) (Option.some (Jvm.ClassFile.FieldType.array Jvm.ClassFile.FieldType.byte))) ∈ lw_all := lw_g (lw_at lw_m7 111 rfl) rfl
theorem q1627 : (Jvm.Cond.methodLink "java/lang/StringUTF16" (123 : Nat) ({ cls := "java/lang/StringUTF16", name := "compress", desc := "([BI[BII)I" } : Jvm.MethodName)) ∈ lw_all := lw_g (lw_at lw_m7 112 rfl) rfl
theorem q1628 : (Jvm.Cond.static ({ cls := "java/lang/StringUTF16", name := "compress", desc := "([BI[BII)I" } : Jvm.MethodName)) ∈ lw_all := lw_g (lw_at lw_m7 113 rfl) rfl
theorem q1629 : (Jvm.Cond.code ({ cls := "java/lang/StringUTF16", name := "compress", desc := "([BI[BII)I" } : Jvm.MethodName) prog_38_method_22_code (7 : Nat) (Option.some Jvm.ClassFile.FieldType.int)) ∈ lw_all := lw_g (lw_at lw_m7 114 rfl) rfl
theorem q1630 : (Jvm.Cond.methodLink "java/lang/StringUTF16" (126 : Nat) ({ cls := "java/util/Arrays", name := "copyOfRange", desc := "([BII)[B" } : Jvm.MethodName)) ∈ lw_all := lw_g (lw_at lw_m7 115 rfl) rfl
theorem q1632 : (Jvm.Cond.static ({ cls := "java/lang/StringUTF16", name := "coderFromArrayLen", desc := "([BI)B" } : Jvm.MethodName)) ∈ lw_all := lw_g (lw_at lw_m7 117 rfl) rfl
theorem q1633 : (Jvm.Cond.code ({ cls := "java/lang/StringUTF16", name := "coderFromArrayLen", desc := "([BI)B" } : Jvm.MethodName) prog_38_method_15_code (2 : Nat) (Option.some Jvm.ClassFile.FieldType.byte)) ∈ lw_all := lw_g (lw_at lw_m7 118 rfl) rfl
theorem q1827 : (Jvm.Cond.static ({ cls := "java/lang/StringUTF16", name := "fillNull", desc := "([BII)V" } : Jvm.MethodName)) ∈ lw_all := lw_g (lw_at lw_m8 72 rfl) rfl
theorem q1828 : (Jvm.Cond.code ({ cls := "java/lang/StringUTF16", name := "fillNull", desc := "([BII)V" } : Jvm.MethodName) prog_38_method_70_code (3 : Nat) (Option.none : Option Jvm.ClassFile.FieldType)) ∈ lw_all := lw_g (lw_at lw_m8 73 rfl) rfl
theorem q1829 : (Jvm.Cond.methodLink "java/lang/StringUTF16" (380 : Nat) ({ cls := "java/util/Arrays", name := "fill", desc := "([BIIB)V" } : Jvm.MethodName)) ∈ lw_all := lw_g (lw_at lw_m8 74 rfl) rfl
/-! java/util/Objects -/
def RJ12 : String := "java/util/Objects"
abbrev cJ12_checkIndex : ByteArray := prog_53_method_17_code
def yJ12_checkIndex : MethodName := ⟨RJ12, "checkIndex", "(II)I"⟩
theorem q91 : (Jvm.Cond.initialized "java/util/Objects") ∈ lw_all := lw_g (lw_at lw_m1 16 rfl) rfl
theorem q497 : (Jvm.Cond.static ({ cls := "java/util/Objects", name := "checkIndex", desc := "(II)I" } : Jvm.MethodName)) ∈ lw_all := lw_g (lw_at lw_m2 182 rfl) rfl
theorem q498 : (Jvm.Cond.code ({ cls := "java/util/Objects", name := "checkIndex", desc := "(II)I" } : Jvm.MethodName) prog_53_method_17_code (2 : Nat) (Option.some Jvm.ClassFile.FieldType.int)) ∈ lw_all := lw_g (lw_at lw_m2 183 rfl) rfl
theorem q499 : (Jvm.Cond.methodLink "java/util/Objects" (105 : Nat) ({ cls := "jdk/internal/util/Preconditions", name := "checkIndex", desc := "(IILjava/util/function/BiFunction;)I" } : Jvm.MethodName)) ∈ lw_all := lw_g (lw_at lw_m2 184 rfl) rfl
/-! jdk/internal/util/Preconditions -/
def RJ13 : String := "jdk/internal/util/Preconditions"
abbrev cJ13_checkIndex : ByteArray := prog_57_method_11_code
def yJ13_checkIndex : MethodName := ⟨RJ13, "checkIndex", "(IILjava/util/function/BiFunction;)I"⟩
abbrev cJ13_checkFromToIndex : ByteArray := prog_57_method_12_code
def yJ13_checkFromToIndex : MethodName := ⟨RJ13, "checkFromToIndex", "(IIILjava/util/function/BiFunction;)I"⟩
abbrev cJ13_checkFromIndexSize : ByteArray := prog_57_method_13_code
def yJ13_checkFromIndexSize : MethodName := ⟨RJ13, "checkFromIndexSize", "(IIILjava/util/function/BiFunction;)I"⟩
theorem q92 : (Jvm.Cond.initialized "jdk/internal/util/Preconditions") ∈ lw_all := lw_g (lw_at lw_m1 17 rfl) rfl
theorem q500 : (Jvm.Cond.static ({ cls := "jdk/internal/util/Preconditions", name := "checkIndex", desc := "(IILjava/util/function/BiFunction;)I" } : Jvm.MethodName)) ∈ lw_all := lw_g (lw_at lw_m2 185 rfl) rfl
theorem q501 : (Jvm.Cond.code ({ cls := "jdk/internal/util/Preconditions", name := "checkIndex", desc := "(IILjava/util/function/BiFunction;)I" } : Jvm.MethodName) prog_57_method_11_code (3 : Nat) (Option.some Jvm.ClassFile.FieldType.int)) ∈ lw_all := lw_g (lw_at lw_m2 186 rfl) rfl
theorem q572 : (Jvm.Cond.laysStatic "jdk/internal/util/Preconditions" "SIOOBE_FORMATTER" "Ljava/util/function/BiFunction;") ∈ lw_tbl := lw_at lw_m3 17 rfl
theorem q1239 : (Jvm.Cond.static ({ cls := "jdk/internal/util/Preconditions", name := "checkFromToIndex", desc := "(IIILjava/util/function/BiFunction;)I" } : Jvm.MethodName)) ∈ lw_all := lw_g (lw_at lw_m5 204 rfl) rfl
theorem q1240 : (Jvm.Cond.code ({ cls := "jdk/internal/util/Preconditions", name := "checkFromToIndex", desc := "(IIILjava/util/function/BiFunction;)I" } : Jvm.MethodName) prog_57_method_12_code (4 : Nat) (Option.some Jvm.ClassFile.FieldType.int)) ∈ lw_all := lw_g (lw_at lw_m5 205 rfl) rfl
theorem q1550 : (Jvm.Cond.static ({ cls := "jdk/internal/util/Preconditions", name := "checkFromIndexSize", desc := "(IIILjava/util/function/BiFunction;)I" } : Jvm.MethodName)) ∈ lw_all := lw_g (lw_at lw_m7 35 rfl) rfl
theorem q1551 : (Jvm.Cond.code ({ cls := "jdk/internal/util/Preconditions", name := "checkFromIndexSize", desc := "(IIILjava/util/function/BiFunction;)I" } : Jvm.MethodName) prog_57_method_13_code (4 : Nat) (Option.some Jvm.ClassFile.FieldType.int)) ∈ lw_all := lw_g (lw_at lw_m7 36 rfl) rfl
/-! jdk/internal/util/ArraysSupport -/
def RJ14 : String := "jdk/internal/util/ArraysSupport"
abbrev cJ14_newLength : ByteArray := prog_56_method_27_code
def yJ14_newLength : MethodName := ⟨RJ14, "newLength", "(III)I"⟩
abbrev cJ14_hugeLength : ByteArray := prog_56_method_28_code
def yJ14_hugeLength : MethodName := ⟨RJ14, "hugeLength", "(II)I"⟩
theorem q94 : (Jvm.Cond.initialized "jdk/internal/util/ArraysSupport") ∈ lw_all := lw_g (lw_at lw_m1 19 rfl) rfl
theorem q669 : (Jvm.Cond.static ({ cls := "jdk/internal/util/ArraysSupport", name := "newLength", desc := "(III)I" } : Jvm.MethodName)) ∈ lw_all := lw_g (lw_at lw_m3 114 rfl) rfl
theorem q670 : (Jvm.Cond.code ({ cls := "jdk/internal/util/ArraysSupport", name := "newLength", desc := "(III)I" } : Jvm.MethodName) prog_56_method_27_code (4 : Nat) (Option.some Jvm.ClassFile.FieldType.int)) ∈ lw_all := lw_g (lw_at lw_m3 115 rfl) rfl
theorem q671 : (Jvm.Cond.methodLink "jdk/internal/util/ArraysSupport" (194 : Nat) ({ cls := "java/lang/Math", name := "max", desc := "(II)I" } : Jvm.MethodName)) ∈ lw_all := lw_g (lw_at lw_m3 116 rfl) rfl
theorem q674 : (Jvm.Cond.constant "jdk/internal/util/ArraysSupport" (200 : Nat) (2147483639 : Int32)) ∈ lw_all := lw_g (lw_at lw_m3 119 rfl) rfl
theorem q675 : (Jvm.Cond.methodLink "jdk/internal/util/ArraysSupport" (201 : Nat) ({ cls := "jdk/internal/util/ArraysSupport", name := "hugeLength", desc := "(II)I" } : Jvm.MethodName)) ∈ lw_all := lw_g (lw_at lw_m3 120 rfl) rfl
theorem q676 : (Jvm.Cond.static ({ cls := "jdk/internal/util/ArraysSupport", name := "hugeLength", desc := "(II)I" } : Jvm.MethodName)) ∈ lw_all := lw_g (lw_at lw_m3 121 rfl) rfl
theorem q677 : (Jvm.Cond.code ({ cls := "jdk/internal/util/ArraysSupport", name := "hugeLength", desc := "(II)I" } : Jvm.MethodName) prog_56_method_28_code (3 : Nat) (Option.some Jvm.ClassFile.FieldType.int)) ∈ lw_all := lw_g (lw_at lw_m3 122 rfl) rfl
/-! java/lang/Math -/
def RJ15 : String := "java/lang/Math"
abbrev cJ15_max : ByteArray := prog_31_method_65_code
def yJ15_max : MethodName := ⟨RJ15, "max", "(II)I"⟩
abbrev cJ15_min : ByteArray := prog_31_method_69_code
def yJ15_min : MethodName := ⟨RJ15, "min", "(II)I"⟩
theorem q95 : (Jvm.Cond.initialized "java/lang/Math") ∈ lw_all := lw_g (lw_at lw_m1 20 rfl) rfl
theorem q672 : (Jvm.Cond.static ({ cls := "java/lang/Math", name := "max", desc := "(II)I" } : Jvm.MethodName)) ∈ lw_all := lw_g (lw_at lw_m3 117 rfl) rfl
theorem q673 : (Jvm.Cond.code ({ cls := "java/lang/Math", name := "max", desc := "(II)I" } : Jvm.MethodName) prog_31_method_65_code (2 : Nat) (Option.some Jvm.ClassFile.FieldType.int)) ∈ lw_all := lw_g (lw_at lw_m3 118 rfl) rfl
theorem q714 : (Jvm.Cond.static ({ cls := "java/lang/Math", name := "min", desc := "(II)I" } : Jvm.MethodName)) ∈ lw_all := lw_g (lw_at lw_m3 159 rfl) rfl
theorem q715 : (Jvm.Cond.code ({ cls := "java/lang/Math", name := "min", desc := "(II)I" } : Jvm.MethodName) prog_31_method_69_code (2 : Nat) (Option.some Jvm.ClassFile.FieldType.int)) ∈ lw_all := lw_g (lw_at lw_m3 160 rfl) rfl
/-! java/util/Arrays -/
def RJ16 : String := "java/util/Arrays"
abbrev cJ16_copyOf : ByteArray := prog_48_method_119_code
def yJ16_copyOf : MethodName := ⟨RJ16, "copyOf", "([Ljava/lang/Object;I)[Ljava/lang/Object;"⟩
abbrev cJ16_copyOf_2 : ByteArray := prog_48_method_120_code
def yJ16_copyOf_2 : MethodName := ⟨RJ16, "copyOf", "([Ljava/lang/Object;ILjava/lang/Class;)[Ljava/lang/Object;"⟩
abbrev cJ16_copyOf_3 : ByteArray := prog_48_method_121_code
def yJ16_copyOf_3 : MethodName := ⟨RJ16, "copyOf", "([BI)[B"⟩
abbrev cJ16_copyOfRange : ByteArray := prog_48_method_132_code
def yJ16_copyOfRange : MethodName := ⟨RJ16, "copyOfRange", "([BII)[B"⟩
abbrev cJ16_copyOfRangeByte : ByteArray := prog_48_method_133_code
def yJ16_copyOfRangeByte : MethodName := ⟨RJ16, "copyOfRangeByte", "([BII)[B"⟩
abbrev cJ16_checkLength : ByteArray := prog_48_method_131_code
def yJ16_checkLength : MethodName := ⟨RJ16, "checkLength", "(II)V"⟩
abbrev cJ16_fill : ByteArray := prog_48_method_110_code
def yJ16_fill : MethodName := ⟨RJ16, "fill", "([BIIB)V"⟩
abbrev cJ16_rangeCheck : ByteArray := prog_48_method_30_code
def yJ16_rangeCheck : MethodName := ⟨RJ16, "rangeCheck", "(III)V"⟩
theorem q96 : (Jvm.Cond.initialized "java/util/Arrays") ∈ lw_all := lw_g (lw_at lw_m1 21 rfl) rfl
theorem q679 : (Jvm.Cond.static ({ cls := "java/util/Arrays", name := "copyOf", desc := "([Ljava/lang/Object;I)[Ljava/lang/Object;" } : Jvm.MethodName)) ∈ lw_all := lw_g (lw_at lw_m3 124 rfl) rfl
theorem q680 : (Jvm.Cond.code ({ cls := "java/util/Arrays", name := "copyOf", desc := "([Ljava/lang/Object;I)[Ljava/lang/Object;" } : Jvm.MethodName) prog_48_method_119_code (2 : Nat) (Option.some (Jvm.ClassFile.FieldType.array (Jvm.ClassFile.FieldType.object "java/lang/Object")))) ∈ lw_all := lw_g (lw_at lw_m3 125 rfl) rfl
theorem q681 : (Jvm.Cond.methodLink "java/util/Arrays" (86 : Nat) ({ cls := "java/lang/Object", name := "getClass", desc := "()Ljava/lang/Class;" } : Jvm.MethodName)) ∈ lw_all := lw_g (lw_at lw_m3 126 rfl) rfl
theorem q707 : (Jvm.Cond.methodLink "java/util/Arrays" (300 : Nat) ({ cls := "java/util/Arrays", name := "copyOf", desc := "([Ljava/lang/Object;ILjava/lang/Class;)[Ljava/lang/Object;" } : Jvm.MethodName)) ∈ lw_all := lw_g (lw_at lw_m3 152 rfl) rfl
theorem q708 : (Jvm.Cond.static ({ cls := "java/util/Arrays", name := "copyOf", desc := "([Ljava/lang/Object;ILjava/lang/Class;)[Ljava/lang/Object;" } : Jvm.MethodName)) ∈ lw_all := lw_g (lw_at lw_m3 153 rfl) rfl
theorem q709 : (Jvm.Cond.code ({ cls := "java/util/Arrays", name := "copyOf", desc := "([Ljava/lang/Object;ILjava/lang/Class;)[Ljava/lang/Object;" } : Jvm.MethodName) prog_48_method_120_code (4 : Nat) (Option.some (Jvm.ClassFile.FieldType.array (Jvm.ClassFile.FieldType.object "java/lang/Object")))) ∈ lw_all := lw_g (lw_at lw_m3 154 rfl) rfl
theorem q710 : (Jvm.Cond.classLink "java/util/Arrays" (110 : Nat) "[Ljava/lang/Object;") ∈ lw_all := lw_g (lw_at lw_m3 155 rfl) rfl
theorem q712 : (Jvm.Cond.classLink "java/util/Arrays" (2 : Nat) "java/lang/Object") ∈ lw_all := lw_g (lw_at lw_m3 157 rfl) rfl
theorem q713 : (Jvm.Cond.methodLink "java/util/Arrays" (304 : Nat) ({ cls := "java/lang/Math", name := "min", desc := "(II)I" } : Jvm.MethodName)) ∈ lw_all := lw_g (lw_at lw_m3 158 rfl) rfl
theorem q716 : (Jvm.Cond.methodLink "java/util/Arrays" (150 : Nat) ({ cls := "java/lang/System", name := "arraycopy", desc := "(Ljava/lang/Object;ILjava/lang/Object;II)V" } : Jvm.MethodName)) ∈ lw_all := lw_g (lw_at lw_m3 161 rfl) rfl
theorem q1476 : (Jvm.Cond.static ({ cls := "java/util/Arrays", name := "copyOf", desc := "([BI)[B" } : Jvm.MethodName)) ∈ lw_all := lw_g (lw_at lw_m6 201 rfl) rfl
theorem q1477 : (Jvm.Cond.code ({ cls := "java/util/Arrays", name := "copyOf", desc := "([BI)[B" } : Jvm.MethodName) prog_48_method_121_code (3 : Nat) (Option.some (Jvm.ClassFile.FieldType.array Jvm.ClassFile.FieldType.byte))) ∈ lw_all := lw_g (lw_at lw_m6 202 rfl) rfl
theorem q1478 : (Jvm.Cond.methodLink "java/util/Arrays" (310 : Nat) ({ cls := "[B", name := "clone", desc := "()Ljava/lang/Object;" } : Jvm.MethodName)) ∈ lw_all := lw_g (lw_at lw_m6 203 rfl) rfl
theorem q1484 : (Jvm.Cond.classLink "java/util/Arrays" (311 : Nat) "[B") ∈ lw_all := lw_g (lw_at lw_m6 209 rfl) rfl
theorem q1605 : (Jvm.Cond.static ({ cls := "java/util/Arrays", name := "copyOfRange", desc := "([BII)[B" } : Jvm.MethodName)) ∈ lw_all := lw_g (lw_at lw_m7 90 rfl) rfl
theorem q1606 : (Jvm.Cond.code ({ cls := "java/util/Arrays", name := "copyOfRange", desc := "([BII)[B" } : Jvm.MethodName) prog_48_method_132_code (3 : Nat) (Option.some (Jvm.ClassFile.FieldType.array Jvm.ClassFile.FieldType.byte))) ∈ lw_all := lw_g (lw_at lw_m7 91 rfl) rfl
theorem q1607 : (Jvm.Cond.methodLink "java/util/Arrays" (339 : Nat) ({ cls := "java/util/Arrays", name := "copyOfRangeByte", desc := "([BII)[B" } : Jvm.MethodName)) ∈ lw_all := lw_g (lw_at lw_m7 92 rfl) rfl
theorem q1608 : (Jvm.Cond.static ({ cls := "java/util/Arrays", name := "copyOfRangeByte", desc := "([BII)[B" } : Jvm.MethodName)) ∈ lw_all := lw_g (lw_at lw_m7 93 rfl) rfl
theorem q1609 : (Jvm.Cond.code ({ cls := "java/util/Arrays", name := "copyOfRangeByte", desc := "([BII)[B" } : Jvm.MethodName) prog_48_method_133_code (5 : Nat) (Option.some (Jvm.ClassFile.FieldType.array Jvm.ClassFile.FieldType.byte))) ∈ lw_all := lw_g (lw_at lw_m7 94 rfl) rfl
theorem q1610 : (Jvm.Cond.methodLink "java/util/Arrays" (343 : Nat) ({ cls := "java/util/Arrays", name := "checkLength", desc := "(II)V" } : Jvm.MethodName)) ∈ lw_all := lw_g (lw_at lw_m7 95 rfl) rfl
theorem q1611 : (Jvm.Cond.static ({ cls := "java/util/Arrays", name := "checkLength", desc := "(II)V" } : Jvm.MethodName)) ∈ lw_all := lw_g (lw_at lw_m7 96 rfl) rfl
theorem q1612 : (Jvm.Cond.code ({ cls := "java/util/Arrays", name := "checkLength", desc := "(II)V" } : Jvm.MethodName) prog_48_method_131_code (2 : Nat) (Option.none : Option Jvm.ClassFile.FieldType)) ∈ lw_all := lw_g (lw_at lw_m7 97 rfl) rfl
theorem q1613 : (Jvm.Cond.classLink "java/util/Arrays" (43 : Nat) "java/lang/IllegalArgumentException") ∈ lw_all := lw_g (lw_at lw_m7 98 rfl) rfl
theorem q1614 : (Jvm.Cond.classLink "java/util/Arrays" (45 : Nat) "java/lang/StringBuilder") ∈ lw_all := lw_g (lw_at lw_m7 99 rfl) rfl
theorem q1615 : (Jvm.Cond.methodLink "java/util/Arrays" (47 : Nat) ({ cls := "java/lang/StringBuilder", name := "<init>", desc := "()V" } : Jvm.MethodName)) ∈ lw_all := lw_g (lw_at lw_m7 100 rfl) rfl
theorem q1616 : (Jvm.Cond.methodLink "java/util/Arrays" (54 : Nat) ({ cls := "java/lang/StringBuilder", name := "append", desc := "(I)Ljava/lang/StringBuilder;" } : Jvm.MethodName)) ∈ lw_all := lw_g (lw_at lw_m7 101 rfl) rfl
theorem q1617 : (Jvm.Cond.stringRef "java/util/Arrays" (337 : Nat) " > ") ∈ lw_tbl := lw_at lw_m7 102 rfl
theorem q1618 : (Jvm.Cond.methodLink "java/util/Arrays" (50 : Nat) ({ cls := "java/lang/StringBuilder", name := "append", desc := "(Ljava/lang/String;)Ljava/lang/StringBuilder;" } : Jvm.MethodName)) ∈ lw_all := lw_g (lw_at lw_m7 103 rfl) rfl
theorem q1619 : (Jvm.Cond.methodLink "java/util/Arrays" (61 : Nat) ({ cls := "java/lang/StringBuilder", name := "toString", desc := "()Ljava/lang/String;" } : Jvm.MethodName)) ∈ lw_all := lw_g (lw_at lw_m7 104 rfl) rfl
theorem q1620 : (Jvm.Cond.methodLink "java/util/Arrays" (65 : Nat) ({ cls := "java/lang/IllegalArgumentException", name := "<init>", desc := "(Ljava/lang/String;)V" } : Jvm.MethodName)) ∈ lw_all := lw_g (lw_at lw_m7 105 rfl) rfl
theorem q1808 : (Jvm.Cond.static ({ cls := "java/util/Arrays", name := "fill", desc := "([BIIB)V" } : Jvm.MethodName)) ∈ lw_all := lw_g (lw_at lw_m8 53 rfl) rfl
theorem q1809 : (Jvm.Cond.code ({ cls := "java/util/Arrays", name := "fill", desc := "([BIIB)V" } : Jvm.MethodName) prog_48_method_110_code (5 : Nat) (Option.none : Option Jvm.ClassFile.FieldType)) ∈ lw_all := lw_g (lw_at lw_m8 54 rfl) rfl
theorem q1810 : (Jvm.Cond.methodLink "java/util/Arrays" (13 : Nat) ({ cls := "java/util/Arrays", name := "rangeCheck", desc := "(III)V" } : Jvm.MethodName)) ∈ lw_all := lw_g (lw_at lw_m8 55 rfl) rfl
theorem q1811 : (Jvm.Cond.static ({ cls := "java/util/Arrays", name := "rangeCheck", desc := "(III)V" } : Jvm.MethodName)) ∈ lw_all := lw_g (lw_at lw_m8 56 rfl) rfl
theorem q1812 : (Jvm.Cond.code ({ cls := "java/util/Arrays", name := "rangeCheck", desc := "(III)V" } : Jvm.MethodName) prog_48_method_30_code (3 : Nat) (Option.none : Option Jvm.ClassFile.FieldType)) ∈ lw_all := lw_g (lw_at lw_m8 57 rfl) rfl
theorem q1813 : (Jvm.Cond.stringRef "java/util/Arrays" (48 : Nat) "fromIndex(") ∈ lw_tbl := lw_at lw_m8 58 rfl
theorem q1814 : (Jvm.Cond.stringRef "java/util/Arrays" (57 : Nat) ") > toIndex(") ∈ lw_tbl := lw_at lw_m8 59 rfl
theorem q1815 : (Jvm.Cond.stringRef "java/util/Arrays" (59 : Nat) ")") ∈ lw_tbl := lw_at lw_m8 60 rfl
theorem q1816 : (Jvm.Cond.classLink "java/util/Arrays" (68 : Nat) "java/lang/ArrayIndexOutOfBoundsException") ∈ lw_all := lw_g (lw_at lw_m8 61 rfl) rfl
theorem q1817 : (Jvm.Cond.methodLink "java/util/Arrays" (70 : Nat) ({ cls := "java/lang/ArrayIndexOutOfBoundsException", name := "<init>", desc := "(I)V" } : Jvm.MethodName)) ∈ lw_all := lw_g (lw_at lw_m8 62 rfl) rfl
/-! java/lang/UnsupportedOperationException -/
def RJ17 : String := "java/lang/UnsupportedOperationException"
def TJ17 : u_T := fun k => match k with
  | 0 => ("java/lang/Throwable", "cause", "Ljava/lang/Throwable;", false)
  | 1 => ("java/lang/Throwable", "stackTrace", "[Ljava/lang/StackTraceElement;", false)
  | 2 => ("java/lang/Throwable", "suppressedExceptions", "Ljava/util/List;", false)
  | 3 => ("java/lang/Throwable", "detailMessage", "Ljava/lang/String;", false)
  | 4 => ("java/lang/Throwable", "backtrace", "Ljava/lang/Object;", false)
  | _ => ("java/lang/Throwable", "depth", "I", false)
def tyJ17 : Nat → FieldType := fun k => match k with
  | 0 => .object "java/lang/Throwable"
  | 1 => .array (.object "java/lang/StackTraceElement")
  | 2 => .object "java/util/List"
  | 3 => .object "java/lang/String"
  | 4 => .object "java/lang/Object"
  | _ => .int
abbrev wsJ170 : List Cond := u_ws RJ17 TJ17 6
theorem nmJ17 : ∀ a, a < 6 → ∀ b, b < 6 → a ≠ b → (TJ17 a).2.1 ≠ (TJ17 b).2.1 := by decide +kernel
theorem tyJ17_ok : ∀ k, k < 6 → parseFieldDescriptor (TJ17 k).2.2.1 = some (tyJ17 k) := by decide +kernel
abbrev cJ17_init : ByteArray := prog_41_method_1_code
def yJ17_init : MethodName := ⟨RJ17, "<init>", "()V"⟩
theorem q103 : (Jvm.Cond.initialized "java/lang/UnsupportedOperationException") ∈ lw_all := lw_g (lw_at lw_m1 28 rfl) rfl
theorem q270 : (Jvm.Cond.selects "java/lang/UnsupportedOperationException" ({ cls := "java/lang/Throwable", name := "fillInStackTrace", desc := "()Ljava/lang/Throwable;" } : Jvm.MethodName) ({ cls := "java/lang/Throwable", name := "fillInStackTrace", desc := "()Ljava/lang/Throwable;" } : Jvm.MethodName)) ∈ lw_all := lw_g (lw_at lw_m1 195 rfl) rfl
theorem q702 : (Jvm.Cond.selects "java/lang/UnsupportedOperationException" ({ cls := "java/lang/Object", name := "getClass", desc := "()Ljava/lang/Class;" } : Jvm.MethodName) ({ cls := "java/lang/Object", name := "getClass", desc := "()Ljava/lang/Class;" } : Jvm.MethodName)) ∈ lw_all := lw_g (lw_at lw_m3 147 rfl) rfl
theorem q958 : (Jvm.Cond.instantiable "java/lang/UnsupportedOperationException" (6 : Nat)) ∈ lw_all := lw_g (lw_at lw_m4 163 rfl) rfl
theorem q959 : (Jvm.Cond.castable "java/lang/UnsupportedOperationException" "java/lang/UnsupportedOperationException") ∈ lw_tbl := lw_at lw_m4 164 rfl
theorem q960 : (Jvm.Cond.selects "java/lang/UnsupportedOperationException" ({ cls := "java/lang/Throwable", name := "fillInStackTrace", desc := "(I)Ljava/lang/Throwable;" } : Jvm.MethodName) ({ cls := "java/lang/Throwable", name := "fillInStackTrace", desc := "(I)Ljava/lang/Throwable;" } : Jvm.MethodName)) ∈ lw_all := lw_g (lw_at lw_m4 165 rfl) rfl
theorem q961 : (Jvm.Cond.lays "java/lang/UnsupportedOperationException" "java/lang/Throwable" "cause" "Ljava/lang/Throwable;") ∈ lw_all := lw_g (lw_at lw_m4 166 rfl) rfl
theorem q962 : (Jvm.Cond.lays "java/lang/UnsupportedOperationException" "java/lang/Throwable" "stackTrace" "[Ljava/lang/StackTraceElement;") ∈ lw_all := lw_g (lw_at lw_m4 167 rfl) rfl
theorem q963 : (Jvm.Cond.lays "java/lang/UnsupportedOperationException" "java/lang/Throwable" "suppressedExceptions" "Ljava/util/List;") ∈ lw_all := lw_g (lw_at lw_m4 168 rfl) rfl
theorem q964 : (Jvm.Cond.lays "java/lang/UnsupportedOperationException" "java/lang/Throwable" "detailMessage" "Ljava/lang/String;") ∈ lw_all := lw_g (lw_at lw_m4 169 rfl) rfl
theorem q965 : (Jvm.Cond.lays "java/lang/UnsupportedOperationException" "java/lang/Throwable" "backtrace" "Ljava/lang/Object;") ∈ lw_all := lw_g (lw_at lw_m4 170 rfl) rfl
theorem q967 : (Jvm.Cond.instanceMethod ({ cls := "java/lang/UnsupportedOperationException", name := "<init>", desc := "()V" } : Jvm.MethodName)) ∈ lw_all := lw_g (lw_at lw_m4 172 rfl) rfl
theorem q968 : (Jvm.Cond.code ({ cls := "java/lang/UnsupportedOperationException", name := "<init>", desc := "()V" } : Jvm.MethodName) prog_41_method_1_code (1 : Nat) (Option.none : Option Jvm.ClassFile.FieldType)) ∈ lw_all := lw_g (lw_at lw_m4 173 rfl) rfl
theorem q969 : (Jvm.Cond.methodLink "java/lang/UnsupportedOperationException" (1 : Nat) ({ cls := "java/lang/RuntimeException", name := "<init>", desc := "()V" } : Jvm.MethodName)) ∈ lw_all := lw_g (lw_at lw_m4 174 rfl) rfl
theorem q970 : (Jvm.Cond.lays "java/lang/UnsupportedOperationException" "java/lang/Throwable" "depth" "I") ∈ lw_all := lw_g (lw_at lw_m4 175 rfl) rfl
theorem q971 : (Jvm.Cond.superclass "java/lang/UnsupportedOperationException" "java/lang/RuntimeException") ∈ lw_all := lw_g (lw_at lw_m4 176 rfl) rfl
theorem q2454 : (Jvm.Cond.castable "java/lang/UnsupportedOperationException" "java/lang/Object") ∈ lw_tbl := lw_at lw_m10 219 rfl
theorem in_J17 : ∀ w ∈ wsJ170, w ∈ lw_all := lw_in wsJ170 [961, 962, 963, 964, 965, 970] (by decide +kernel) (by decide +kernel)
/-! java/lang/IllegalArgumentException -/
def RJ18 : String := "java/lang/IllegalArgumentException"
def TJ18 : u_T := fun k => match k with
  | 0 => ("java/lang/Throwable", "cause", "Ljava/lang/Throwable;", false)
  | 1 => ("java/lang/Throwable", "stackTrace", "[Ljava/lang/StackTraceElement;", false)
  | 2 => ("java/lang/Throwable", "suppressedExceptions", "Ljava/util/List;", false)
  | 3 => ("java/lang/Throwable", "detailMessage", "Ljava/lang/String;", false)
  | 4 => ("java/lang/Throwable", "backtrace", "Ljava/lang/Object;", false)
  | _ => ("java/lang/Throwable", "depth", "I", false)
def tyJ18 : Nat → FieldType := fun k => match k with
  | 0 => .object "java/lang/Throwable"
  | 1 => .array (.object "java/lang/StackTraceElement")
  | 2 => .object "java/util/List"
  | 3 => .object "java/lang/String"
  | 4 => .object "java/lang/Object"
  | _ => .int
abbrev wsJ180 : List Cond := u_ws RJ18 TJ18 6
theorem nmJ18 : ∀ a, a < 6 → ∀ b, b < 6 → a ≠ b → (TJ18 a).2.1 ≠ (TJ18 b).2.1 := by decide +kernel
theorem tyJ18_ok : ∀ k, k < 6 → parseFieldDescriptor (TJ18 k).2.2.1 = some (tyJ18 k) := by decide +kernel
abbrev cJ18_init : ByteArray := prog_26_method_1_code
def yJ18_init : MethodName := ⟨RJ18, "<init>", "()V"⟩
abbrev cJ18_init_2 : ByteArray := prog_26_method_2_code
def yJ18_init_2 : MethodName := ⟨RJ18, "<init>", "(Ljava/lang/String;)V"⟩
theorem q104 : (Jvm.Cond.initialized "java/lang/IllegalArgumentException") ∈ lw_all := lw_g (lw_at lw_m1 29 rfl) rfl
theorem q266 : (Jvm.Cond.selects "java/lang/IllegalArgumentException" ({ cls := "java/lang/Throwable", name := "fillInStackTrace", desc := "()Ljava/lang/Throwable;" } : Jvm.MethodName) ({ cls := "java/lang/Throwable", name := "fillInStackTrace", desc := "()Ljava/lang/Throwable;" } : Jvm.MethodName)) ∈ lw_all := lw_g (lw_at lw_m1 191 rfl) rfl
theorem q696 : (Jvm.Cond.selects "java/lang/IllegalArgumentException" ({ cls := "java/lang/Object", name := "getClass", desc := "()Ljava/lang/Class;" } : Jvm.MethodName) ({ cls := "java/lang/Object", name := "getClass", desc := "()Ljava/lang/Class;" } : Jvm.MethodName)) ∈ lw_all := lw_g (lw_at lw_m3 141 rfl) rfl
theorem q973 : (Jvm.Cond.instantiable "java/lang/IllegalArgumentException" (6 : Nat)) ∈ lw_all := lw_g (lw_at lw_m4 178 rfl) rfl
theorem q974 : (Jvm.Cond.castable "java/lang/IllegalArgumentException" "java/lang/IllegalArgumentException") ∈ lw_tbl := lw_at lw_m4 179 rfl
theorem q975 : (Jvm.Cond.selects "java/lang/IllegalArgumentException" ({ cls := "java/lang/Throwable", name := "fillInStackTrace", desc := "(I)Ljava/lang/Throwable;" } : Jvm.MethodName) ({ cls := "java/lang/Throwable", name := "fillInStackTrace", desc := "(I)Ljava/lang/Throwable;" } : Jvm.MethodName)) ∈ lw_all := lw_g (lw_at lw_m4 180 rfl) rfl
theorem q976 : (Jvm.Cond.lays "java/lang/IllegalArgumentException" "java/lang/Throwable" "cause" "Ljava/lang/Throwable;") ∈ lw_all := lw_g (lw_at lw_m4 181 rfl) rfl
theorem q977 : (Jvm.Cond.lays "java/lang/IllegalArgumentException" "java/lang/Throwable" "stackTrace" "[Ljava/lang/StackTraceElement;") ∈ lw_all := lw_g (lw_at lw_m4 182 rfl) rfl
theorem q978 : (Jvm.Cond.lays "java/lang/IllegalArgumentException" "java/lang/Throwable" "suppressedExceptions" "Ljava/util/List;") ∈ lw_all := lw_g (lw_at lw_m4 183 rfl) rfl
theorem q979 : (Jvm.Cond.lays "java/lang/IllegalArgumentException" "java/lang/Throwable" "detailMessage" "Ljava/lang/String;") ∈ lw_all := lw_g (lw_at lw_m4 184 rfl) rfl
theorem q980 : (Jvm.Cond.lays "java/lang/IllegalArgumentException" "java/lang/Throwable" "backtrace" "Ljava/lang/Object;") ∈ lw_all := lw_g (lw_at lw_m4 185 rfl) rfl
theorem q982 : (Jvm.Cond.instanceMethod ({ cls := "java/lang/IllegalArgumentException", name := "<init>", desc := "()V" } : Jvm.MethodName)) ∈ lw_all := lw_g (lw_at lw_m4 187 rfl) rfl
theorem q983 : (Jvm.Cond.code ({ cls := "java/lang/IllegalArgumentException", name := "<init>", desc := "()V" } : Jvm.MethodName) prog_26_method_1_code (1 : Nat) (Option.none : Option Jvm.ClassFile.FieldType)) ∈ lw_all := lw_g (lw_at lw_m4 188 rfl) rfl
theorem q984 : (Jvm.Cond.methodLink "java/lang/IllegalArgumentException" (1 : Nat) ({ cls := "java/lang/RuntimeException", name := "<init>", desc := "()V" } : Jvm.MethodName)) ∈ lw_all := lw_g (lw_at lw_m4 189 rfl) rfl
theorem q985 : (Jvm.Cond.lays "java/lang/IllegalArgumentException" "java/lang/Throwable" "depth" "I") ∈ lw_all := lw_g (lw_at lw_m4 190 rfl) rfl
theorem q986 : (Jvm.Cond.superclass "java/lang/IllegalArgumentException" "java/lang/RuntimeException") ∈ lw_all := lw_g (lw_at lw_m4 191 rfl) rfl
theorem q1621 : (Jvm.Cond.instanceMethod ({ cls := "java/lang/IllegalArgumentException", name := "<init>", desc := "(Ljava/lang/String;)V" } : Jvm.MethodName)) ∈ lw_all := lw_g (lw_at lw_m7 106 rfl) rfl
theorem q1622 : (Jvm.Cond.code ({ cls := "java/lang/IllegalArgumentException", name := "<init>", desc := "(Ljava/lang/String;)V" } : Jvm.MethodName) prog_26_method_2_code (2 : Nat) (Option.none : Option Jvm.ClassFile.FieldType)) ∈ lw_all := lw_g (lw_at lw_m7 107 rfl) rfl
theorem q1623 : (Jvm.Cond.methodLink "java/lang/IllegalArgumentException" (7 : Nat) ({ cls := "java/lang/RuntimeException", name := "<init>", desc := "(Ljava/lang/String;)V" } : Jvm.MethodName)) ∈ lw_all := lw_g (lw_at lw_m7 108 rfl) rfl
theorem q2455 : (Jvm.Cond.castable "java/lang/IllegalArgumentException" "java/lang/Object") ∈ lw_tbl := lw_at lw_m10 220 rfl
theorem in_J18 : ∀ w ∈ wsJ180, w ∈ lw_all := lw_in wsJ180 [976, 977, 978, 979, 980, 985] (by decide +kernel) (by decide +kernel)
/-! java/lang/IndexOutOfBoundsException -/
def RJ19 : String := "java/lang/IndexOutOfBoundsException"
def TJ19 : u_T := fun k => match k with
  | 0 => ("java/lang/Throwable", "cause", "Ljava/lang/Throwable;", false)
  | 1 => ("java/lang/Throwable", "stackTrace", "[Ljava/lang/StackTraceElement;", false)
  | 2 => ("java/lang/Throwable", "suppressedExceptions", "Ljava/util/List;", false)
  | 3 => ("java/lang/Throwable", "detailMessage", "Ljava/lang/String;", false)
  | 4 => ("java/lang/Throwable", "backtrace", "Ljava/lang/Object;", false)
  | _ => ("java/lang/Throwable", "depth", "I", false)
def tyJ19 : Nat → FieldType := fun k => match k with
  | 0 => .object "java/lang/Throwable"
  | 1 => .array (.object "java/lang/StackTraceElement")
  | 2 => .object "java/util/List"
  | 3 => .object "java/lang/String"
  | 4 => .object "java/lang/Object"
  | _ => .int
abbrev wsJ190 : List Cond := u_ws RJ19 TJ19 6
theorem nmJ19 : ∀ a, a < 6 → ∀ b, b < 6 → a ≠ b → (TJ19 a).2.1 ≠ (TJ19 b).2.1 := by decide +kernel
theorem tyJ19_ok : ∀ k, k < 6 → parseFieldDescriptor (TJ19 k).2.2.1 = some (tyJ19 k) := by decide +kernel
abbrev cJ19_init : ByteArray := prog_28_method_2_code
def yJ19_init : MethodName := ⟨RJ19, "<init>", "(Ljava/lang/String;)V"⟩
abbrev cJ19_init_2 : ByteArray := prog_28_method_1_code
def yJ19_init_2 : MethodName := ⟨RJ19, "<init>", "()V"⟩
theorem q105 : (Jvm.Cond.initialized "java/lang/IndexOutOfBoundsException") ∈ lw_all := lw_g (lw_at lw_m1 30 rfl) rfl
theorem q268 : (Jvm.Cond.selects "java/lang/IndexOutOfBoundsException" ({ cls := "java/lang/Throwable", name := "fillInStackTrace", desc := "()Ljava/lang/Throwable;" } : Jvm.MethodName) ({ cls := "java/lang/Throwable", name := "fillInStackTrace", desc := "()Ljava/lang/Throwable;" } : Jvm.MethodName)) ∈ lw_all := lw_g (lw_at lw_m1 193 rfl) rfl
theorem q698 : (Jvm.Cond.selects "java/lang/IndexOutOfBoundsException" ({ cls := "java/lang/Object", name := "getClass", desc := "()Ljava/lang/Class;" } : Jvm.MethodName) ({ cls := "java/lang/Object", name := "getClass", desc := "()Ljava/lang/Class;" } : Jvm.MethodName)) ∈ lw_all := lw_g (lw_at lw_m3 143 rfl) rfl
theorem q995 : (Jvm.Cond.instanceMethod ({ cls := "java/lang/IndexOutOfBoundsException", name := "<init>", desc := "(Ljava/lang/String;)V" } : Jvm.MethodName)) ∈ lw_all := lw_g (lw_at lw_m4 200 rfl) rfl
theorem q996 : (Jvm.Cond.code ({ cls := "java/lang/IndexOutOfBoundsException", name := "<init>", desc := "(Ljava/lang/String;)V" } : Jvm.MethodName) prog_28_method_2_code (2 : Nat) (Option.none : Option Jvm.ClassFile.FieldType)) ∈ lw_all := lw_g (lw_at lw_m4 201 rfl) rfl
theorem q997 : (Jvm.Cond.methodLink "java/lang/IndexOutOfBoundsException" (7 : Nat) ({ cls := "java/lang/RuntimeException", name := "<init>", desc := "(Ljava/lang/String;)V" } : Jvm.MethodName)) ∈ lw_all := lw_g (lw_at lw_m4 202 rfl) rfl
theorem q1014 : (Jvm.Cond.declares ({ cls := "java/lang/IndexOutOfBoundsException", name := "<init>", desc := "()V" } : Jvm.MethodName)) ∈ lw_tbl := lw_at lw_m4 219 rfl
theorem q1015 : (Jvm.Cond.declares ({ cls := "java/lang/IndexOutOfBoundsException", name := "<init>", desc := "(Ljava/lang/String;)V" } : Jvm.MethodName)) ∈ lw_tbl := lw_at lw_m4 220 rfl
theorem q1031 : (Jvm.Cond.instantiable "java/lang/IndexOutOfBoundsException" (6 : Nat)) ∈ lw_all := lw_g (lw_at lw_m4 236 rfl) rfl
theorem q1032 : (Jvm.Cond.castable "java/lang/IndexOutOfBoundsException" "java/lang/IndexOutOfBoundsException") ∈ lw_tbl := lw_at lw_m4 237 rfl
theorem q1033 : (Jvm.Cond.selects "java/lang/IndexOutOfBoundsException" ({ cls := "java/lang/Throwable", name := "fillInStackTrace", desc := "(I)Ljava/lang/Throwable;" } : Jvm.MethodName) ({ cls := "java/lang/Throwable", name := "fillInStackTrace", desc := "(I)Ljava/lang/Throwable;" } : Jvm.MethodName)) ∈ lw_all := lw_g (lw_at lw_m4 238 rfl) rfl
theorem q1034 : (Jvm.Cond.lays "java/lang/IndexOutOfBoundsException" "java/lang/Throwable" "cause" "Ljava/lang/Throwable;") ∈ lw_all := lw_g (lw_at lw_m4 239 rfl) rfl
theorem q1035 : (Jvm.Cond.lays "java/lang/IndexOutOfBoundsException" "java/lang/Throwable" "stackTrace" "[Ljava/lang/StackTraceElement;") ∈ lw_all := lw_g (lw_at lw_m5 0 rfl) rfl
theorem q1036 : (Jvm.Cond.lays "java/lang/IndexOutOfBoundsException" "java/lang/Throwable" "suppressedExceptions" "Ljava/util/List;") ∈ lw_all := lw_g (lw_at lw_m5 1 rfl) rfl
theorem q1037 : (Jvm.Cond.lays "java/lang/IndexOutOfBoundsException" "java/lang/Throwable" "detailMessage" "Ljava/lang/String;") ∈ lw_all := lw_g (lw_at lw_m5 2 rfl) rfl
theorem q1038 : (Jvm.Cond.lays "java/lang/IndexOutOfBoundsException" "java/lang/Throwable" "backtrace" "Ljava/lang/Object;") ∈ lw_all := lw_g (lw_at lw_m5 3 rfl) rfl
theorem q1040 : (Jvm.Cond.instanceMethod ({ cls := "java/lang/IndexOutOfBoundsException", name := "<init>", desc := "()V" } : Jvm.MethodName)) ∈ lw_all := lw_g (lw_at lw_m5 5 rfl) rfl
theorem q1041 : (Jvm.Cond.code ({ cls := "java/lang/IndexOutOfBoundsException", name := "<init>", desc := "()V" } : Jvm.MethodName) prog_28_method_1_code (1 : Nat) (Option.none : Option Jvm.ClassFile.FieldType)) ∈ lw_all := lw_g (lw_at lw_m5 6 rfl) rfl
theorem q1042 : (Jvm.Cond.methodLink "java/lang/IndexOutOfBoundsException" (1 : Nat) ({ cls := "java/lang/RuntimeException", name := "<init>", desc := "()V" } : Jvm.MethodName)) ∈ lw_all := lw_g (lw_at lw_m5 7 rfl) rfl
theorem q1043 : (Jvm.Cond.lays "java/lang/IndexOutOfBoundsException" "java/lang/Throwable" "depth" "I") ∈ lw_all := lw_g (lw_at lw_m5 8 rfl) rfl
theorem q1044 : (Jvm.Cond.superclass "java/lang/IndexOutOfBoundsException" "java/lang/RuntimeException") ∈ lw_all := lw_g (lw_at lw_m5 9 rfl) rfl
theorem q2457 : (Jvm.Cond.castable "java/lang/IndexOutOfBoundsException" "java/lang/Object") ∈ lw_tbl := lw_at lw_m10 222 rfl
theorem in_J19 : ∀ w ∈ wsJ190, w ∈ lw_all := lw_in wsJ190 [1034, 1035, 1036, 1037, 1038, 1043] (by decide +kernel) (by decide +kernel)
/-! java/util/ArrayList -/
def RJ2 : String := "java/util/ArrayList"
def TJ2 : u_T := fun k => match k with
  | 0 => ("java/util/AbstractList", "modCount", "I", false)
  | 1 => ("java/util/ArrayList", "elementData", "[Ljava/lang/Object;", false)
  | _ => ("java/util/ArrayList", "size", "I", false)
def tyJ2 : Nat → FieldType := fun k => match k with
  | 0 => .int
  | 1 => .array (.object "java/lang/Object")
  | _ => .int
abbrev wsJ20 : List Cond := u_ws RJ2 TJ2 3
theorem nmJ2 : ∀ a, a < 3 → ∀ b, b < 3 → a ≠ b → (TJ2 a).2.1 ≠ (TJ2 b).2.1 := by decide +kernel
theorem tyJ2_ok : ∀ k, k < 3 → parseFieldDescriptor (TJ2 k).2.2.1 = some (tyJ2 k) := by decide +kernel
abbrev cJ2_init : ByteArray := prog_46_method_2_code
def yJ2_init : MethodName := ⟨RJ2, "<init>", "()V"⟩
abbrev cJ2_iterator : ByteArray := prog_46_method_55_code
def yJ2_iterator : MethodName := ⟨RJ2, "iterator", "()Ljava/util/Iterator;"⟩
abbrev cJ2_size : ByteArray := prog_46_method_8_code
def yJ2_size : MethodName := ⟨RJ2, "size", "()I"⟩
abbrev cJ2_get : ByteArray := prog_46_method_20_code
def yJ2_get : MethodName := ⟨RJ2, "get", "(I)Ljava/lang/Object;"⟩
abbrev cJ2_elementData : ByteArray := prog_46_method_18_code
def yJ2_elementData : MethodName := ⟨RJ2, "elementData", "(I)Ljava/lang/Object;"⟩
abbrev cJ2_add : ByteArray := prog_46_method_25_code
def yJ2_add : MethodName := ⟨RJ2, "add", "(Ljava/lang/Object;)Z"⟩
abbrev cJ2_add_2 : ByteArray := prog_46_method_24_code
def yJ2_add_2 : MethodName := ⟨RJ2, "add", "(Ljava/lang/Object;[Ljava/lang/Object;I)V"⟩
abbrev cJ2_grow : ByteArray := prog_46_method_7_code
def yJ2_grow : MethodName := ⟨RJ2, "grow", "()[Ljava/lang/Object;"⟩
abbrev cJ2_grow_2 : ByteArray := prog_46_method_6_code
def yJ2_grow_2 : MethodName := ⟨RJ2, "grow", "(I)[Ljava/lang/Object;"⟩
abbrev cJ2_remove : ByteArray := prog_46_method_29_code
def yJ2_remove : MethodName := ⟨RJ2, "remove", "(I)Ljava/lang/Object;"⟩
abbrev cJ2_fastRemove : ByteArray := prog_46_method_39_code
def yJ2_fastRemove : MethodName := ⟨RJ2, "fastRemove", "([Ljava/lang/Object;I)V"⟩
abbrev cJ2_clear : ByteArray := prog_46_method_40_code
def yJ2_clear : MethodName := ⟨RJ2, "clear", "()V"⟩
theorem q80 : (Jvm.Cond.initialized "java/util/ArrayList") ∈ lw_all := lw_g (lw_at lw_m1 5 rfl) rfl
theorem q131 : (Jvm.Cond.instantiable "java/util/ArrayList" (3 : Nat)) ∈ lw_all := lw_g (lw_at lw_m1 56 rfl) rfl
theorem q133 : (Jvm.Cond.instanceMethod ({ cls := "java/util/ArrayList", name := "<init>", desc := "()V" } : Jvm.MethodName)) ∈ lw_all := lw_g (lw_at lw_m1 58 rfl) rfl
theorem q134 : (Jvm.Cond.code ({ cls := "java/util/ArrayList", name := "<init>", desc := "()V" } : Jvm.MethodName) prog_46_method_2_code (1 : Nat) (Option.none : Option Jvm.ClassFile.FieldType)) ∈ lw_all := lw_g (lw_at lw_m1 59 rfl) rfl
theorem q135 : (Jvm.Cond.methodLink "java/util/ArrayList" (1 : Nat) ({ cls := "java/util/AbstractList", name := "<init>", desc := "()V" } : Jvm.MethodName)) ∈ lw_all := lw_g (lw_at lw_m1 60 rfl) rfl
theorem q142 : (Jvm.Cond.fieldLink "java/util/ArrayList" (39 : Nat) "java/util/ArrayList" "DEFAULTCAPACITY_EMPTY_ELEMENTDATA" "[Ljava/lang/Object;") ∈ lw_all := lw_g (lw_at lw_m1 67 rfl) rfl
theorem q143 : (Jvm.Cond.laysStatic "java/util/ArrayList" "DEFAULTCAPACITY_EMPTY_ELEMENTDATA" "[Ljava/lang/Object;") ∈ lw_tbl := lw_at lw_m1 68 rfl
theorem q144 : (Jvm.Cond.fieldLink "java/util/ArrayList" (9 : Nat) "java/util/ArrayList" "elementData" "[Ljava/lang/Object;") ∈ lw_all := lw_g (lw_at lw_m1 69 rfl) rfl
theorem q147 : (Jvm.Cond.fieldLink "java/util/ArrayList" (48 : Nat) "java/util/ArrayList" "size" "I") ∈ lw_all := lw_g (lw_at lw_m1 72 rfl) rfl
theorem q150 : (Jvm.Cond.sameField "java/util/ArrayList" "java/util/AbstractList" "modCount" "I") ∈ lw_all := lw_g (lw_at lw_m1 75 rfl) rfl
theorem q151 : (Jvm.Cond.fieldLink "java/util/ArrayList" (63 : Nat) "java/util/ArrayList" "modCount" "I") ∈ lw_all := lw_g (lw_at lw_m1 76 rfl) rfl
theorem q152 : (Jvm.Cond.lays "java/util/ArrayList" "java/util/ArrayList" "elementData" "[Ljava/lang/Object;") ∈ lw_all := lw_g (lw_at lw_m1 77 rfl) rfl
theorem q153 : (Jvm.Cond.soleField "java/util/ArrayList" "elementData") ∈ lw_all := lw_g (lw_at lw_m1 78 rfl) rfl
theorem q154 : (Jvm.Cond.lays "java/util/ArrayList" "java/util/ArrayList" "size" "I") ∈ lw_all := lw_g (lw_at lw_m1 79 rfl) rfl
theorem q155 : (Jvm.Cond.soleField "java/util/ArrayList" "size") ∈ lw_all := lw_g (lw_at lw_m1 80 rfl) rfl
theorem q156 : (Jvm.Cond.lays "java/util/ArrayList" "java/util/AbstractList" "modCount" "I") ∈ lw_all := lw_g (lw_at lw_m1 81 rfl) rfl
theorem q158 : (Jvm.Cond.superclass "java/util/ArrayList" "java/util/AbstractList") ∈ lw_all := lw_g (lw_at lw_m1 83 rfl) rfl
theorem q183 : (Jvm.Cond.instanceMethod ({ cls := "java/util/ArrayList", name := "iterator", desc := "()Ljava/util/Iterator;" } : Jvm.MethodName)) ∈ lw_all := lw_g (lw_at lw_m1 108 rfl) rfl
theorem q184 : (Jvm.Cond.selects "java/util/ArrayList" ({ cls := "java/util/ArrayList", name := "iterator", desc := "()Ljava/util/Iterator;" } : Jvm.MethodName) ({ cls := "java/util/ArrayList", name := "iterator", desc := "()Ljava/util/Iterator;" } : Jvm.MethodName)) ∈ lw_all := lw_g (lw_at lw_m1 109 rfl) rfl
theorem q185 : (Jvm.Cond.code ({ cls := "java/util/ArrayList", name := "iterator", desc := "()Ljava/util/Iterator;" } : Jvm.MethodName) prog_46_method_55_code (1 : Nat) (Option.some (Jvm.ClassFile.FieldType.object "java/util/Iterator"))) ∈ lw_all := lw_g (lw_at lw_m1 110 rfl) rfl
theorem q186 : (Jvm.Cond.classLink "java/util/ArrayList" (267 : Nat) "java/util/ArrayList$Itr") ∈ lw_all := lw_g (lw_at lw_m1 111 rfl) rfl
theorem q188 : (Jvm.Cond.methodLink "java/util/ArrayList" (269 : Nat) ({ cls := "java/util/ArrayList$Itr", name := "<init>", desc := "(Ljava/util/ArrayList;)V" } : Jvm.MethodName)) ∈ lw_all := lw_g (lw_at lw_m1 113 rfl) rfl
theorem q416 : (Jvm.Cond.instanceMethod ({ cls := "java/util/ArrayList", name := "size", desc := "()I" } : Jvm.MethodName)) ∈ lw_all := lw_g (lw_at lw_m2 101 rfl) rfl
theorem q417 : (Jvm.Cond.selects "java/util/ArrayList" ({ cls := "java/util/ArrayList", name := "size", desc := "()I" } : Jvm.MethodName) ({ cls := "java/util/ArrayList", name := "size", desc := "()I" } : Jvm.MethodName)) ∈ lw_all := lw_g (lw_at lw_m2 102 rfl) rfl
theorem q418 : (Jvm.Cond.code ({ cls := "java/util/ArrayList", name := "size", desc := "()I" } : Jvm.MethodName) prog_46_method_8_code (1 : Nat) (Option.some Jvm.ClassFile.FieldType.int)) ∈ lw_all := lw_g (lw_at lw_m2 103 rfl) rfl
theorem q493 : (Jvm.Cond.instanceMethod ({ cls := "java/util/ArrayList", name := "get", desc := "(I)Ljava/lang/Object;" } : Jvm.MethodName)) ∈ lw_all := lw_g (lw_at lw_m2 178 rfl) rfl
theorem q494 : (Jvm.Cond.selects "java/util/ArrayList" ({ cls := "java/util/ArrayList", name := "get", desc := "(I)Ljava/lang/Object;" } : Jvm.MethodName) ({ cls := "java/util/ArrayList", name := "get", desc := "(I)Ljava/lang/Object;" } : Jvm.MethodName)) ∈ lw_all := lw_g (lw_at lw_m2 179 rfl) rfl
theorem q495 : (Jvm.Cond.code ({ cls := "java/util/ArrayList", name := "get", desc := "(I)Ljava/lang/Object;" } : Jvm.MethodName) prog_46_method_20_code (2 : Nat) (Option.some (Jvm.ClassFile.FieldType.object "java/lang/Object"))) ∈ lw_all := lw_g (lw_at lw_m2 180 rfl) rfl
theorem q496 : (Jvm.Cond.methodLink "java/util/ArrayList" (118 : Nat) ({ cls := "java/util/Objects", name := "checkIndex", desc := "(II)I" } : Jvm.MethodName)) ∈ lw_all := lw_g (lw_at lw_m2 181 rfl) rfl
theorem q502 : (Jvm.Cond.methodLink "java/util/ArrayList" (123 : Nat) ({ cls := "java/util/ArrayList", name := "elementData", desc := "(I)Ljava/lang/Object;" } : Jvm.MethodName)) ∈ lw_all := lw_g (lw_at lw_m2 187 rfl) rfl
theorem q503 : (Jvm.Cond.instanceMethod ({ cls := "java/util/ArrayList", name := "elementData", desc := "(I)Ljava/lang/Object;" } : Jvm.MethodName)) ∈ lw_all := lw_g (lw_at lw_m2 188 rfl) rfl
theorem q504 : (Jvm.Cond.selects "java/util/ArrayList" ({ cls := "java/util/ArrayList", name := "elementData", desc := "(I)Ljava/lang/Object;" } : Jvm.MethodName) ({ cls := "java/util/ArrayList", name := "elementData", desc := "(I)Ljava/lang/Object;" } : Jvm.MethodName)) ∈ lw_all := lw_g (lw_at lw_m2 189 rfl) rfl
theorem q505 : (Jvm.Cond.code ({ cls := "java/util/ArrayList", name := "elementData", desc := "(I)Ljava/lang/Object;" } : Jvm.MethodName) prog_46_method_18_code (2 : Nat) (Option.some (Jvm.ClassFile.FieldType.object "java/lang/Object"))) ∈ lw_all := lw_g (lw_at lw_m2 190 rfl) rfl
theorem q653 : (Jvm.Cond.instanceMethod ({ cls := "java/util/ArrayList", name := "add", desc := "(Ljava/lang/Object;)Z" } : Jvm.MethodName)) ∈ lw_all := lw_g (lw_at lw_m3 98 rfl) rfl
theorem q654 : (Jvm.Cond.selects "java/util/ArrayList" ({ cls := "java/util/ArrayList", name := "add", desc := "(Ljava/lang/Object;)Z" } : Jvm.MethodName) ({ cls := "java/util/ArrayList", name := "add", desc := "(Ljava/lang/Object;)Z" } : Jvm.MethodName)) ∈ lw_all := lw_g (lw_at lw_m3 99 rfl) rfl
theorem q655 : (Jvm.Cond.code ({ cls := "java/util/ArrayList", name := "add", desc := "(Ljava/lang/Object;)Z" } : Jvm.MethodName) prog_46_method_25_code (2 : Nat) (Option.some Jvm.ClassFile.FieldType.boolean)) ∈ lw_all := lw_g (lw_at lw_m3 100 rfl) rfl
theorem q656 : (Jvm.Cond.methodLink "java/util/ArrayList" (131 : Nat) ({ cls := "java/util/ArrayList", name := "add", desc := "(Ljava/lang/Object;[Ljava/lang/Object;I)V" } : Jvm.MethodName)) ∈ lw_all := lw_g (lw_at lw_m3 101 rfl) rfl
theorem q657 : (Jvm.Cond.privateMethod ({ cls := "java/util/ArrayList", name := "add", desc := "(Ljava/lang/Object;[Ljava/lang/Object;I)V" } : Jvm.MethodName)) ∈ lw_tbl := lw_at lw_m3 102 rfl
theorem q658 : (Jvm.Cond.instanceMethod ({ cls := "java/util/ArrayList", name := "add", desc := "(Ljava/lang/Object;[Ljava/lang/Object;I)V" } : Jvm.MethodName)) ∈ lw_all := lw_g (lw_at lw_m3 103 rfl) rfl
theorem q659 : (Jvm.Cond.code ({ cls := "java/util/ArrayList", name := "add", desc := "(Ljava/lang/Object;[Ljava/lang/Object;I)V" } : Jvm.MethodName) prog_46_method_24_code (4 : Nat) (Option.none : Option Jvm.ClassFile.FieldType)) ∈ lw_all := lw_g (lw_at lw_m3 104 rfl) rfl
theorem q660 : (Jvm.Cond.methodLink "java/util/ArrayList" (129 : Nat) ({ cls := "java/util/ArrayList", name := "grow", desc := "()[Ljava/lang/Object;" } : Jvm.MethodName)) ∈ lw_all := lw_g (lw_at lw_m3 105 rfl) rfl
theorem q661 : (Jvm.Cond.privateMethod ({ cls := "java/util/ArrayList", name := "grow", desc := "()[Ljava/lang/Object;" } : Jvm.MethodName)) ∈ lw_tbl := lw_at lw_m3 106 rfl
theorem q662 : (Jvm.Cond.instanceMethod ({ cls := "java/util/ArrayList", name := "grow", desc := "()[Ljava/lang/Object;" } : Jvm.MethodName)) ∈ lw_all := lw_g (lw_at lw_m3 107 rfl) rfl
theorem q663 : (Jvm.Cond.code ({ cls := "java/util/ArrayList", name := "grow", desc := "()[Ljava/lang/Object;" } : Jvm.MethodName) prog_46_method_7_code (1 : Nat) (Option.some (Jvm.ClassFile.FieldType.array (Jvm.ClassFile.FieldType.object "java/lang/Object")))) ∈ lw_all := lw_g (lw_at lw_m3 108 rfl) rfl
theorem q664 : (Jvm.Cond.methodLink "java/util/ArrayList" (69 : Nat) ({ cls := "java/util/ArrayList", name := "grow", desc := "(I)[Ljava/lang/Object;" } : Jvm.MethodName)) ∈ lw_all := lw_g (lw_at lw_m3 109 rfl) rfl
theorem q665 : (Jvm.Cond.privateMethod ({ cls := "java/util/ArrayList", name := "grow", desc := "(I)[Ljava/lang/Object;" } : Jvm.MethodName)) ∈ lw_tbl := lw_at lw_m3 110 rfl
theorem q666 : (Jvm.Cond.instanceMethod ({ cls := "java/util/ArrayList", name := "grow", desc := "(I)[Ljava/lang/Object;" } : Jvm.MethodName)) ∈ lw_all := lw_g (lw_at lw_m3 111 rfl) rfl
theorem q667 : (Jvm.Cond.code ({ cls := "java/util/ArrayList", name := "grow", desc := "(I)[Ljava/lang/Object;" } : Jvm.MethodName) prog_46_method_6_code (4 : Nat) (Option.some (Jvm.ClassFile.FieldType.array (Jvm.ClassFile.FieldType.object "java/lang/Object")))) ∈ lw_all := lw_g (lw_at lw_m3 112 rfl) rfl
theorem q668 : (Jvm.Cond.methodLink "java/util/ArrayList" (73 : Nat) ({ cls := "jdk/internal/util/ArraysSupport", name := "newLength", desc := "(III)I" } : Jvm.MethodName)) ∈ lw_all := lw_g (lw_at lw_m3 113 rfl) rfl
theorem q678 : (Jvm.Cond.methodLink "java/util/ArrayList" (66 : Nat) ({ cls := "java/util/Arrays", name := "copyOf", desc := "([Ljava/lang/Object;I)[Ljava/lang/Object;" } : Jvm.MethodName)) ∈ lw_all := lw_g (lw_at lw_m3 123 rfl) rfl
theorem q703 : (Jvm.Cond.selects "java/util/ArrayList" ({ cls := "java/lang/Object", name := "getClass", desc := "()Ljava/lang/Class;" } : Jvm.MethodName) ({ cls := "java/lang/Object", name := "getClass", desc := "()Ljava/lang/Class;" } : Jvm.MethodName)) ∈ lw_all := lw_g (lw_at lw_m3 148 rfl) rfl
theorem q719 : (Jvm.Cond.methodLink "java/util/ArrayList" (79 : Nat) ({ cls := "java/lang/Math", name := "max", desc := "(II)I" } : Jvm.MethodName)) ∈ lw_all := lw_g (lw_at lw_m3 164 rfl) rfl
theorem q720 : (Jvm.Cond.classLink "java/util/ArrayList" (7 : Nat) "java/lang/Object") ∈ lw_all := lw_g (lw_at lw_m3 165 rfl) rfl
theorem q944 : (Jvm.Cond.instanceMethod ({ cls := "java/util/ArrayList", name := "remove", desc := "(I)Ljava/lang/Object;" } : Jvm.MethodName)) ∈ lw_all := lw_g (lw_at lw_m4 149 rfl) rfl
theorem q945 : (Jvm.Cond.selects "java/util/ArrayList" ({ cls := "java/util/ArrayList", name := "remove", desc := "(I)Ljava/lang/Object;" } : Jvm.MethodName) ({ cls := "java/util/ArrayList", name := "remove", desc := "(I)Ljava/lang/Object;" } : Jvm.MethodName)) ∈ lw_all := lw_g (lw_at lw_m4 150 rfl) rfl
theorem q946 : (Jvm.Cond.code ({ cls := "java/util/ArrayList", name := "remove", desc := "(I)Ljava/lang/Object;" } : Jvm.MethodName) prog_46_method_29_code (4 : Nat) (Option.some (Jvm.ClassFile.FieldType.object "java/lang/Object"))) ∈ lw_all := lw_g (lw_at lw_m4 151 rfl) rfl
theorem q947 : (Jvm.Cond.methodLink "java/util/ArrayList" (144 : Nat) ({ cls := "java/util/ArrayList", name := "fastRemove", desc := "([Ljava/lang/Object;I)V" } : Jvm.MethodName)) ∈ lw_all := lw_g (lw_at lw_m4 152 rfl) rfl
theorem q948 : (Jvm.Cond.privateMethod ({ cls := "java/util/ArrayList", name := "fastRemove", desc := "([Ljava/lang/Object;I)V" } : Jvm.MethodName)) ∈ lw_tbl := lw_at lw_m4 153 rfl
theorem q949 : (Jvm.Cond.instanceMethod ({ cls := "java/util/ArrayList", name := "fastRemove", desc := "([Ljava/lang/Object;I)V" } : Jvm.MethodName)) ∈ lw_all := lw_g (lw_at lw_m4 154 rfl) rfl
theorem q950 : (Jvm.Cond.code ({ cls := "java/util/ArrayList", name := "fastRemove", desc := "([Ljava/lang/Object;I)V" } : Jvm.MethodName) prog_46_method_39_code (4 : Nat) (Option.none : Option Jvm.ClassFile.FieldType)) ∈ lw_all := lw_g (lw_at lw_m4 155 rfl) rfl
theorem q951 : (Jvm.Cond.methodLink "java/util/ArrayList" (112 : Nat) ({ cls := "java/lang/System", name := "arraycopy", desc := "(Ljava/lang/Object;ILjava/lang/Object;II)V" } : Jvm.MethodName)) ∈ lw_all := lw_g (lw_at lw_m4 156 rfl) rfl
theorem q1905 : (Jvm.Cond.instanceMethod ({ cls := "java/util/ArrayList", name := "clear", desc := "()V" } : Jvm.MethodName)) ∈ lw_all := lw_g (lw_at lw_m8 150 rfl) rfl
theorem q1906 : (Jvm.Cond.selects "java/util/ArrayList" ({ cls := "java/util/ArrayList", name := "clear", desc := "()V" } : Jvm.MethodName) ({ cls := "java/util/ArrayList", name := "clear", desc := "()V" } : Jvm.MethodName)) ∈ lw_all := lw_g (lw_at lw_m8 151 rfl) rfl
theorem q1907 : (Jvm.Cond.code ({ cls := "java/util/ArrayList", name := "clear", desc := "()V" } : Jvm.MethodName) prog_46_method_40_code (4 : Nat) (Option.none : Option Jvm.ClassFile.FieldType)) ∈ lw_all := lw_g (lw_at lw_m8 152 rfl) rfl
theorem q2444 : (Jvm.Cond.castable "java/util/ArrayList" "java/lang/Object") ∈ lw_tbl := lw_at lw_m10 209 rfl
theorem in_J2 : ∀ w ∈ wsJ20, w ∈ lw_all := lw_in wsJ20 [156, 152, 154] (by decide +kernel) (by decide +kernel)
/-! java/lang/ArrayIndexOutOfBoundsException -/
def RJ20 : String := "java/lang/ArrayIndexOutOfBoundsException"
def TJ20 : u_T := fun k => match k with
  | 0 => ("java/lang/Throwable", "backtrace", "Ljava/lang/Object;", false)
  | 1 => ("java/lang/Throwable", "detailMessage", "Ljava/lang/String;", false)
  | 2 => ("java/lang/Throwable", "cause", "Ljava/lang/Throwable;", false)
  | 3 => ("java/lang/Throwable", "stackTrace", "[Ljava/lang/StackTraceElement;", false)
  | 4 => ("java/lang/Throwable", "depth", "I", false)
  | _ => ("java/lang/Throwable", "suppressedExceptions", "Ljava/util/List;", false)
def tyJ20 : Nat → FieldType := fun k => match k with
  | 0 => .object "java/lang/Object"
  | 1 => .object "java/lang/String"
  | 2 => .object "java/lang/Throwable"
  | 3 => .array (.object "java/lang/StackTraceElement")
  | 4 => .int
  | _ => .object "java/util/List"
abbrev wsJ200 : List Cond := u_ws RJ20 TJ20 6
theorem nmJ20 : ∀ a, a < 6 → ∀ b, b < 6 → a ≠ b → (TJ20 a).2.1 ≠ (TJ20 b).2.1 := by decide +kernel
theorem tyJ20_ok : ∀ k, k < 6 → parseFieldDescriptor (TJ20 k).2.2.1 = some (tyJ20 k) := by decide +kernel
abbrev cJ20_init : ByteArray := prog_20_method_2_code
def yJ20_init : MethodName := ⟨RJ20, "<init>", "(Ljava/lang/String;)V"⟩
abbrev cJ20_init_2 : ByteArray := prog_20_method_3_code
def yJ20_init_2 : MethodName := ⟨RJ20, "<init>", "(I)V"⟩
theorem q106 : (Jvm.Cond.initialized "java/lang/ArrayIndexOutOfBoundsException") ∈ lw_all := lw_g (lw_at lw_m1 31 rfl) rfl
theorem q265 : (Jvm.Cond.selects "java/lang/ArrayIndexOutOfBoundsException" ({ cls := "java/lang/Throwable", name := "fillInStackTrace", desc := "()Ljava/lang/Throwable;" } : Jvm.MethodName) ({ cls := "java/lang/Throwable", name := "fillInStackTrace", desc := "()Ljava/lang/Throwable;" } : Jvm.MethodName)) ∈ lw_all := lw_g (lw_at lw_m1 190 rfl) rfl
theorem q695 : (Jvm.Cond.selects "java/lang/ArrayIndexOutOfBoundsException" ({ cls := "java/lang/Object", name := "getClass", desc := "()Ljava/lang/Class;" } : Jvm.MethodName) ({ cls := "java/lang/Object", name := "getClass", desc := "()Ljava/lang/Class;" } : Jvm.MethodName)) ∈ lw_all := lw_g (lw_at lw_m3 140 rfl) rfl
theorem q991 : (Jvm.Cond.instantiable "java/lang/ArrayIndexOutOfBoundsException" (6 : Nat)) ∈ lw_all := lw_g (lw_at lw_m4 196 rfl) rfl
theorem q992 : (Jvm.Cond.instanceMethod ({ cls := "java/lang/ArrayIndexOutOfBoundsException", name := "<init>", desc := "(Ljava/lang/String;)V" } : Jvm.MethodName)) ∈ lw_all := lw_g (lw_at lw_m4 197 rfl) rfl
theorem q993 : (Jvm.Cond.code ({ cls := "java/lang/ArrayIndexOutOfBoundsException", name := "<init>", desc := "(Ljava/lang/String;)V" } : Jvm.MethodName) prog_20_method_2_code (2 : Nat) (Option.none : Option Jvm.ClassFile.FieldType)) ∈ lw_all := lw_g (lw_at lw_m4 198 rfl) rfl
theorem q994 : (Jvm.Cond.methodLink "java/lang/ArrayIndexOutOfBoundsException" (7 : Nat) ({ cls := "java/lang/IndexOutOfBoundsException", name := "<init>", desc := "(Ljava/lang/String;)V" } : Jvm.MethodName)) ∈ lw_all := lw_g (lw_at lw_m4 199 rfl) rfl
theorem q1006 : (Jvm.Cond.lays "java/lang/ArrayIndexOutOfBoundsException" "java/lang/Throwable" "backtrace" "Ljava/lang/Object;") ∈ lw_all := lw_g (lw_at lw_m4 211 rfl) rfl
theorem q1007 : (Jvm.Cond.lays "java/lang/ArrayIndexOutOfBoundsException" "java/lang/Throwable" "detailMessage" "Ljava/lang/String;") ∈ lw_all := lw_g (lw_at lw_m4 212 rfl) rfl
theorem q1008 : (Jvm.Cond.lays "java/lang/ArrayIndexOutOfBoundsException" "java/lang/Throwable" "cause" "Ljava/lang/Throwable;") ∈ lw_all := lw_g (lw_at lw_m4 213 rfl) rfl
theorem q1009 : (Jvm.Cond.lays "java/lang/ArrayIndexOutOfBoundsException" "java/lang/Throwable" "stackTrace" "[Ljava/lang/StackTraceElement;") ∈ lw_all := lw_g (lw_at lw_m4 214 rfl) rfl
theorem q1010 : (Jvm.Cond.lays "java/lang/ArrayIndexOutOfBoundsException" "java/lang/Throwable" "depth" "I") ∈ lw_all := lw_g (lw_at lw_m4 215 rfl) rfl
theorem q1011 : (Jvm.Cond.lays "java/lang/ArrayIndexOutOfBoundsException" "java/lang/Throwable" "suppressedExceptions" "Ljava/util/List;") ∈ lw_all := lw_g (lw_at lw_m4 216 rfl) rfl
theorem q1012 : (Jvm.Cond.superclass "java/lang/ArrayIndexOutOfBoundsException" "java/lang/IndexOutOfBoundsException") ∈ lw_all := lw_g (lw_at lw_m4 217 rfl) rfl
theorem q1013 : (Jvm.Cond.castable "java/lang/ArrayIndexOutOfBoundsException" "java/lang/ArrayIndexOutOfBoundsException") ∈ lw_tbl := lw_at lw_m4 218 rfl
theorem q1016 : (Jvm.Cond.selects "java/lang/ArrayIndexOutOfBoundsException" ({ cls := "java/lang/Throwable", name := "fillInStackTrace", desc := "(I)Ljava/lang/Throwable;" } : Jvm.MethodName) ({ cls := "java/lang/Throwable", name := "fillInStackTrace", desc := "(I)Ljava/lang/Throwable;" } : Jvm.MethodName)) ∈ lw_all := lw_g (lw_at lw_m4 221 rfl) rfl
theorem q1818 : (Jvm.Cond.instanceMethod ({ cls := "java/lang/ArrayIndexOutOfBoundsException", name := "<init>", desc := "(I)V" } : Jvm.MethodName)) ∈ lw_all := lw_g (lw_at lw_m8 63 rfl) rfl
theorem q1819 : (Jvm.Cond.code ({ cls := "java/lang/ArrayIndexOutOfBoundsException", name := "<init>", desc := "(I)V" } : Jvm.MethodName) prog_20_method_3_code (2 : Nat) (Option.none : Option Jvm.ClassFile.FieldType)) ∈ lw_all := lw_g (lw_at lw_m8 64 rfl) rfl
theorem q1820 : (Jvm.Cond.classLink "java/lang/ArrayIndexOutOfBoundsException" (10 : Nat) "java/lang/StringBuilder") ∈ lw_all := lw_g (lw_at lw_m8 65 rfl) rfl
theorem q1821 : (Jvm.Cond.methodLink "java/lang/ArrayIndexOutOfBoundsException" (12 : Nat) ({ cls := "java/lang/StringBuilder", name := "<init>", desc := "()V" } : Jvm.MethodName)) ∈ lw_all := lw_g (lw_at lw_m8 66 rfl) rfl
theorem q1822 : (Jvm.Cond.stringRef "java/lang/ArrayIndexOutOfBoundsException" (13 : Nat) "Array index out of range: ") ∈ lw_tbl := lw_at lw_m8 67 rfl
theorem q1823 : (Jvm.Cond.methodLink "java/lang/ArrayIndexOutOfBoundsException" (15 : Nat) ({ cls := "java/lang/StringBuilder", name := "append", desc := "(Ljava/lang/String;)Ljava/lang/StringBuilder;" } : Jvm.MethodName)) ∈ lw_all := lw_g (lw_at lw_m8 68 rfl) rfl
theorem q1824 : (Jvm.Cond.methodLink "java/lang/ArrayIndexOutOfBoundsException" (19 : Nat) ({ cls := "java/lang/StringBuilder", name := "append", desc := "(I)Ljava/lang/StringBuilder;" } : Jvm.MethodName)) ∈ lw_all := lw_g (lw_at lw_m8 69 rfl) rfl
theorem q1825 : (Jvm.Cond.methodLink "java/lang/ArrayIndexOutOfBoundsException" (22 : Nat) ({ cls := "java/lang/StringBuilder", name := "toString", desc := "()Ljava/lang/String;" } : Jvm.MethodName)) ∈ lw_all := lw_g (lw_at lw_m8 70 rfl) rfl
theorem q2440 : (Jvm.Cond.castable "java/lang/ArrayIndexOutOfBoundsException" "java/lang/IndexOutOfBoundsException") ∈ lw_tbl := lw_at lw_m10 205 rfl
theorem q2456 : (Jvm.Cond.castable "java/lang/ArrayIndexOutOfBoundsException" "java/lang/Object") ∈ lw_tbl := lw_at lw_m10 221 rfl
theorem in_J20 : ∀ w ∈ wsJ200, w ∈ lw_all := lw_in wsJ200 [1006, 1007, 1008, 1009, 1010, 1011] (by decide +kernel) (by decide +kernel)
/-! java/lang/StringLatin1 -/
def RJ21 : String := "java/lang/StringLatin1"
abbrev cJ21_charAt : ByteArray := prog_37_method_2_code
def yJ21_charAt : MethodName := ⟨RJ21, "charAt", "([BI)C"⟩
abbrev cJ21_indexOf : ByteArray := prog_37_method_22_code
def yJ21_indexOf : MethodName := ⟨RJ21, "indexOf", "([BIII)I"⟩
abbrev cJ21_canEncode : ByteArray := prog_37_method_4_code
def yJ21_canEncode : MethodName := ⟨RJ21, "canEncode", "(I)Z"⟩
abbrev cJ21_indexOfChar : ByteArray := prog_37_method_23_code
def yJ21_indexOfChar : MethodName := ⟨RJ21, "indexOfChar", "([BIII)I"⟩
abbrev cJ21_inflate : ByteArray := prog_37_method_50_code
def yJ21_inflate : MethodName := ⟨RJ21, "inflate", "([BI[BII)V"⟩
abbrev cJ21_canEncode_2 : ByteArray := prog_37_method_3_code
def yJ21_canEncode_2 : MethodName := ⟨RJ21, "canEncode", "(C)Z"⟩
abbrev cJ21_fillNull : ByteArray := prog_37_method_48_code
def yJ21_fillNull : MethodName := ⟨RJ21, "fillNull", "([BII)V"⟩
theorem q107 : (Jvm.Cond.initialized "java/lang/StringLatin1") ∈ lw_all := lw_g (lw_at lw_m1 32 rfl) rfl
theorem q566 : (Jvm.Cond.static ({ cls := "java/lang/StringLatin1", name := "charAt", desc := "([BI)C" } : Jvm.MethodName)) ∈ lw_all := lw_g (lw_at lw_m3 11 rfl) rfl
theorem q567 : (Jvm.Cond.code ({ cls := "java/lang/StringLatin1", name := "charAt", desc := "([BI)C" } : Jvm.MethodName) prog_37_method_2_code (2 : Nat) (Option.some Jvm.ClassFile.FieldType.char)) ∈ lw_all := lw_g (lw_at lw_m3 12 rfl) rfl
theorem q568 : (Jvm.Cond.methodLink "java/lang/StringLatin1" (9 : Nat) ({ cls := "java/lang/String", name := "checkIndex", desc := "(II)V" } : Jvm.MethodName)) ∈ lw_all := lw_g (lw_at lw_m3 13 rfl) rfl
theorem q1213 : (Jvm.Cond.static ({ cls := "java/lang/StringLatin1", name := "indexOf", desc := "([BIII)I" } : Jvm.MethodName)) ∈ lw_all := lw_g (lw_at lw_m5 178 rfl) rfl
theorem q1214 : (Jvm.Cond.code ({ cls := "java/lang/StringLatin1", name := "indexOf", desc := "([BIII)I" } : Jvm.MethodName) prog_37_method_22_code (4 : Nat) (Option.some Jvm.ClassFile.FieldType.int)) ∈ lw_all := lw_g (lw_at lw_m5 179 rfl) rfl
theorem q1215 : (Jvm.Cond.methodLink "java/lang/StringLatin1" (88 : Nat) ({ cls := "java/lang/StringLatin1", name := "canEncode", desc := "(I)Z" } : Jvm.MethodName)) ∈ lw_all := lw_g (lw_at lw_m5 180 rfl) rfl
theorem q1216 : (Jvm.Cond.static ({ cls := "java/lang/StringLatin1", name := "canEncode", desc := "(I)Z" } : Jvm.MethodName)) ∈ lw_all := lw_g (lw_at lw_m5 181 rfl) rfl
theorem q1217 : (Jvm.Cond.code ({ cls := "java/lang/StringLatin1", name := "canEncode", desc := "(I)Z" } : Jvm.MethodName) prog_37_method_4_code (1 : Nat) (Option.some Jvm.ClassFile.FieldType.boolean)) ∈ lw_all := lw_g (lw_at lw_m5 182 rfl) rfl
theorem q1218 : (Jvm.Cond.methodLink "java/lang/StringLatin1" (92 : Nat) ({ cls := "java/lang/Math", name := "max", desc := "(II)I" } : Jvm.MethodName)) ∈ lw_all := lw_g (lw_at lw_m5 183 rfl) rfl
theorem q1219 : (Jvm.Cond.methodLink "java/lang/StringLatin1" (38 : Nat) ({ cls := "java/lang/Math", name := "min", desc := "(II)I" } : Jvm.MethodName)) ∈ lw_all := lw_g (lw_at lw_m5 184 rfl) rfl
theorem q1220 : (Jvm.Cond.methodLink "java/lang/StringLatin1" (95 : Nat) ({ cls := "java/lang/StringLatin1", name := "indexOfChar", desc := "([BIII)I" } : Jvm.MethodName)) ∈ lw_all := lw_g (lw_at lw_m5 185 rfl) rfl
theorem q1221 : (Jvm.Cond.static ({ cls := "java/lang/StringLatin1", name := "indexOfChar", desc := "([BIII)I" } : Jvm.MethodName)) ∈ lw_all := lw_g (lw_at lw_m5 186 rfl) rfl
theorem q1222 : (Jvm.Cond.code ({ cls := "java/lang/StringLatin1", name := "indexOfChar", desc := "([BIII)I" } : Jvm.MethodName) prog_37_method_23_code (6 : Nat) (Option.some Jvm.ClassFile.FieldType.int)) ∈ lw_all := lw_g (lw_at lw_m5 187 rfl) rfl
theorem q1538 : (Jvm.Cond.static ({ cls := "java/lang/StringLatin1", name := "inflate", desc := "([BI[BII)V" } : Jvm.MethodName)) ∈ lw_all := lw_g (lw_at lw_m7 23 rfl) rfl
theorem q1539 : (Jvm.Cond.code ({ cls := "java/lang/StringLatin1", name := "inflate", desc := "([BI[BII)V" } : Jvm.MethodName) prog_37_method_50_code (5 : Nat) (Option.none : Option Jvm.ClassFile.FieldType)) ∈ lw_all := lw_g (lw_at lw_m7 24 rfl) rfl
theorem q1540 : (Jvm.Cond.methodLink "java/lang/StringLatin1" (240 : Nat) ({ cls := "java/lang/StringUTF16", name := "inflate", desc := "([BI[BII)V" } : Jvm.MethodName)) ∈ lw_all := lw_g (lw_at lw_m7 25 rfl) rfl
theorem q1566 : (Jvm.Cond.static ({ cls := "java/lang/StringLatin1", name := "canEncode", desc := "(C)Z" } : Jvm.MethodName)) ∈ lw_all := lw_g (lw_at lw_m7 51 rfl) rfl
theorem q1567 : (Jvm.Cond.code ({ cls := "java/lang/StringLatin1", name := "canEncode", desc := "(C)Z" } : Jvm.MethodName) prog_37_method_3_code (1 : Nat) (Option.some Jvm.ClassFile.FieldType.boolean)) ∈ lw_all := lw_g (lw_at lw_m7 52 rfl) rfl
theorem q1805 : (Jvm.Cond.static ({ cls := "java/lang/StringLatin1", name := "fillNull", desc := "([BII)V" } : Jvm.MethodName)) ∈ lw_all := lw_g (lw_at lw_m8 50 rfl) rfl
theorem q1806 : (Jvm.Cond.code ({ cls := "java/lang/StringLatin1", name := "fillNull", desc := "([BII)V" } : Jvm.MethodName) prog_37_method_48_code (3 : Nat) (Option.none : Option Jvm.ClassFile.FieldType)) ∈ lw_all := lw_g (lw_at lw_m8 51 rfl) rfl
theorem q1807 : (Jvm.Cond.methodLink "java/lang/StringLatin1" (236 : Nat) ({ cls := "java/util/Arrays", name := "fill", desc := "([BIIB)V" } : Jvm.MethodName)) ∈ lw_all := lw_g (lw_at lw_m8 52 rfl) rfl
/-! java/lang/Character -/
def RJ22 : String := "java/lang/Character"
abbrev cJ22_isValidCodePoint : ByteArray := prog_22_method_11_code
def yJ22_isValidCodePoint : MethodName := ⟨RJ22, "isValidCodePoint", "(I)Z"⟩
abbrev cJ22_highSurrogate : ByteArray := prog_22_method_28_code
def yJ22_highSurrogate : MethodName := ⟨RJ22, "highSurrogate", "(I)C"⟩
abbrev cJ22_lowSurrogate : ByteArray := prog_22_method_29_code
def yJ22_lowSurrogate : MethodName := ⟨RJ22, "lowSurrogate", "(I)C"⟩
theorem q108 : (Jvm.Cond.initialized "java/lang/Character") ∈ lw_all := lw_g (lw_at lw_m1 33 rfl) rfl
theorem q1248 : (Jvm.Cond.static ({ cls := "java/lang/Character", name := "isValidCodePoint", desc := "(I)Z" } : Jvm.MethodName)) ∈ lw_all := lw_g (lw_at lw_m5 213 rfl) rfl
theorem q1249 : (Jvm.Cond.code ({ cls := "java/lang/Character", name := "isValidCodePoint", desc := "(I)Z" } : Jvm.MethodName) prog_22_method_11_code (2 : Nat) (Option.some Jvm.ClassFile.FieldType.boolean)) ∈ lw_all := lw_g (lw_at lw_m5 214 rfl) rfl
theorem q1251 : (Jvm.Cond.static ({ cls := "java/lang/Character", name := "highSurrogate", desc := "(I)C" } : Jvm.MethodName)) ∈ lw_all := lw_g (lw_at lw_m5 216 rfl) rfl
theorem q1252 : (Jvm.Cond.code ({ cls := "java/lang/Character", name := "highSurrogate", desc := "(I)C" } : Jvm.MethodName) prog_22_method_28_code (1 : Nat) (Option.some Jvm.ClassFile.FieldType.char)) ∈ lw_all := lw_g (lw_at lw_m5 217 rfl) rfl
theorem q1253 : (Jvm.Cond.constant "java/lang/Character" (110 : Nat) (55232 : Int32)) ∈ lw_all := lw_g (lw_at lw_m5 218 rfl) rfl
theorem q1255 : (Jvm.Cond.static ({ cls := "java/lang/Character", name := "lowSurrogate", desc := "(I)C" } : Jvm.MethodName)) ∈ lw_all := lw_g (lw_at lw_m5 220 rfl) rfl
theorem q1256 : (Jvm.Cond.code ({ cls := "java/lang/Character", name := "lowSurrogate", desc := "(I)C" } : Jvm.MethodName) prog_22_method_29_code (1 : Nat) (Option.some Jvm.ClassFile.FieldType.char)) ∈ lw_all := lw_g (lw_at lw_m5 221 rfl) rfl
theorem q1257 : (Jvm.Cond.constant "java/lang/Character" (76 : Nat) (56320 : Int32)) ∈ lw_all := lw_g (lw_at lw_m5 222 rfl) rfl
/-! java/lang/ArithmeticException -/
def RJ23 : String := "java/lang/ArithmeticException"
def TJ23 : u_T := fun k => match k with
  | 0 => ("java/lang/Throwable", "backtrace", "Ljava/lang/Object;", false)
  | 1 => ("java/lang/Throwable", "detailMessage", "Ljava/lang/String;", false)
  | 2 => ("java/lang/Throwable", "cause", "Ljava/lang/Throwable;", false)
  | 3 => ("java/lang/Throwable", "stackTrace", "[Ljava/lang/StackTraceElement;", false)
  | 4 => ("java/lang/Throwable", "depth", "I", false)
  | _ => ("java/lang/Throwable", "suppressedExceptions", "Ljava/util/List;", false)
def tyJ23 : Nat → FieldType := fun k => match k with
  | 0 => .object "java/lang/Object"
  | 1 => .object "java/lang/String"
  | 2 => .object "java/lang/Throwable"
  | 3 => .array (.object "java/lang/StackTraceElement")
  | 4 => .int
  | _ => .object "java/util/List"
abbrev wsJ230 : List Cond := u_ws RJ23 TJ23 6
theorem nmJ23 : ∀ a, a < 6 → ∀ b, b < 6 → a ≠ b → (TJ23 a).2.1 ≠ (TJ23 b).2.1 := by decide +kernel
theorem tyJ23_ok : ∀ k, k < 6 → parseFieldDescriptor (TJ23 k).2.2.1 = some (tyJ23 k) := by decide +kernel
abbrev cJ23_init : ByteArray := prog_19_method_2_code
def yJ23_init : MethodName := ⟨RJ23, "<init>", "(Ljava/lang/String;)V"⟩
abbrev cJ23_init_2 : ByteArray := prog_19_method_1_code
def yJ23_init_2 : MethodName := ⟨RJ23, "<init>", "()V"⟩
theorem q109 : (Jvm.Cond.initialized "java/lang/ArithmeticException") ∈ lw_all := lw_g (lw_at lw_m1 34 rfl) rfl
theorem q264 : (Jvm.Cond.selects "java/lang/ArithmeticException" ({ cls := "java/lang/Throwable", name := "fillInStackTrace", desc := "()Ljava/lang/Throwable;" } : Jvm.MethodName) ({ cls := "java/lang/Throwable", name := "fillInStackTrace", desc := "()Ljava/lang/Throwable;" } : Jvm.MethodName)) ∈ lw_all := lw_g (lw_at lw_m1 189 rfl) rfl
theorem q694 : (Jvm.Cond.selects "java/lang/ArithmeticException" ({ cls := "java/lang/Object", name := "getClass", desc := "()Ljava/lang/Class;" } : Jvm.MethodName) ({ cls := "java/lang/Object", name := "getClass", desc := "()Ljava/lang/Class;" } : Jvm.MethodName)) ∈ lw_all := lw_g (lw_at lw_m3 139 rfl) rfl
theorem q1413 : (Jvm.Cond.instantiable "java/lang/ArithmeticException" (6 : Nat)) ∈ lw_all := lw_g (lw_at lw_m6 138 rfl) rfl
theorem q1414 : (Jvm.Cond.instanceMethod ({ cls := "java/lang/ArithmeticException", name := "<init>", desc := "(Ljava/lang/String;)V" } : Jvm.MethodName)) ∈ lw_all := lw_g (lw_at lw_m6 139 rfl) rfl
theorem q1415 : (Jvm.Cond.code ({ cls := "java/lang/ArithmeticException", name := "<init>", desc := "(Ljava/lang/String;)V" } : Jvm.MethodName) prog_19_method_2_code (2 : Nat) (Option.none : Option Jvm.ClassFile.FieldType)) ∈ lw_all := lw_g (lw_at lw_m6 140 rfl) rfl
theorem q1416 : (Jvm.Cond.methodLink "java/lang/ArithmeticException" (7 : Nat) ({ cls := "java/lang/RuntimeException", name := "<init>", desc := "(Ljava/lang/String;)V" } : Jvm.MethodName)) ∈ lw_all := lw_g (lw_at lw_m6 141 rfl) rfl
theorem q1417 : (Jvm.Cond.lays "java/lang/ArithmeticException" "java/lang/Throwable" "backtrace" "Ljava/lang/Object;") ∈ lw_all := lw_g (lw_at lw_m6 142 rfl) rfl
theorem q1418 : (Jvm.Cond.lays "java/lang/ArithmeticException" "java/lang/Throwable" "detailMessage" "Ljava/lang/String;") ∈ lw_all := lw_g (lw_at lw_m6 143 rfl) rfl
theorem q1419 : (Jvm.Cond.lays "java/lang/ArithmeticException" "java/lang/Throwable" "cause" "Ljava/lang/Throwable;") ∈ lw_all := lw_g (lw_at lw_m6 144 rfl) rfl
theorem q1420 : (Jvm.Cond.lays "java/lang/ArithmeticException" "java/lang/Throwable" "stackTrace" "[Ljava/lang/StackTraceElement;") ∈ lw_all := lw_g (lw_at lw_m6 145 rfl) rfl
theorem q1421 : (Jvm.Cond.lays "java/lang/ArithmeticException" "java/lang/Throwable" "depth" "I") ∈ lw_all := lw_g (lw_at lw_m6 146 rfl) rfl
theorem q1422 : (Jvm.Cond.lays "java/lang/ArithmeticException" "java/lang/Throwable" "suppressedExceptions" "Ljava/util/List;") ∈ lw_all := lw_g (lw_at lw_m6 147 rfl) rfl
theorem q1423 : (Jvm.Cond.superclass "java/lang/ArithmeticException" "java/lang/RuntimeException") ∈ lw_all := lw_g (lw_at lw_m6 148 rfl) rfl
theorem q1424 : (Jvm.Cond.castable "java/lang/ArithmeticException" "java/lang/ArithmeticException") ∈ lw_tbl := lw_at lw_m6 149 rfl
theorem q1425 : (Jvm.Cond.selects "java/lang/ArithmeticException" ({ cls := "java/lang/Throwable", name := "fillInStackTrace", desc := "(I)Ljava/lang/Throwable;" } : Jvm.MethodName) ({ cls := "java/lang/Throwable", name := "fillInStackTrace", desc := "(I)Ljava/lang/Throwable;" } : Jvm.MethodName)) ∈ lw_all := lw_g (lw_at lw_m6 150 rfl) rfl
theorem q1435 : (Jvm.Cond.instanceMethod ({ cls := "java/lang/ArithmeticException", name := "<init>", desc := "()V" } : Jvm.MethodName)) ∈ lw_all := lw_g (lw_at lw_m6 160 rfl) rfl
theorem q1436 : (Jvm.Cond.code ({ cls := "java/lang/ArithmeticException", name := "<init>", desc := "()V" } : Jvm.MethodName) prog_19_method_1_code (1 : Nat) (Option.none : Option Jvm.ClassFile.FieldType)) ∈ lw_all := lw_g (lw_at lw_m6 161 rfl) rfl
theorem q1437 : (Jvm.Cond.methodLink "java/lang/ArithmeticException" (1 : Nat) ({ cls := "java/lang/RuntimeException", name := "<init>", desc := "()V" } : Jvm.MethodName)) ∈ lw_all := lw_g (lw_at lw_m6 162 rfl) rfl
theorem q2458 : (Jvm.Cond.castable "java/lang/ArithmeticException" "java/lang/Object") ∈ lw_tbl := lw_at lw_m10 223 rfl
theorem in_J23 : ∀ w ∈ wsJ230, w ∈ lw_all := lw_in wsJ230 [1417, 1418, 1419, 1420, 1421, 1422] (by decide +kernel) (by decide +kernel)
/-! java/lang/Integer -/
def RJ24 : String := "java/lang/Integer"
abbrev cJ24_stringSize : ByteArray := prog_29_method_13_code
def yJ24_stringSize : MethodName := ⟨RJ24, "stringSize", "(I)I"⟩
abbrev cJ24_getChars : ByteArray := prog_29_method_12_code
def yJ24_getChars : MethodName := ⟨RJ24, "getChars", "(II[B)I"⟩
theorem q111 : (Jvm.Cond.initialized "java/lang/Integer") ∈ lw_all := lw_g (lw_at lw_m1 36 rfl) rfl
theorem q1463 : (Jvm.Cond.static ({ cls := "java/lang/Integer", name := "stringSize", desc := "(I)I" } : Jvm.MethodName)) ∈ lw_all := lw_g (lw_at lw_m6 188 rfl) rfl
theorem q1464 : (Jvm.Cond.code ({ cls := "java/lang/Integer", name := "stringSize", desc := "(I)I" } : Jvm.MethodName) prog_29_method_13_code (4 : Nat) (Option.some Jvm.ClassFile.FieldType.int)) ∈ lw_all := lw_g (lw_at lw_m6 189 rfl) rfl
theorem q1491 : (Jvm.Cond.static ({ cls := "java/lang/Integer", name := "getChars", desc := "(II[B)I" } : Jvm.MethodName)) ∈ lw_all := lw_g (lw_at lw_m6 216 rfl) rfl
theorem q1492 : (Jvm.Cond.code ({ cls := "java/lang/Integer", name := "getChars", desc := "(II[B)I" } : Jvm.MethodName) prog_29_method_12_code (7 : Nat) (Option.some Jvm.ClassFile.FieldType.int)) ∈ lw_all := lw_g (lw_at lw_m6 217 rfl) rfl
theorem q1493 : (Jvm.Cond.fieldLink "java/lang/Integer" (83 : Nat) "java/lang/Integer" "DigitOnes" "[B") ∈ lw_all := lw_g (lw_at lw_m6 218 rfl) rfl
theorem q1494 : (Jvm.Cond.laysStatic "java/lang/Integer" "DigitOnes" "[B") ∈ lw_tbl := lw_at lw_m6 219 rfl
theorem q1495 : (Jvm.Cond.fieldLink "java/lang/Integer" (87 : Nat) "java/lang/Integer" "DigitTens" "[B") ∈ lw_all := lw_g (lw_at lw_m6 220 rfl) rfl
theorem q1496 : (Jvm.Cond.laysStatic "java/lang/Integer" "DigitTens" "[B") ∈ lw_tbl := lw_at lw_m6 221 rfl
/-! java/lang/IllegalStateException -/
def RJ25 : String := "java/lang/IllegalStateException"
def TJ25 : u_T := fun k => match k with
  | 0 => ("java/lang/Throwable", "cause", "Ljava/lang/Throwable;", false)
  | 1 => ("java/lang/Throwable", "stackTrace", "[Ljava/lang/StackTraceElement;", false)
  | 2 => ("java/lang/Throwable", "suppressedExceptions", "Ljava/util/List;", false)
  | 3 => ("java/lang/Throwable", "detailMessage", "Ljava/lang/String;", false)
  | 4 => ("java/lang/Throwable", "backtrace", "Ljava/lang/Object;", false)
  | _ => ("java/lang/Throwable", "depth", "I", false)
def tyJ25 : Nat → FieldType := fun k => match k with
  | 0 => .object "java/lang/Throwable"
  | 1 => .array (.object "java/lang/StackTraceElement")
  | 2 => .object "java/util/List"
  | 3 => .object "java/lang/String"
  | 4 => .object "java/lang/Object"
  | _ => .int
abbrev wsJ250 : List Cond := u_ws RJ25 TJ25 6
theorem nmJ25 : ∀ a, a < 6 → ∀ b, b < 6 → a ≠ b → (TJ25 a).2.1 ≠ (TJ25 b).2.1 := by decide +kernel
theorem tyJ25_ok : ∀ k, k < 6 → parseFieldDescriptor (TJ25 k).2.2.1 = some (tyJ25 k) := by decide +kernel
abbrev cJ25_init : ByteArray := prog_27_method_1_code
def yJ25_init : MethodName := ⟨RJ25, "<init>", "()V"⟩
theorem q112 : (Jvm.Cond.initialized "java/lang/IllegalStateException") ∈ lw_all := lw_g (lw_at lw_m1 37 rfl) rfl
theorem q267 : (Jvm.Cond.selects "java/lang/IllegalStateException" ({ cls := "java/lang/Throwable", name := "fillInStackTrace", desc := "()Ljava/lang/Throwable;" } : Jvm.MethodName) ({ cls := "java/lang/Throwable", name := "fillInStackTrace", desc := "()Ljava/lang/Throwable;" } : Jvm.MethodName)) ∈ lw_all := lw_g (lw_at lw_m1 192 rfl) rfl
theorem q697 : (Jvm.Cond.selects "java/lang/IllegalStateException" ({ cls := "java/lang/Object", name := "getClass", desc := "()Ljava/lang/Class;" } : Jvm.MethodName) ({ cls := "java/lang/Object", name := "getClass", desc := "()Ljava/lang/Class;" } : Jvm.MethodName)) ∈ lw_all := lw_g (lw_at lw_m3 142 rfl) rfl
theorem q1668 : (Jvm.Cond.instantiable "java/lang/IllegalStateException" (6 : Nat)) ∈ lw_all := lw_g (lw_at lw_m7 153 rfl) rfl
theorem q1669 : (Jvm.Cond.castable "java/lang/IllegalStateException" "java/lang/IllegalStateException") ∈ lw_tbl := lw_at lw_m7 154 rfl
theorem q1670 : (Jvm.Cond.selects "java/lang/IllegalStateException" ({ cls := "java/lang/Throwable", name := "fillInStackTrace", desc := "(I)Ljava/lang/Throwable;" } : Jvm.MethodName) ({ cls := "java/lang/Throwable", name := "fillInStackTrace", desc := "(I)Ljava/lang/Throwable;" } : Jvm.MethodName)) ∈ lw_all := lw_g (lw_at lw_m7 155 rfl) rfl
theorem q1671 : (Jvm.Cond.lays "java/lang/IllegalStateException" "java/lang/Throwable" "cause" "Ljava/lang/Throwable;") ∈ lw_all := lw_g (lw_at lw_m7 156 rfl) rfl
theorem q1672 : (Jvm.Cond.lays "java/lang/IllegalStateException" "java/lang/Throwable" "stackTrace" "[Ljava/lang/StackTraceElement;") ∈ lw_all := lw_g (lw_at lw_m7 157 rfl) rfl
theorem q1673 : (Jvm.Cond.lays "java/lang/IllegalStateException" "java/lang/Throwable" "suppressedExceptions" "Ljava/util/List;") ∈ lw_all := lw_g (lw_at lw_m7 158 rfl) rfl
theorem q1674 : (Jvm.Cond.lays "java/lang/IllegalStateException" "java/lang/Throwable" "detailMessage" "Ljava/lang/String;") ∈ lw_all := lw_g (lw_at lw_m7 159 rfl) rfl
theorem q1675 : (Jvm.Cond.lays "java/lang/IllegalStateException" "java/lang/Throwable" "backtrace" "Ljava/lang/Object;") ∈ lw_all := lw_g (lw_at lw_m7 160 rfl) rfl
theorem q1677 : (Jvm.Cond.instanceMethod ({ cls := "java/lang/IllegalStateException", name := "<init>", desc := "()V" } : Jvm.MethodName)) ∈ lw_all := lw_g (lw_at lw_m7 162 rfl) rfl
theorem q1678 : (Jvm.Cond.code ({ cls := "java/lang/IllegalStateException", name := "<init>", desc := "()V" } : Jvm.MethodName) prog_27_method_1_code (1 : Nat) (Option.none : Option Jvm.ClassFile.FieldType)) ∈ lw_all := lw_g (lw_at lw_m7 163 rfl) rfl
theorem q1679 : (Jvm.Cond.methodLink "java/lang/IllegalStateException" (1 : Nat) ({ cls := "java/lang/RuntimeException", name := "<init>", desc := "()V" } : Jvm.MethodName)) ∈ lw_all := lw_g (lw_at lw_m7 164 rfl) rfl
theorem q1680 : (Jvm.Cond.lays "java/lang/IllegalStateException" "java/lang/Throwable" "depth" "I") ∈ lw_all := lw_g (lw_at lw_m7 165 rfl) rfl
theorem q1681 : (Jvm.Cond.superclass "java/lang/IllegalStateException" "java/lang/RuntimeException") ∈ lw_all := lw_g (lw_at lw_m7 166 rfl) rfl
theorem q2460 : (Jvm.Cond.castable "java/lang/IllegalStateException" "java/lang/Object") ∈ lw_tbl := lw_at lw_m10 225 rfl
theorem in_J25 : ∀ w ∈ wsJ250, w ∈ lw_all := lw_in wsJ250 [1671, 1672, 1673, 1674, 1675, 1680] (by decide +kernel) (by decide +kernel)
/-! java/lang/StringIndexOutOfBoundsException -/
def RJ26 : String := "java/lang/StringIndexOutOfBoundsException"
def TJ26 : u_T := fun k => match k with
  | 0 => ("java/lang/Throwable", "backtrace", "Ljava/lang/Object;", false)
  | 1 => ("java/lang/Throwable", "detailMessage", "Ljava/lang/String;", false)
  | 2 => ("java/lang/Throwable", "cause", "Ljava/lang/Throwable;", false)
  | 3 => ("java/lang/Throwable", "stackTrace", "[Ljava/lang/StackTraceElement;", false)
  | 4 => ("java/lang/Throwable", "depth", "I", false)
  | _ => ("java/lang/Throwable", "suppressedExceptions", "Ljava/util/List;", false)
def tyJ26 : Nat → FieldType := fun k => match k with
  | 0 => .object "java/lang/Object"
  | 1 => .object "java/lang/String"
  | 2 => .object "java/lang/Throwable"
  | 3 => .array (.object "java/lang/StackTraceElement")
  | 4 => .int
  | _ => .object "java/util/List"
abbrev wsJ260 : List Cond := u_ws RJ26 TJ26 6
theorem nmJ26 : ∀ a, a < 6 → ∀ b, b < 6 → a ≠ b → (TJ26 a).2.1 ≠ (TJ26 b).2.1 := by decide +kernel
theorem tyJ26_ok : ∀ k, k < 6 → parseFieldDescriptor (TJ26 k).2.2.1 = some (tyJ26 k) := by decide +kernel
abbrev cJ26_init : ByteArray := prog_36_method_3_code
def yJ26_init : MethodName := ⟨RJ26, "<init>", "(I)V"⟩
theorem q115 : (Jvm.Cond.initialized "java/lang/StringIndexOutOfBoundsException") ∈ lw_all := lw_g (lw_at lw_m1 40 rfl) rfl
theorem q269 : (Jvm.Cond.selects "java/lang/StringIndexOutOfBoundsException" ({ cls := "java/lang/Throwable", name := "fillInStackTrace", desc := "()Ljava/lang/Throwable;" } : Jvm.MethodName) ({ cls := "java/lang/Throwable", name := "fillInStackTrace", desc := "()Ljava/lang/Throwable;" } : Jvm.MethodName)) ∈ lw_all := lw_g (lw_at lw_m1 194 rfl) rfl
theorem q701 : (Jvm.Cond.selects "java/lang/StringIndexOutOfBoundsException" ({ cls := "java/lang/Object", name := "getClass", desc := "()Ljava/lang/Class;" } : Jvm.MethodName) ({ cls := "java/lang/Object", name := "getClass", desc := "()Ljava/lang/Class;" } : Jvm.MethodName)) ∈ lw_all := lw_g (lw_at lw_m3 146 rfl) rfl
theorem q1786 : (Jvm.Cond.instantiable "java/lang/StringIndexOutOfBoundsException" (6 : Nat)) ∈ lw_all := lw_g (lw_at lw_m8 31 rfl) rfl
theorem q1788 : (Jvm.Cond.instanceMethod ({ cls := "java/lang/StringIndexOutOfBoundsException", name := "<init>", desc := "(I)V" } : Jvm.MethodName)) ∈ lw_all := lw_g (lw_at lw_m8 33 rfl) rfl
theorem q1789 : (Jvm.Cond.code ({ cls := "java/lang/StringIndexOutOfBoundsException", name := "<init>", desc := "(I)V" } : Jvm.MethodName) prog_36_method_3_code (2 : Nat) (Option.none : Option Jvm.ClassFile.FieldType)) ∈ lw_all := lw_g (lw_at lw_m8 34 rfl) rfl
theorem q1790 : (Jvm.Cond.classLink "java/lang/StringIndexOutOfBoundsException" (10 : Nat) "java/lang/StringBuilder") ∈ lw_all := lw_g (lw_at lw_m8 35 rfl) rfl
theorem q1791 : (Jvm.Cond.methodLink "java/lang/StringIndexOutOfBoundsException" (12 : Nat) ({ cls := "java/lang/StringBuilder", name := "<init>", desc := "()V" } : Jvm.MethodName)) ∈ lw_all := lw_g (lw_at lw_m8 36 rfl) rfl
theorem q1792 : (Jvm.Cond.stringRef "java/lang/StringIndexOutOfBoundsException" (13 : Nat) "String index out of range: ") ∈ lw_tbl := lw_at lw_m8 37 rfl
theorem q1793 : (Jvm.Cond.methodLink "java/lang/StringIndexOutOfBoundsException" (15 : Nat) ({ cls := "java/lang/StringBuilder", name := "append", desc := "(Ljava/lang/String;)Ljava/lang/StringBuilder;" } : Jvm.MethodName)) ∈ lw_all := lw_g (lw_at lw_m8 38 rfl) rfl
theorem q1794 : (Jvm.Cond.methodLink "java/lang/StringIndexOutOfBoundsException" (19 : Nat) ({ cls := "java/lang/StringBuilder", name := "append", desc := "(I)Ljava/lang/StringBuilder;" } : Jvm.MethodName)) ∈ lw_all := lw_g (lw_at lw_m8 39 rfl) rfl
theorem q1795 : (Jvm.Cond.methodLink "java/lang/StringIndexOutOfBoundsException" (22 : Nat) ({ cls := "java/lang/StringBuilder", name := "toString", desc := "()Ljava/lang/String;" } : Jvm.MethodName)) ∈ lw_all := lw_g (lw_at lw_m8 40 rfl) rfl
theorem q1796 : (Jvm.Cond.methodLink "java/lang/StringIndexOutOfBoundsException" (7 : Nat) ({ cls := "java/lang/IndexOutOfBoundsException", name := "<init>", desc := "(Ljava/lang/String;)V" } : Jvm.MethodName)) ∈ lw_all := lw_g (lw_at lw_m8 41 rfl) rfl
theorem q1797 : (Jvm.Cond.lays "java/lang/StringIndexOutOfBoundsException" "java/lang/Throwable" "backtrace" "Ljava/lang/Object;") ∈ lw_all := lw_g (lw_at lw_m8 42 rfl) rfl
theorem q1798 : (Jvm.Cond.lays "java/lang/StringIndexOutOfBoundsException" "java/lang/Throwable" "detailMessage" "Ljava/lang/String;") ∈ lw_all := lw_g (lw_at lw_m8 43 rfl) rfl
theorem q1799 : (Jvm.Cond.lays "java/lang/StringIndexOutOfBoundsException" "java/lang/Throwable" "cause" "Ljava/lang/Throwable;") ∈ lw_all := lw_g (lw_at lw_m8 44 rfl) rfl
theorem q1800 : (Jvm.Cond.lays "java/lang/StringIndexOutOfBoundsException" "java/lang/Throwable" "stackTrace" "[Ljava/lang/StackTraceElement;") ∈ lw_all := lw_g (lw_at lw_m8 45 rfl) rfl
theorem q1801 : (Jvm.Cond.lays "java/lang/StringIndexOutOfBoundsException" "java/lang/Throwable" "depth" "I") ∈ lw_all := lw_g (lw_at lw_m8 46 rfl) rfl
theorem q1802 : (Jvm.Cond.lays "java/lang/StringIndexOutOfBoundsException" "java/lang/Throwable" "suppressedExceptions" "Ljava/util/List;") ∈ lw_all := lw_g (lw_at lw_m8 47 rfl) rfl
theorem q1803 : (Jvm.Cond.superclass "java/lang/StringIndexOutOfBoundsException" "java/lang/IndexOutOfBoundsException") ∈ lw_all := lw_g (lw_at lw_m8 48 rfl) rfl
theorem q2441 : (Jvm.Cond.castable "java/lang/StringIndexOutOfBoundsException" "java/lang/IndexOutOfBoundsException") ∈ lw_tbl := lw_at lw_m10 206 rfl
theorem q2463 : (Jvm.Cond.castable "java/lang/StringIndexOutOfBoundsException" "java/lang/Object") ∈ lw_tbl := lw_at lw_m10 228 rfl
theorem in_J26 : ∀ w ∈ wsJ260, w ∈ lw_all := lw_in wsJ260 [1797, 1798, 1799, 1800, 1801, 1802] (by decide +kernel) (by decide +kernel)
/-! java/lang/Object -/
def RJ27 : String := "java/lang/Object"
abbrev cJ27_init : ByteArray := object_method_1_code
def yJ27_init : MethodName := ⟨RJ27, "<init>", "()V"⟩
theorem q122 : (Jvm.Cond.instanceMethod ({ cls := "java/lang/Object", name := "<init>", desc := "()V" } : Jvm.MethodName)) ∈ lw_all := lw_g (lw_at lw_m1 47 rfl) rfl
theorem q123 : (Jvm.Cond.code ({ cls := "java/lang/Object", name := "<init>", desc := "()V" } : Jvm.MethodName) object_method_1_code (1 : Nat) (Option.none : Option Jvm.ClassFile.FieldType)) ∈ lw_all := lw_g (lw_at lw_m1 48 rfl) rfl
theorem q682 : (Jvm.Cond.instanceMethod ({ cls := "java/lang/Object", name := "getClass", desc := "()Ljava/lang/Class;" } : Jvm.MethodName)) ∈ lw_all := lw_g (lw_at lw_m3 127 rfl) rfl
theorem q683 : (Jvm.Cond.sameMethod "java/lang/Object" "java/lang/Object" "getClass" "()Ljava/lang/Class;") ∈ lw_all := lw_g (lw_at lw_m3 128 rfl) rfl
theorem q706 : (Jvm.Cond.native ({ cls := "java/lang/Object", name := "getClass", desc := "()Ljava/lang/Class;" } : Jvm.MethodName)) ∈ lw_all := lw_g (lw_at lw_m3 151 rfl) rfl
theorem q1480 : (Jvm.Cond.native ({ cls := "java/lang/Object", name := "clone", desc := "()Ljava/lang/Object;" } : Jvm.MethodName)) ∈ lw_all := lw_g (lw_at lw_m6 205 rfl) rfl
theorem q1481 : (Jvm.Cond.instanceMethod ({ cls := "java/lang/Object", name := "clone", desc := "()Ljava/lang/Object;" } : Jvm.MethodName)) ∈ lw_all := lw_g (lw_at lw_m6 206 rfl) rfl
theorem q2439 : (Jvm.Cond.initialized "java/lang/Object") ∈ lw_all := lw_g (lw_at lw_m10 204 rfl) rfl
theorem q2467 : (Jvm.Cond.declares ({ cls := "java/lang/Object", name := "getClass", desc := "()Ljava/lang/Class;" } : Jvm.MethodName)) ∈ lw_tbl := lw_at lw_m10 232 rfl
theorem q2474 : (Jvm.Cond.instantiable "java/lang/Object" (0 : Nat)) ∈ lw_all := lw_g (lw_at lw_m10 239 rfl) rfl
/-! java/util/ArrayList$Itr -/
def RJ3 : String := "java/util/ArrayList$Itr"
def TJ3 : u_T := fun k => match k with
  | 0 => ("java/util/ArrayList$Itr", "cursor", "I", false)
  | 1 => ("java/util/ArrayList$Itr", "lastRet", "I", false)
  | 2 => ("java/util/ArrayList$Itr", "expectedModCount", "I", false)
  | _ => ("java/util/ArrayList$Itr", "this$0", "Ljava/util/ArrayList;", true)
def tyJ3 : Nat → FieldType := fun k => match k with
  | 0 => .int
  | 1 => .int
  | 2 => .int
  | _ => .object "java/util/ArrayList"
abbrev wsJ30 : List Cond := u_ws RJ3 TJ3 4
theorem nmJ3 : ∀ a, a < 4 → ∀ b, b < 4 → a ≠ b → (TJ3 a).2.1 ≠ (TJ3 b).2.1 := by decide +kernel
theorem tyJ3_ok : ∀ k, k < 4 → parseFieldDescriptor (TJ3 k).2.2.1 = some (tyJ3 k) := by decide +kernel
abbrev cJ3_init : ByteArray := prog_47_method_1_code
def yJ3_init : MethodName := ⟨RJ3, "<init>", "(Ljava/util/ArrayList;)V"⟩
abbrev cJ3_hasNext : ByteArray := prog_47_method_2_code
def yJ3_hasNext : MethodName := ⟨RJ3, "hasNext", "()Z"⟩
abbrev cJ3_next : ByteArray := prog_47_method_3_code
def yJ3_next : MethodName := ⟨RJ3, "next", "()Ljava/lang/Object;"⟩
abbrev cJ3_checkForComodification : ByteArray := prog_47_method_6_code
def yJ3_checkForComodification : MethodName := ⟨RJ3, "checkForComodification", "()V"⟩
theorem q81 : (Jvm.Cond.initialized "java/util/ArrayList$Itr") ∈ lw_all := lw_g (lw_at lw_m1 6 rfl) rfl
theorem q145 : (Jvm.Cond.fieldLink "java/util/ArrayList$Itr" (37 : Nat) "java/util/ArrayList" "elementData" "[Ljava/lang/Object;") ∈ lw_all := lw_g (lw_at lw_m1 70 rfl) rfl
theorem q146 : (Jvm.Cond.fieldLinkNest "java/util/ArrayList$Itr" (28 : Nat) "java/util/ArrayList" "size" "I" "java/util/ArrayList") ∈ lw_tbl := lw_at lw_m1 71 rfl
theorem q149 : (Jvm.Cond.fieldLink "java/util/ArrayList$Itr" (17 : Nat) "java/util/ArrayList" "modCount" "I") ∈ lw_all := lw_g (lw_at lw_m1 74 rfl) rfl
theorem q187 : (Jvm.Cond.instantiable "java/util/ArrayList$Itr" (4 : Nat)) ∈ lw_all := lw_g (lw_at lw_m1 112 rfl) rfl
theorem q189 : (Jvm.Cond.instanceMethod ({ cls := "java/util/ArrayList$Itr", name := "<init>", desc := "(Ljava/util/ArrayList;)V" } : Jvm.MethodName)) ∈ lw_all := lw_g (lw_at lw_m1 114 rfl) rfl
theorem q190 : (Jvm.Cond.code ({ cls := "java/util/ArrayList$Itr", name := "<init>", desc := "(Ljava/util/ArrayList;)V" } : Jvm.MethodName) prog_47_method_1_code (2 : Nat) (Option.none : Option Jvm.ClassFile.FieldType)) ∈ lw_all := lw_g (lw_at lw_m1 115 rfl) rfl
theorem q191 : (Jvm.Cond.methodLink "java/util/ArrayList$Itr" (7 : Nat) ({ cls := "java/lang/Object", name := "<init>", desc := "()V" } : Jvm.MethodName)) ∈ lw_all := lw_g (lw_at lw_m1 116 rfl) rfl
theorem q192 : (Jvm.Cond.fieldLink "java/util/ArrayList$Itr" (25 : Nat) "java/util/ArrayList$Itr" "cursor" "I") ∈ lw_all := lw_g (lw_at lw_m1 117 rfl) rfl
theorem q193 : (Jvm.Cond.fieldLink "java/util/ArrayList$Itr" (13 : Nat) "java/util/ArrayList$Itr" "lastRet" "I") ∈ lw_all := lw_g (lw_at lw_m1 118 rfl) rfl
theorem q194 : (Jvm.Cond.fieldLink "java/util/ArrayList$Itr" (22 : Nat) "java/util/ArrayList$Itr" "expectedModCount" "I") ∈ lw_all := lw_g (lw_at lw_m1 119 rfl) rfl
theorem q195 : (Jvm.Cond.fieldLink "java/util/ArrayList$Itr" (1 : Nat) "java/util/ArrayList$Itr" "this$0" "Ljava/util/ArrayList;") ∈ lw_all := lw_g (lw_at lw_m1 120 rfl) rfl
theorem q196 : (Jvm.Cond.lays "java/util/ArrayList$Itr" "java/util/ArrayList$Itr" "cursor" "I") ∈ lw_all := lw_g (lw_at lw_m1 121 rfl) rfl
theorem q197 : (Jvm.Cond.soleField "java/util/ArrayList$Itr" "cursor") ∈ lw_all := lw_g (lw_at lw_m1 122 rfl) rfl
theorem q198 : (Jvm.Cond.lays "java/util/ArrayList$Itr" "java/util/ArrayList$Itr" "lastRet" "I") ∈ lw_all := lw_g (lw_at lw_m1 123 rfl) rfl
theorem q199 : (Jvm.Cond.soleField "java/util/ArrayList$Itr" "lastRet") ∈ lw_all := lw_g (lw_at lw_m1 124 rfl) rfl
theorem q200 : (Jvm.Cond.lays "java/util/ArrayList$Itr" "java/util/ArrayList$Itr" "expectedModCount" "I") ∈ lw_all := lw_g (lw_at lw_m1 125 rfl) rfl
theorem q201 : (Jvm.Cond.soleField "java/util/ArrayList$Itr" "expectedModCount") ∈ lw_all := lw_g (lw_at lw_m1 126 rfl) rfl
theorem q202 : (Jvm.Cond.laysFinal "java/util/ArrayList$Itr" "java/util/ArrayList$Itr" "this$0" "Ljava/util/ArrayList;") ∈ lw_all := lw_g (lw_at lw_m1 127 rfl) rfl
theorem q203 : (Jvm.Cond.soleField "java/util/ArrayList$Itr" "this$0") ∈ lw_all := lw_g (lw_at lw_m1 128 rfl) rfl
theorem q204 : (Jvm.Cond.superclass "java/util/ArrayList$Itr" "java/lang/Object") ∈ lw_all := lw_g (lw_at lw_m1 129 rfl) rfl
theorem q209 : (Jvm.Cond.castable "java/util/ArrayList$Itr" "java/util/Iterator") ∈ lw_tbl := lw_at lw_m1 134 rfl
theorem q210 : (Jvm.Cond.selects "java/util/ArrayList$Itr" ({ cls := "java/util/Iterator", name := "hasNext", desc := "()Z" } : Jvm.MethodName) ({ cls := "java/util/ArrayList$Itr", name := "hasNext", desc := "()Z" } : Jvm.MethodName)) ∈ lw_all := lw_g (lw_at lw_m1 135 rfl) rfl
theorem q211 : (Jvm.Cond.unhidden "java/util/ArrayList$Itr" "hasNext" "()Z") ∈ lw_tbl := lw_at lw_m1 136 rfl
theorem q212 : (Jvm.Cond.instanceMethod ({ cls := "java/util/ArrayList$Itr", name := "hasNext", desc := "()Z" } : Jvm.MethodName)) ∈ lw_all := lw_g (lw_at lw_m1 137 rfl) rfl
theorem q213 : (Jvm.Cond.publicMethod ({ cls := "java/util/ArrayList$Itr", name := "hasNext", desc := "()Z" } : Jvm.MethodName)) ∈ lw_tbl := lw_at lw_m1 138 rfl
theorem q214 : (Jvm.Cond.code ({ cls := "java/util/ArrayList$Itr", name := "hasNext", desc := "()Z" } : Jvm.MethodName) prog_47_method_2_code (1 : Nat) (Option.some Jvm.ClassFile.FieldType.boolean)) ∈ lw_all := lw_g (lw_at lw_m1 139 rfl) rfl
theorem q219 : (Jvm.Cond.selects "java/util/ArrayList$Itr" ({ cls := "java/util/Iterator", name := "next", desc := "()Ljava/lang/Object;" } : Jvm.MethodName) ({ cls := "java/util/ArrayList$Itr", name := "next", desc := "()Ljava/lang/Object;" } : Jvm.MethodName)) ∈ lw_all := lw_g (lw_at lw_m1 144 rfl) rfl
theorem q220 : (Jvm.Cond.unhidden "java/util/ArrayList$Itr" "next" "()Ljava/lang/Object;") ∈ lw_tbl := lw_at lw_m1 145 rfl
theorem q221 : (Jvm.Cond.instanceMethod ({ cls := "java/util/ArrayList$Itr", name := "next", desc := "()Ljava/lang/Object;" } : Jvm.MethodName)) ∈ lw_all := lw_g (lw_at lw_m1 146 rfl) rfl
theorem q222 : (Jvm.Cond.publicMethod ({ cls := "java/util/ArrayList$Itr", name := "next", desc := "()Ljava/lang/Object;" } : Jvm.MethodName)) ∈ lw_tbl := lw_at lw_m1 147 rfl
theorem q223 : (Jvm.Cond.code ({ cls := "java/util/ArrayList$Itr", name := "next", desc := "()Ljava/lang/Object;" } : Jvm.MethodName) prog_47_method_3_code (3 : Nat) (Option.some (Jvm.ClassFile.FieldType.object "java/lang/Object"))) ∈ lw_all := lw_g (lw_at lw_m1 148 rfl) rfl
theorem q224 : (Jvm.Cond.methodLink "java/util/ArrayList$Itr" (31 : Nat) ({ cls := "java/util/ArrayList$Itr", name := "checkForComodification", desc := "()V" } : Jvm.MethodName)) ∈ lw_all := lw_g (lw_at lw_m1 149 rfl) rfl
theorem q225 : (Jvm.Cond.instanceMethod ({ cls := "java/util/ArrayList$Itr", name := "checkForComodification", desc := "()V" } : Jvm.MethodName)) ∈ lw_all := lw_g (lw_at lw_m1 150 rfl) rfl
theorem q226 : (Jvm.Cond.selects "java/util/ArrayList$Itr" ({ cls := "java/util/ArrayList$Itr", name := "checkForComodification", desc := "()V" } : Jvm.MethodName) ({ cls := "java/util/ArrayList$Itr", name := "checkForComodification", desc := "()V" } : Jvm.MethodName)) ∈ lw_all := lw_g (lw_at lw_m1 151 rfl) rfl
theorem q227 : (Jvm.Cond.code ({ cls := "java/util/ArrayList$Itr", name := "checkForComodification", desc := "()V" } : Jvm.MethodName) prog_47_method_6_code (1 : Nat) (Option.none : Option Jvm.ClassFile.FieldType)) ∈ lw_all := lw_g (lw_at lw_m1 152 rfl) rfl
theorem q228 : (Jvm.Cond.classLink "java/util/ArrayList$Itr" (34 : Nat) "java/util/NoSuchElementException") ∈ lw_all := lw_g (lw_at lw_m1 153 rfl) rfl
theorem q277 : (Jvm.Cond.methodLink "java/util/ArrayList$Itr" (36 : Nat) ({ cls := "java/util/NoSuchElementException", name := "<init>", desc := "()V" } : Jvm.MethodName)) ∈ lw_all := lw_g (lw_at lw_m1 202 rfl) rfl
theorem q704 : (Jvm.Cond.selects "java/util/ArrayList$Itr" ({ cls := "java/lang/Object", name := "getClass", desc := "()Ljava/lang/Class;" } : Jvm.MethodName) ({ cls := "java/lang/Object", name := "getClass", desc := "()Ljava/lang/Class;" } : Jvm.MethodName)) ∈ lw_all := lw_g (lw_at lw_m3 149 rfl) rfl
theorem q2445 : (Jvm.Cond.castable "java/util/ArrayList$Itr" "java/lang/Object") ∈ lw_tbl := lw_at lw_m10 210 rfl
theorem in_J3 : ∀ w ∈ wsJ30, w ∈ lw_all := lw_in wsJ30 [196, 198, 200, 202] (by decide +kernel) (by decide +kernel)
/-! java/lang/Throwable -/
def RJ4 : String := "java/lang/Throwable"
def TJ4 : u_T := fun k => match k with
  | 0 => ("java/lang/Throwable", "cause", "Ljava/lang/Throwable;", false)
  | 1 => ("java/lang/Throwable", "stackTrace", "[Ljava/lang/StackTraceElement;", false)
  | 2 => ("java/lang/Throwable", "suppressedExceptions", "Ljava/util/List;", false)
  | 3 => ("java/lang/Throwable", "detailMessage", "Ljava/lang/String;", false)
  | _ => ("java/lang/Throwable", "backtrace", "Ljava/lang/Object;", false)
def tyJ4 : Nat → FieldType := fun k => match k with
  | 0 => .object "java/lang/Throwable"
  | 1 => .array (.object "java/lang/StackTraceElement")
  | 2 => .object "java/util/List"
  | 3 => .object "java/lang/String"
  | _ => .object "java/lang/Object"
abbrev wsJ40 : List Cond := u_ws RJ4 TJ4 5
theorem nmJ4 : ∀ a, a < 5 → ∀ b, b < 5 → a ≠ b → (TJ4 a).2.1 ≠ (TJ4 b).2.1 := by decide +kernel
theorem tyJ4_ok : ∀ k, k < 5 → parseFieldDescriptor (TJ4 k).2.2.1 = some (tyJ4 k) := by decide +kernel
abbrev cJ4_init : ByteArray := prog_40_method_1_code
def yJ4_init : MethodName := ⟨RJ4, "<init>", "()V"⟩
abbrev cJ4_init_2 : ByteArray := prog_40_method_2_code
def yJ4_init_2 : MethodName := ⟨RJ4, "<init>", "(Ljava/lang/String;)V"⟩
theorem q82 : (Jvm.Cond.initialized "java/lang/Throwable") ∈ lw_all := lw_g (lw_at lw_m1 7 rfl) rfl
theorem q235 : (Jvm.Cond.declares ({ cls := "java/lang/Throwable", name := "<init>", desc := "()V" } : Jvm.MethodName)) ∈ lw_tbl := lw_at lw_m1 160 rfl
theorem q236 : (Jvm.Cond.declares ({ cls := "java/lang/Throwable", name := "<init>", desc := "(Ljava/lang/String;)V" } : Jvm.MethodName)) ∈ lw_tbl := lw_at lw_m1 161 rfl
theorem q240 : (Jvm.Cond.lays "java/lang/Throwable" "java/lang/Throwable" "cause" "Ljava/lang/Throwable;") ∈ lw_all := lw_g (lw_at lw_m1 165 rfl) rfl
theorem q242 : (Jvm.Cond.lays "java/lang/Throwable" "java/lang/Throwable" "stackTrace" "[Ljava/lang/StackTraceElement;") ∈ lw_all := lw_g (lw_at lw_m1 167 rfl) rfl
theorem q244 : (Jvm.Cond.lays "java/lang/Throwable" "java/lang/Throwable" "suppressedExceptions" "Ljava/util/List;") ∈ lw_all := lw_g (lw_at lw_m1 169 rfl) rfl
theorem q246 : (Jvm.Cond.lays "java/lang/Throwable" "java/lang/Throwable" "detailMessage" "Ljava/lang/String;") ∈ lw_all := lw_g (lw_at lw_m1 171 rfl) rfl
theorem q248 : (Jvm.Cond.lays "java/lang/Throwable" "java/lang/Throwable" "backtrace" "Ljava/lang/Object;") ∈ lw_all := lw_g (lw_at lw_m1 173 rfl) rfl
theorem q249 : (Jvm.Cond.fieldLink "java/lang/Throwable" (198 : Nat) "java/lang/Throwable" "backtrace" "Ljava/lang/Object;") ∈ lw_all := lw_g (lw_at lw_m1 174 rfl) rfl
theorem q250 : (Jvm.Cond.superclass "java/lang/Throwable" "java/lang/Object") ∈ lw_all := lw_g (lw_at lw_m1 175 rfl) rfl
theorem q251 : (Jvm.Cond.instanceMethod ({ cls := "java/lang/Throwable", name := "<init>", desc := "()V" } : Jvm.MethodName)) ∈ lw_all := lw_g (lw_at lw_m1 176 rfl) rfl
theorem q252 : (Jvm.Cond.code ({ cls := "java/lang/Throwable", name := "<init>", desc := "()V" } : Jvm.MethodName) prog_40_method_1_code (1 : Nat) (Option.none : Option Jvm.ClassFile.FieldType)) ∈ lw_all := lw_g (lw_at lw_m1 177 rfl) rfl
theorem q253 : (Jvm.Cond.methodLink "java/lang/Throwable" (1 : Nat) ({ cls := "java/lang/Object", name := "<init>", desc := "()V" } : Jvm.MethodName)) ∈ lw_all := lw_g (lw_at lw_m1 178 rfl) rfl
theorem q254 : (Jvm.Cond.fieldLink "java/lang/Throwable" (13 : Nat) "java/lang/Throwable" "UNASSIGNED_STACK" "[Ljava/lang/StackTraceElement;") ∈ lw_all := lw_g (lw_at lw_m1 179 rfl) rfl
theorem q255 : (Jvm.Cond.laysStatic "java/lang/Throwable" "UNASSIGNED_STACK" "[Ljava/lang/StackTraceElement;") ∈ lw_tbl := lw_at lw_m1 180 rfl
theorem q256 : (Jvm.Cond.fieldLink "java/lang/Throwable" (20 : Nat) "java/lang/Throwable" "SUPPRESSED_SENTINEL" "Ljava/util/List;") ∈ lw_all := lw_g (lw_at lw_m1 181 rfl) rfl
theorem q257 : (Jvm.Cond.laysStatic "java/lang/Throwable" "SUPPRESSED_SENTINEL" "Ljava/util/List;") ∈ lw_tbl := lw_at lw_m1 182 rfl
theorem q258 : (Jvm.Cond.methodLink "java/lang/Throwable" (27 : Nat) ({ cls := "java/lang/Throwable", name := "fillInStackTrace", desc := "()Ljava/lang/Throwable;" } : Jvm.MethodName)) ∈ lw_all := lw_g (lw_at lw_m1 183 rfl) rfl
theorem q259 : (Jvm.Cond.instanceMethod ({ cls := "java/lang/Throwable", name := "fillInStackTrace", desc := "()Ljava/lang/Throwable;" } : Jvm.MethodName)) ∈ lw_all := lw_g (lw_at lw_m1 184 rfl) rfl
theorem q260 : (Jvm.Cond.sameMethod "java/lang/Throwable" "java/lang/Throwable" "fillInStackTrace" "()Ljava/lang/Throwable;") ∈ lw_all := lw_g (lw_at lw_m1 185 rfl) rfl
theorem q271 : (Jvm.Cond.codeSync ({ cls := "java/lang/Throwable", name := "fillInStackTrace", desc := "()Ljava/lang/Throwable;" } : Jvm.MethodName) prog_40_method_18_code (1 : Nat) (Option.some (Jvm.ClassFile.FieldType.object "java/lang/Throwable"))) ∈ lw_all := lw_g (lw_at lw_m1 196 rfl) rfl
theorem q272 : (Jvm.Cond.methodLink "java/lang/Throwable" (202 : Nat) ({ cls := "java/lang/Throwable", name := "fillInStackTrace", desc := "(I)Ljava/lang/Throwable;" } : Jvm.MethodName)) ∈ lw_all := lw_g (lw_at lw_m1 197 rfl) rfl
theorem q273 : (Jvm.Cond.privateMethod ({ cls := "java/lang/Throwable", name := "fillInStackTrace", desc := "(I)Ljava/lang/Throwable;" } : Jvm.MethodName)) ∈ lw_tbl := lw_at lw_m1 198 rfl
theorem q274 : (Jvm.Cond.instanceMethod ({ cls := "java/lang/Throwable", name := "fillInStackTrace", desc := "(I)Ljava/lang/Throwable;" } : Jvm.MethodName)) ∈ lw_all := lw_g (lw_at lw_m1 199 rfl) rfl
theorem q275 : (Jvm.Cond.instantiable "java/lang/Throwable" (6 : Nat)) ∈ lw_all := lw_g (lw_at lw_m1 200 rfl) rfl
theorem q276 : (Jvm.Cond.native ({ cls := "java/lang/Throwable", name := "fillInStackTrace", desc := "(I)Ljava/lang/Throwable;" } : Jvm.MethodName)) ∈ lw_all := lw_g (lw_at lw_m1 201 rfl) rfl
theorem q287 : (Jvm.Cond.fieldLink "java/lang/Throwable" (198 : Nat) "java/lang/Throwable" "backtrace" "Ljava/lang/Object;") ∈ lw_all := lw_g (lw_at lw_m1 212 rfl) rfl
theorem q288 : (Jvm.Cond.fieldLink "java/lang/Throwable" (31 : Nat) "java/lang/Throwable" "detailMessage" "Ljava/lang/String;") ∈ lw_all := lw_g (lw_at lw_m1 213 rfl) rfl
theorem q289 : (Jvm.Cond.fieldLink "java/lang/Throwable" (7 : Nat) "java/lang/Throwable" "cause" "Ljava/lang/Throwable;") ∈ lw_all := lw_g (lw_at lw_m1 214 rfl) rfl
theorem q290 : (Jvm.Cond.fieldLink "java/lang/Throwable" (17 : Nat) "java/lang/Throwable" "stackTrace" "[Ljava/lang/StackTraceElement;") ∈ lw_all := lw_g (lw_at lw_m1 215 rfl) rfl
theorem q291 : (Jvm.Cond.fieldLink "java/lang/Throwable" (24 : Nat) "java/lang/Throwable" "suppressedExceptions" "Ljava/util/List;") ∈ lw_all := lw_g (lw_at lw_m1 216 rfl) rfl
theorem q292 : (Jvm.Cond.soleField "java/lang/Throwable" "backtrace") ∈ lw_all := lw_g (lw_at lw_m1 217 rfl) rfl
theorem q293 : (Jvm.Cond.soleField "java/lang/Throwable" "detailMessage") ∈ lw_all := lw_g (lw_at lw_m1 218 rfl) rfl
theorem q294 : (Jvm.Cond.soleField "java/lang/Throwable" "cause") ∈ lw_all := lw_g (lw_at lw_m1 219 rfl) rfl
theorem q295 : (Jvm.Cond.soleField "java/lang/Throwable" "stackTrace") ∈ lw_all := lw_g (lw_at lw_m1 220 rfl) rfl
theorem q297 : (Jvm.Cond.soleField "java/lang/Throwable" "depth") ∈ lw_all := lw_g (lw_at lw_m1 222 rfl) rfl
theorem q298 : (Jvm.Cond.soleField "java/lang/Throwable" "suppressedExceptions") ∈ lw_all := lw_g (lw_at lw_m1 223 rfl) rfl
theorem q1004 : (Jvm.Cond.instanceMethod ({ cls := "java/lang/Throwable", name := "<init>", desc := "(Ljava/lang/String;)V" } : Jvm.MethodName)) ∈ lw_all := lw_g (lw_at lw_m4 209 rfl) rfl
theorem q1005 : (Jvm.Cond.code ({ cls := "java/lang/Throwable", name := "<init>", desc := "(Ljava/lang/String;)V" } : Jvm.MethodName) prog_40_method_2_code (2 : Nat) (Option.none : Option Jvm.ClassFile.FieldType)) ∈ lw_all := lw_g (lw_at lw_m4 210 rfl) rfl
theorem q2427 : (Jvm.Cond.sameMethod "java/lang/Throwable" "java/lang/Throwable" "fillInStackTrace" "(I)Ljava/lang/Throwable;") ∈ lw_all := lw_g (lw_at lw_m10 192 rfl) rfl
theorem q2464 : (Jvm.Cond.castable "java/lang/Throwable" "java/lang/Object") ∈ lw_tbl := lw_at lw_m10 229 rfl
theorem in_J4 : ∀ w ∈ wsJ40, w ∈ lw_all := lw_in wsJ40 [240, 242, 244, 246, 248] (by decide +kernel) (by decide +kernel)
/-! java/lang/Exception -/
def RJ5 : String := "java/lang/Exception"
abbrev cJ5_init : ByteArray := prog_25_method_1_code
def yJ5_init : MethodName := ⟨RJ5, "<init>", "()V"⟩
abbrev cJ5_init_2 : ByteArray := prog_25_method_2_code
def yJ5_init_2 : MethodName := ⟨RJ5, "<init>", "(Ljava/lang/String;)V"⟩
theorem q83 : (Jvm.Cond.initialized "java/lang/Exception") ∈ lw_all := lw_g (lw_at lw_m1 8 rfl) rfl
theorem q233 : (Jvm.Cond.declares ({ cls := "java/lang/Exception", name := "<init>", desc := "()V" } : Jvm.MethodName)) ∈ lw_tbl := lw_at lw_m1 158 rfl
theorem q234 : (Jvm.Cond.declares ({ cls := "java/lang/Exception", name := "<init>", desc := "(Ljava/lang/String;)V" } : Jvm.MethodName)) ∈ lw_tbl := lw_at lw_m1 159 rfl
theorem q284 : (Jvm.Cond.instanceMethod ({ cls := "java/lang/Exception", name := "<init>", desc := "()V" } : Jvm.MethodName)) ∈ lw_all := lw_g (lw_at lw_m1 209 rfl) rfl
theorem q285 : (Jvm.Cond.code ({ cls := "java/lang/Exception", name := "<init>", desc := "()V" } : Jvm.MethodName) prog_25_method_1_code (1 : Nat) (Option.none : Option Jvm.ClassFile.FieldType)) ∈ lw_all := lw_g (lw_at lw_m1 210 rfl) rfl
theorem q286 : (Jvm.Cond.methodLink "java/lang/Exception" (1 : Nat) ({ cls := "java/lang/Throwable", name := "<init>", desc := "()V" } : Jvm.MethodName)) ∈ lw_all := lw_g (lw_at lw_m1 211 rfl) rfl
theorem q1001 : (Jvm.Cond.instanceMethod ({ cls := "java/lang/Exception", name := "<init>", desc := "(Ljava/lang/String;)V" } : Jvm.MethodName)) ∈ lw_all := lw_g (lw_at lw_m4 206 rfl) rfl
theorem q1002 : (Jvm.Cond.code ({ cls := "java/lang/Exception", name := "<init>", desc := "(Ljava/lang/String;)V" } : Jvm.MethodName) prog_25_method_2_code (2 : Nat) (Option.none : Option Jvm.ClassFile.FieldType)) ∈ lw_all := lw_g (lw_at lw_m4 207 rfl) rfl
theorem q1003 : (Jvm.Cond.methodLink "java/lang/Exception" (7 : Nat) ({ cls := "java/lang/Throwable", name := "<init>", desc := "(Ljava/lang/String;)V" } : Jvm.MethodName)) ∈ lw_all := lw_g (lw_at lw_m4 208 rfl) rfl
/-! java/lang/RuntimeException -/
def RJ6 : String := "java/lang/RuntimeException"
abbrev cJ6_init : ByteArray := prog_33_method_1_code
def yJ6_init : MethodName := ⟨RJ6, "<init>", "()V"⟩
abbrev cJ6_init_2 : ByteArray := prog_33_method_2_code
def yJ6_init_2 : MethodName := ⟨RJ6, "<init>", "(Ljava/lang/String;)V"⟩
theorem q84 : (Jvm.Cond.initialized "java/lang/RuntimeException") ∈ lw_all := lw_g (lw_at lw_m1 9 rfl) rfl
theorem q231 : (Jvm.Cond.declares ({ cls := "java/lang/RuntimeException", name := "<init>", desc := "()V" } : Jvm.MethodName)) ∈ lw_tbl := lw_at lw_m1 156 rfl
theorem q232 : (Jvm.Cond.declares ({ cls := "java/lang/RuntimeException", name := "<init>", desc := "(Ljava/lang/String;)V" } : Jvm.MethodName)) ∈ lw_tbl := lw_at lw_m1 157 rfl
theorem q281 : (Jvm.Cond.instanceMethod ({ cls := "java/lang/RuntimeException", name := "<init>", desc := "()V" } : Jvm.MethodName)) ∈ lw_all := lw_g (lw_at lw_m1 206 rfl) rfl
theorem q282 : (Jvm.Cond.code ({ cls := "java/lang/RuntimeException", name := "<init>", desc := "()V" } : Jvm.MethodName) prog_33_method_1_code (1 : Nat) (Option.none : Option Jvm.ClassFile.FieldType)) ∈ lw_all := lw_g (lw_at lw_m1 207 rfl) rfl
theorem q283 : (Jvm.Cond.methodLink "java/lang/RuntimeException" (1 : Nat) ({ cls := "java/lang/Exception", name := "<init>", desc := "()V" } : Jvm.MethodName)) ∈ lw_all := lw_g (lw_at lw_m1 208 rfl) rfl
theorem q998 : (Jvm.Cond.instanceMethod ({ cls := "java/lang/RuntimeException", name := "<init>", desc := "(Ljava/lang/String;)V" } : Jvm.MethodName)) ∈ lw_all := lw_g (lw_at lw_m4 203 rfl) rfl
theorem q999 : (Jvm.Cond.code ({ cls := "java/lang/RuntimeException", name := "<init>", desc := "(Ljava/lang/String;)V" } : Jvm.MethodName) prog_33_method_2_code (2 : Nat) (Option.none : Option Jvm.ClassFile.FieldType)) ∈ lw_all := lw_g (lw_at lw_m4 204 rfl) rfl
theorem q1000 : (Jvm.Cond.methodLink "java/lang/RuntimeException" (7 : Nat) ({ cls := "java/lang/Exception", name := "<init>", desc := "(Ljava/lang/String;)V" } : Jvm.MethodName)) ∈ lw_all := lw_g (lw_at lw_m4 205 rfl) rfl
/-! java/util/NoSuchElementException -/
def RJ7 : String := "java/util/NoSuchElementException"
def TJ7 : u_T := fun k => match k with
  | 0 => ("java/lang/Throwable", "cause", "Ljava/lang/Throwable;", false)
  | 1 => ("java/lang/Throwable", "stackTrace", "[Ljava/lang/StackTraceElement;", false)
  | 2 => ("java/lang/Throwable", "suppressedExceptions", "Ljava/util/List;", false)
  | 3 => ("java/lang/Throwable", "detailMessage", "Ljava/lang/String;", false)
  | 4 => ("java/lang/Throwable", "backtrace", "Ljava/lang/Object;", false)
  | _ => ("java/lang/Throwable", "depth", "I", false)
def tyJ7 : Nat → FieldType := fun k => match k with
  | 0 => .object "java/lang/Throwable"
  | 1 => .array (.object "java/lang/StackTraceElement")
  | 2 => .object "java/util/List"
  | 3 => .object "java/lang/String"
  | 4 => .object "java/lang/Object"
  | _ => .int
abbrev wsJ70 : List Cond := u_ws RJ7 TJ7 6
theorem nmJ7 : ∀ a, a < 6 → ∀ b, b < 6 → a ≠ b → (TJ7 a).2.1 ≠ (TJ7 b).2.1 := by decide +kernel
theorem tyJ7_ok : ∀ k, k < 6 → parseFieldDescriptor (TJ7 k).2.2.1 = some (tyJ7 k) := by decide +kernel
abbrev cJ7_init : ByteArray := prog_52_method_1_code
def yJ7_init : MethodName := ⟨RJ7, "<init>", "()V"⟩
theorem q85 : (Jvm.Cond.initialized "java/util/NoSuchElementException") ∈ lw_all := lw_g (lw_at lw_m1 10 rfl) rfl
theorem q229 : (Jvm.Cond.instantiable "java/util/NoSuchElementException" (6 : Nat)) ∈ lw_all := lw_g (lw_at lw_m1 154 rfl) rfl
theorem q230 : (Jvm.Cond.castable "java/util/NoSuchElementException" "java/util/NoSuchElementException") ∈ lw_tbl := lw_at lw_m1 155 rfl
theorem q237 : (Jvm.Cond.selects "java/util/NoSuchElementException" ({ cls := "java/lang/Throwable", name := "fillInStackTrace", desc := "(I)Ljava/lang/Throwable;" } : Jvm.MethodName) ({ cls := "java/lang/Throwable", name := "fillInStackTrace", desc := "(I)Ljava/lang/Throwable;" } : Jvm.MethodName)) ∈ lw_all := lw_g (lw_at lw_m1 162 rfl) rfl
theorem q238 : (Jvm.Cond.selects "java/util/NoSuchElementException" ({ cls := "java/lang/Throwable", name := "fillInStackTrace", desc := "()Ljava/lang/Throwable;" } : Jvm.MethodName) ({ cls := "java/lang/Throwable", name := "fillInStackTrace", desc := "()Ljava/lang/Throwable;" } : Jvm.MethodName)) ∈ lw_all := lw_g (lw_at lw_m1 163 rfl) rfl
theorem q239 : (Jvm.Cond.lays "java/util/NoSuchElementException" "java/lang/Throwable" "cause" "Ljava/lang/Throwable;") ∈ lw_all := lw_g (lw_at lw_m1 164 rfl) rfl
theorem q241 : (Jvm.Cond.lays "java/util/NoSuchElementException" "java/lang/Throwable" "stackTrace" "[Ljava/lang/StackTraceElement;") ∈ lw_all := lw_g (lw_at lw_m1 166 rfl) rfl
theorem q243 : (Jvm.Cond.lays "java/util/NoSuchElementException" "java/lang/Throwable" "suppressedExceptions" "Ljava/util/List;") ∈ lw_all := lw_g (lw_at lw_m1 168 rfl) rfl
theorem q245 : (Jvm.Cond.lays "java/util/NoSuchElementException" "java/lang/Throwable" "detailMessage" "Ljava/lang/String;") ∈ lw_all := lw_g (lw_at lw_m1 170 rfl) rfl
theorem q247 : (Jvm.Cond.lays "java/util/NoSuchElementException" "java/lang/Throwable" "backtrace" "Ljava/lang/Object;") ∈ lw_all := lw_g (lw_at lw_m1 172 rfl) rfl
theorem q278 : (Jvm.Cond.instanceMethod ({ cls := "java/util/NoSuchElementException", name := "<init>", desc := "()V" } : Jvm.MethodName)) ∈ lw_all := lw_g (lw_at lw_m1 203 rfl) rfl
theorem q279 : (Jvm.Cond.code ({ cls := "java/util/NoSuchElementException", name := "<init>", desc := "()V" } : Jvm.MethodName) prog_52_method_1_code (1 : Nat) (Option.none : Option Jvm.ClassFile.FieldType)) ∈ lw_all := lw_g (lw_at lw_m1 204 rfl) rfl
theorem q280 : (Jvm.Cond.methodLink "java/util/NoSuchElementException" (1 : Nat) ({ cls := "java/lang/RuntimeException", name := "<init>", desc := "()V" } : Jvm.MethodName)) ∈ lw_all := lw_g (lw_at lw_m1 205 rfl) rfl
theorem q296 : (Jvm.Cond.lays "java/util/NoSuchElementException" "java/lang/Throwable" "depth" "I") ∈ lw_all := lw_g (lw_at lw_m1 221 rfl) rfl
theorem q299 : (Jvm.Cond.superclass "java/util/NoSuchElementException" "java/lang/RuntimeException") ∈ lw_all := lw_g (lw_at lw_m1 224 rfl) rfl
theorem q705 : (Jvm.Cond.selects "java/util/NoSuchElementException" ({ cls := "java/lang/Object", name := "getClass", desc := "()Ljava/lang/Class;" } : Jvm.MethodName) ({ cls := "java/lang/Object", name := "getClass", desc := "()Ljava/lang/Class;" } : Jvm.MethodName)) ∈ lw_all := lw_g (lw_at lw_m3 150 rfl) rfl
theorem q2446 : (Jvm.Cond.castable "java/util/NoSuchElementException" "java/lang/Object") ∈ lw_tbl := lw_at lw_m10 211 rfl
theorem in_J7 : ∀ w ∈ wsJ70, w ∈ lw_all := lw_in wsJ70 [239, 241, 243, 245, 247, 296] (by decide +kernel) (by decide +kernel)
/-! java/lang/AbstractStringBuilder -/
def RJ8 : String := "java/lang/AbstractStringBuilder"
abbrev cJ8_init : ByteArray := prog_17_method_2_code
def yJ8_init : MethodName := ⟨RJ8, "<init>", "(I)V"⟩
abbrev cJ8_append : ByteArray := prog_17_method_32_code
def yJ8_append : MethodName := ⟨RJ8, "append", "(I)Ljava/lang/AbstractStringBuilder;"⟩
abbrev cJ8_ensureCapacityInternal : ByteArray := prog_17_method_9_code
def yJ8_ensureCapacityInternal : MethodName := ⟨RJ8, "ensureCapacityInternal", "(I)V"⟩
abbrev cJ8_newCapacity : ByteArray := prog_17_method_10_code
def yJ8_newCapacity : MethodName := ⟨RJ8, "newCapacity", "(I)I"⟩
abbrev cJ8_isLatin1 : ByteArray := prog_17_method_68_code
def yJ8_isLatin1 : MethodName := ⟨RJ8, "isLatin1", "()Z"⟩
abbrev cJ8_append_2 : ByteArray := prog_17_method_22_code
def yJ8_append_2 : MethodName := ⟨RJ8, "append", "(Ljava/lang/String;)Ljava/lang/AbstractStringBuilder;"⟩
abbrev cJ8_appendNull : ByteArray := prog_17_method_26_code
def yJ8_appendNull : MethodName := ⟨RJ8, "appendNull", "()Ljava/lang/AbstractStringBuilder;"⟩
abbrev cJ8_putStringAt : ByteArray := prog_17_method_73_code
def yJ8_putStringAt : MethodName := ⟨RJ8, "putStringAt", "(ILjava/lang/String;)V"⟩
abbrev cJ8_inflateIfNeededFor : ByteArray := prog_17_method_71_code
def yJ8_inflateIfNeededFor : MethodName := ⟨RJ8, "inflateIfNeededFor", "(Ljava/lang/String;)V"⟩
abbrev cJ8_inflate : ByteArray := prog_17_method_11_code
def yJ8_inflate : MethodName := ⟨RJ8, "inflate", "()V"⟩
abbrev cJ8_append_3 : ByteArray := prog_17_method_31_code
def yJ8_append_3 : MethodName := ⟨RJ8, "append", "(C)Ljava/lang/AbstractStringBuilder;"⟩
abbrev cJ8_getValue : ByteArray := prog_17_method_64_code
def yJ8_getValue : MethodName := ⟨RJ8, "getValue", "()[B"⟩
abbrev cJ8_length : ByteArray := prog_17_method_6_code
def yJ8_length : MethodName := ⟨RJ8, "length", "()I"⟩
abbrev cJ8_setLength : ByteArray := prog_17_method_13_code
def yJ8_setLength : MethodName := ⟨RJ8, "setLength", "(I)V"⟩
theorem q86 : (Jvm.Cond.initialized "java/lang/AbstractStringBuilder") ∈ lw_all := lw_g (lw_at lw_m1 11 rfl) rfl
theorem q361 : (Jvm.Cond.instanceMethod ({ cls := "java/lang/AbstractStringBuilder", name := "<init>", desc := "(I)V" } : Jvm.MethodName)) ∈ lw_all := lw_g (lw_at lw_m2 46 rfl) rfl
theorem q362 : (Jvm.Cond.code ({ cls := "java/lang/AbstractStringBuilder", name := "<init>", desc := "(I)V" } : Jvm.MethodName) prog_17_method_2_code (2 : Nat) (Option.none : Option Jvm.ClassFile.FieldType)) ∈ lw_all := lw_g (lw_at lw_m2 47 rfl) rfl
theorem q363 : (Jvm.Cond.methodLink "java/lang/AbstractStringBuilder" (3 : Nat) ({ cls := "java/lang/Object", name := "<init>", desc := "()V" } : Jvm.MethodName)) ∈ lw_all := lw_g (lw_at lw_m2 48 rfl) rfl
theorem q364 : (Jvm.Cond.fieldLink "java/lang/AbstractStringBuilder" (18 : Nat) "java/lang/String" "COMPACT_STRINGS" "Z") ∈ lw_all := lw_g (lw_at lw_m2 49 rfl) rfl
theorem q366 : (Jvm.Cond.methodLink "java/lang/AbstractStringBuilder" (26 : Nat) ({ cls := "java/lang/StringUTF16", name := "newBytesFor", desc := "(I)[B" } : Jvm.MethodName)) ∈ lw_all := lw_g (lw_at lw_m2 51 rfl) rfl
theorem q373 : (Jvm.Cond.fieldLink "java/lang/AbstractStringBuilder" (15 : Nat) "java/lang/AbstractStringBuilder" "value" "[B") ∈ lw_all := lw_g (lw_at lw_m2 58 rfl) rfl
theorem q374 : (Jvm.Cond.fieldLink "java/lang/AbstractStringBuilder" (22 : Nat) "java/lang/AbstractStringBuilder" "coder" "B") ∈ lw_all := lw_g (lw_at lw_m2 59 rfl) rfl
theorem q375 : (Jvm.Cond.fieldLink "java/lang/AbstractStringBuilder" (73 : Nat) "java/lang/AbstractStringBuilder" "maybeLatin1" "Z") ∈ lw_all := lw_g (lw_at lw_m2 60 rfl) rfl
theorem q377 : (Jvm.Cond.fieldLink "java/lang/AbstractStringBuilder" (79 : Nat) "java/lang/AbstractStringBuilder" "count" "I") ∈ lw_all := lw_g (lw_at lw_m2 62 rfl) rfl
theorem q379 : (Jvm.Cond.soleField "java/lang/AbstractStringBuilder" "value") ∈ lw_all := lw_g (lw_at lw_m2 64 rfl) rfl
theorem q381 : (Jvm.Cond.soleField "java/lang/AbstractStringBuilder" "coder") ∈ lw_all := lw_g (lw_at lw_m2 66 rfl) rfl
theorem q383 : (Jvm.Cond.soleField "java/lang/AbstractStringBuilder" "maybeLatin1") ∈ lw_all := lw_g (lw_at lw_m2 68 rfl) rfl
theorem q385 : (Jvm.Cond.soleField "java/lang/AbstractStringBuilder" "count") ∈ lw_all := lw_g (lw_at lw_m2 70 rfl) rfl
theorem q1460 : (Jvm.Cond.instanceMethod ({ cls := "java/lang/AbstractStringBuilder", name := "append", desc := "(I)Ljava/lang/AbstractStringBuilder;" } : Jvm.MethodName)) ∈ lw_all := lw_g (lw_at lw_m6 185 rfl) rfl
theorem q1461 : (Jvm.Cond.code ({ cls := "java/lang/AbstractStringBuilder", name := "append", desc := "(I)Ljava/lang/AbstractStringBuilder;" } : Jvm.MethodName) prog_17_method_32_code (4 : Nat) (Option.some (Jvm.ClassFile.FieldType.object "java/lang/AbstractStringBuilder"))) ∈ lw_all := lw_g (lw_at lw_m6 186 rfl) rfl
theorem q1462 : (Jvm.Cond.methodLink "java/lang/AbstractStringBuilder" (245 : Nat) ({ cls := "java/lang/Integer", name := "stringSize", desc := "(I)I" } : Jvm.MethodName)) ∈ lw_all := lw_g (lw_at lw_m6 187 rfl) rfl
theorem q1465 : (Jvm.Cond.methodLink "java/lang/AbstractStringBuilder" (100 : Nat) ({ cls := "java/lang/AbstractStringBuilder", name := "ensureCapacityInternal", desc := "(I)V" } : Jvm.MethodName)) ∈ lw_all := lw_g (lw_at lw_m6 190 rfl) rfl
theorem q1466 : (Jvm.Cond.privateMethod ({ cls := "java/lang/AbstractStringBuilder", name := "ensureCapacityInternal", desc := "(I)V" } : Jvm.MethodName)) ∈ lw_tbl := lw_at lw_m6 191 rfl
theorem q1467 : (Jvm.Cond.instanceMethod ({ cls := "java/lang/AbstractStringBuilder", name := "ensureCapacityInternal", desc := "(I)V" } : Jvm.MethodName)) ∈ lw_all := lw_g (lw_at lw_m6 192 rfl) rfl
theorem q1468 : (Jvm.Cond.code ({ cls := "java/lang/AbstractStringBuilder", name := "ensureCapacityInternal", desc := "(I)V" } : Jvm.MethodName) prog_17_method_9_code (3 : Nat) (Option.none : Option Jvm.ClassFile.FieldType)) ∈ lw_all := lw_g (lw_at lw_m6 193 rfl) rfl
theorem q1469 : (Jvm.Cond.methodLink "java/lang/AbstractStringBuilder" (104 : Nat) ({ cls := "java/lang/AbstractStringBuilder", name := "newCapacity", desc := "(I)I" } : Jvm.MethodName)) ∈ lw_all := lw_g (lw_at lw_m6 194 rfl) rfl
theorem q1470 : (Jvm.Cond.privateMethod ({ cls := "java/lang/AbstractStringBuilder", name := "newCapacity", desc := "(I)I" } : Jvm.MethodName)) ∈ lw_tbl := lw_at lw_m6 195 rfl
theorem q1471 : (Jvm.Cond.instanceMethod ({ cls := "java/lang/AbstractStringBuilder", name := "newCapacity", desc := "(I)I" } : Jvm.MethodName)) ∈ lw_all := lw_g (lw_at lw_m6 196 rfl) rfl
theorem q1472 : (Jvm.Cond.code ({ cls := "java/lang/AbstractStringBuilder", name := "newCapacity", desc := "(I)I" } : Jvm.MethodName) prog_17_method_10_code (6 : Nat) (Option.some Jvm.ClassFile.FieldType.int)) ∈ lw_all := lw_g (lw_at lw_m6 197 rfl) rfl
theorem q1473 : (Jvm.Cond.methodLink "java/lang/AbstractStringBuilder" (114 : Nat) ({ cls := "jdk/internal/util/ArraysSupport", name := "newLength", desc := "(III)I" } : Jvm.MethodName)) ∈ lw_all := lw_g (lw_at lw_m6 198 rfl) rfl
theorem q1474 : (Jvm.Cond.constant "java/lang/AbstractStringBuilder" (39 : Nat) (2147483647 : Int32)) ∈ lw_all := lw_g (lw_at lw_m6 199 rfl) rfl
theorem q1475 : (Jvm.Cond.methodLink "java/lang/AbstractStringBuilder" (108 : Nat) ({ cls := "java/util/Arrays", name := "copyOf", desc := "([BI)[B" } : Jvm.MethodName)) ∈ lw_all := lw_g (lw_at lw_m6 200 rfl) rfl
theorem q1485 : (Jvm.Cond.methodLink "java/lang/AbstractStringBuilder" (83 : Nat) ({ cls := "java/lang/AbstractStringBuilder", name := "isLatin1", desc := "()Z" } : Jvm.MethodName)) ∈ lw_all := lw_g (lw_at lw_m6 210 rfl) rfl
theorem q1486 : (Jvm.Cond.instanceMethod ({ cls := "java/lang/AbstractStringBuilder", name := "isLatin1", desc := "()Z" } : Jvm.MethodName)) ∈ lw_all := lw_g (lw_at lw_m6 211 rfl) rfl
theorem q1487 : (Jvm.Cond.sameMethod "java/lang/AbstractStringBuilder" "java/lang/AbstractStringBuilder" "isLatin1" "()Z") ∈ lw_all := lw_g (lw_at lw_m6 212 rfl) rfl
theorem q1489 : (Jvm.Cond.code ({ cls := "java/lang/AbstractStringBuilder", name := "isLatin1", desc := "()Z" } : Jvm.MethodName) prog_17_method_68_code (1 : Nat) (Option.some Jvm.ClassFile.FieldType.boolean)) ∈ lw_all := lw_g (lw_at lw_m6 214 rfl) rfl
theorem q1490 : (Jvm.Cond.methodLink "java/lang/AbstractStringBuilder" (248 : Nat) ({ cls := "java/lang/Integer", name := "getChars", desc := "(II[B)I" } : Jvm.MethodName)) ∈ lw_all := lw_g (lw_at lw_m6 215 rfl) rfl
theorem q1497 : (Jvm.Cond.methodLink "java/lang/AbstractStringBuilder" (251 : Nat) ({ cls := "java/lang/StringUTF16", name := "getChars", desc := "(III[B)I" } : Jvm.MethodName)) ∈ lw_all := lw_g (lw_at lw_m6 222 rfl) rfl
theorem q1514 : (Jvm.Cond.instanceMethod ({ cls := "java/lang/AbstractStringBuilder", name := "append", desc := "(Ljava/lang/String;)Ljava/lang/AbstractStringBuilder;" } : Jvm.MethodName)) ∈ lw_all := lw_g (lw_at lw_m6 239 rfl) rfl
theorem q1515 : (Jvm.Cond.code ({ cls := "java/lang/AbstractStringBuilder", name := "append", desc := "(Ljava/lang/String;)Ljava/lang/AbstractStringBuilder;" } : Jvm.MethodName) prog_17_method_22_code (3 : Nat) (Option.some (Jvm.ClassFile.FieldType.object "java/lang/AbstractStringBuilder"))) ∈ lw_all := lw_g (lw_at lw_m7 0 rfl) rfl
theorem q1516 : (Jvm.Cond.methodLink "java/lang/AbstractStringBuilder" (204 : Nat) ({ cls := "java/lang/AbstractStringBuilder", name := "appendNull", desc := "()Ljava/lang/AbstractStringBuilder;" } : Jvm.MethodName)) ∈ lw_all := lw_g (lw_at lw_m7 1 rfl) rfl
theorem q1517 : (Jvm.Cond.privateMethod ({ cls := "java/lang/AbstractStringBuilder", name := "appendNull", desc := "()Ljava/lang/AbstractStringBuilder;" } : Jvm.MethodName)) ∈ lw_tbl := lw_at lw_m7 2 rfl
theorem q1518 : (Jvm.Cond.instanceMethod ({ cls := "java/lang/AbstractStringBuilder", name := "appendNull", desc := "()Ljava/lang/AbstractStringBuilder;" } : Jvm.MethodName)) ∈ lw_all := lw_g (lw_at lw_m7 3 rfl) rfl
theorem q1519 : (Jvm.Cond.code ({ cls := "java/lang/AbstractStringBuilder", name := "appendNull", desc := "()Ljava/lang/AbstractStringBuilder;" } : Jvm.MethodName) prog_17_method_26_code (3 : Nat) (Option.some (Jvm.ClassFile.FieldType.object "java/lang/AbstractStringBuilder"))) ∈ lw_all := lw_g (lw_at lw_m7 4 rfl) rfl
theorem q1520 : (Jvm.Cond.methodLink "java/lang/AbstractStringBuilder" (226 : Nat) ({ cls := "java/lang/StringUTF16", name := "putCharsAt", desc := "([BICCCC)I" } : Jvm.MethodName)) ∈ lw_all := lw_g (lw_at lw_m7 5 rfl) rfl
theorem q1523 : (Jvm.Cond.methodLink "java/lang/AbstractStringBuilder" (32 : Nat) ({ cls := "java/lang/String", name := "length", desc := "()I" } : Jvm.MethodName)) ∈ lw_all := lw_g (lw_at lw_m7 8 rfl) rfl
theorem q1524 : (Jvm.Cond.methodLink "java/lang/AbstractStringBuilder" (208 : Nat) ({ cls := "java/lang/AbstractStringBuilder", name := "putStringAt", desc := "(ILjava/lang/String;)V" } : Jvm.MethodName)) ∈ lw_all := lw_g (lw_at lw_m7 9 rfl) rfl
theorem q1525 : (Jvm.Cond.privateMethod ({ cls := "java/lang/AbstractStringBuilder", name := "putStringAt", desc := "(ILjava/lang/String;)V" } : Jvm.MethodName)) ∈ lw_tbl := lw_at lw_m7 10 rfl
theorem q1526 : (Jvm.Cond.instanceMethod ({ cls := "java/lang/AbstractStringBuilder", name := "putStringAt", desc := "(ILjava/lang/String;)V" } : Jvm.MethodName)) ∈ lw_all := lw_g (lw_at lw_m7 11 rfl) rfl
theorem q1527 : (Jvm.Cond.code ({ cls := "java/lang/AbstractStringBuilder", name := "putStringAt", desc := "(ILjava/lang/String;)V" } : Jvm.MethodName) prog_17_method_73_code (3 : Nat) (Option.none : Option Jvm.ClassFile.FieldType)) ∈ lw_all := lw_g (lw_at lw_m7 12 rfl) rfl
theorem q1528 : (Jvm.Cond.methodLink "java/lang/AbstractStringBuilder" (397 : Nat) ({ cls := "java/lang/AbstractStringBuilder", name := "inflateIfNeededFor", desc := "(Ljava/lang/String;)V" } : Jvm.MethodName)) ∈ lw_all := lw_g (lw_at lw_m7 13 rfl) rfl
theorem q1529 : (Jvm.Cond.privateMethod ({ cls := "java/lang/AbstractStringBuilder", name := "inflateIfNeededFor", desc := "(Ljava/lang/String;)V" } : Jvm.MethodName)) ∈ lw_tbl := lw_at lw_m7 14 rfl
theorem q1530 : (Jvm.Cond.instanceMethod ({ cls := "java/lang/AbstractStringBuilder", name := "inflateIfNeededFor", desc := "(Ljava/lang/String;)V" } : Jvm.MethodName)) ∈ lw_all := lw_g (lw_at lw_m7 15 rfl) rfl
theorem q1531 : (Jvm.Cond.code ({ cls := "java/lang/AbstractStringBuilder", name := "inflateIfNeededFor", desc := "(Ljava/lang/String;)V" } : Jvm.MethodName) prog_17_method_71_code (2 : Nat) (Option.none : Option Jvm.ClassFile.FieldType)) ∈ lw_all := lw_g (lw_at lw_m7 16 rfl) rfl
theorem q1532 : (Jvm.Cond.methodLink "java/lang/AbstractStringBuilder" (40 : Nat) ({ cls := "java/lang/String", name := "coder", desc := "()B" } : Jvm.MethodName)) ∈ lw_all := lw_g (lw_at lw_m7 17 rfl) rfl
theorem q1533 : (Jvm.Cond.methodLink "java/lang/AbstractStringBuilder" (195 : Nat) ({ cls := "java/lang/AbstractStringBuilder", name := "inflate", desc := "()V" } : Jvm.MethodName)) ∈ lw_all := lw_g (lw_at lw_m7 18 rfl) rfl
theorem q1534 : (Jvm.Cond.privateMethod ({ cls := "java/lang/AbstractStringBuilder", name := "inflate", desc := "()V" } : Jvm.MethodName)) ∈ lw_tbl := lw_at lw_m7 19 rfl
theorem q1535 : (Jvm.Cond.instanceMethod ({ cls := "java/lang/AbstractStringBuilder", name := "inflate", desc := "()V" } : Jvm.MethodName)) ∈ lw_all := lw_g (lw_at lw_m7 20 rfl) rfl
theorem q1536 : (Jvm.Cond.code ({ cls := "java/lang/AbstractStringBuilder", name := "inflate", desc := "()V" } : Jvm.MethodName) prog_17_method_11_code (2 : Nat) (Option.none : Option Jvm.ClassFile.FieldType)) ∈ lw_all := lw_g (lw_at lw_m7 21 rfl) rfl
theorem q1537 : (Jvm.Cond.methodLink "java/lang/AbstractStringBuilder" (125 : Nat) ({ cls := "java/lang/StringLatin1", name := "inflate", desc := "([BI[BII)V" } : Jvm.MethodName)) ∈ lw_all := lw_g (lw_at lw_m7 22 rfl) rfl
theorem q1552 : (Jvm.Cond.methodLink "java/lang/AbstractStringBuilder" (399 : Nat) ({ cls := "java/lang/String", name := "getBytes", desc := "([BIB)V" } : Jvm.MethodName)) ∈ lw_all := lw_g (lw_at lw_m7 37 rfl) rfl
theorem q1563 : (Jvm.Cond.instanceMethod ({ cls := "java/lang/AbstractStringBuilder", name := "append", desc := "(C)Ljava/lang/AbstractStringBuilder;" } : Jvm.MethodName)) ∈ lw_all := lw_g (lw_at lw_m7 48 rfl) rfl
theorem q1564 : (Jvm.Cond.code ({ cls := "java/lang/AbstractStringBuilder", name := "append", desc := "(C)Ljava/lang/AbstractStringBuilder;" } : Jvm.MethodName) prog_17_method_31_code (2 : Nat) (Option.some (Jvm.ClassFile.FieldType.object "java/lang/AbstractStringBuilder"))) ∈ lw_all := lw_g (lw_at lw_m7 49 rfl) rfl
theorem q1565 : (Jvm.Cond.methodLink "java/lang/AbstractStringBuilder" (191 : Nat) ({ cls := "java/lang/StringLatin1", name := "canEncode", desc := "(C)Z" } : Jvm.MethodName)) ∈ lw_all := lw_g (lw_at lw_m7 50 rfl) rfl
theorem q1568 : (Jvm.Cond.methodLink "java/lang/AbstractStringBuilder" (197 : Nat) ({ cls := "java/lang/StringUTF16", name := "putCharSB", desc := "([BII)V" } : Jvm.MethodName)) ∈ lw_all := lw_g (lw_at lw_m7 53 rfl) rfl
theorem q1591 : (Jvm.Cond.instanceMethod ({ cls := "java/lang/AbstractStringBuilder", name := "getValue", desc := "()[B" } : Jvm.MethodName)) ∈ lw_all := lw_g (lw_at lw_m7 76 rfl) rfl
theorem q1592 : (Jvm.Cond.sameMethod "java/lang/AbstractStringBuilder" "java/lang/AbstractStringBuilder" "getValue" "()[B") ∈ lw_all := lw_g (lw_at lw_m7 77 rfl) rfl
theorem q1594 : (Jvm.Cond.code ({ cls := "java/lang/AbstractStringBuilder", name := "getValue", desc := "()[B" } : Jvm.MethodName) prog_17_method_64_code (1 : Nat) (Option.some (Jvm.ClassFile.FieldType.array Jvm.ClassFile.FieldType.byte))) ∈ lw_all := lw_g (lw_at lw_m7 79 rfl) rfl
theorem q1596 : (Jvm.Cond.instanceMethod ({ cls := "java/lang/AbstractStringBuilder", name := "length", desc := "()I" } : Jvm.MethodName)) ∈ lw_all := lw_g (lw_at lw_m7 81 rfl) rfl
theorem q1597 : (Jvm.Cond.sameMethod "java/lang/AbstractStringBuilder" "java/lang/AbstractStringBuilder" "length" "()I") ∈ lw_all := lw_g (lw_at lw_m7 82 rfl) rfl
theorem q1602 : (Jvm.Cond.code ({ cls := "java/lang/AbstractStringBuilder", name := "length", desc := "()I" } : Jvm.MethodName) prog_17_method_6_code (1 : Nat) (Option.some Jvm.ClassFile.FieldType.int)) ∈ lw_all := lw_g (lw_at lw_m7 87 rfl) rfl
theorem q1783 : (Jvm.Cond.instanceMethod ({ cls := "java/lang/AbstractStringBuilder", name := "setLength", desc := "(I)V" } : Jvm.MethodName)) ∈ lw_all := lw_g (lw_at lw_m8 28 rfl) rfl
theorem q1784 : (Jvm.Cond.code ({ cls := "java/lang/AbstractStringBuilder", name := "setLength", desc := "(I)V" } : Jvm.MethodName) prog_17_method_13_code (2 : Nat) (Option.none : Option Jvm.ClassFile.FieldType)) ∈ lw_all := lw_g (lw_at lw_m8 29 rfl) rfl
theorem q1785 : (Jvm.Cond.classLink "java/lang/AbstractStringBuilder" (129 : Nat) "java/lang/StringIndexOutOfBoundsException") ∈ lw_all := lw_g (lw_at lw_m8 30 rfl) rfl
theorem q1787 : (Jvm.Cond.methodLink "java/lang/AbstractStringBuilder" (131 : Nat) ({ cls := "java/lang/StringIndexOutOfBoundsException", name := "<init>", desc := "(I)V" } : Jvm.MethodName)) ∈ lw_all := lw_g (lw_at lw_m8 32 rfl) rfl
theorem q1804 : (Jvm.Cond.methodLink "java/lang/AbstractStringBuilder" (133 : Nat) ({ cls := "java/lang/StringLatin1", name := "fillNull", desc := "([BII)V" } : Jvm.MethodName)) ∈ lw_all := lw_g (lw_at lw_m8 49 rfl) rfl
theorem q1826 : (Jvm.Cond.methodLink "java/lang/AbstractStringBuilder" (137 : Nat) ({ cls := "java/lang/StringUTF16", name := "fillNull", desc := "([BII)V" } : Jvm.MethodName)) ∈ lw_all := lw_g (lw_at lw_m8 71 rfl) rfl
theorem q2428 : (Jvm.Cond.sameMethod "java/lang/AbstractStringBuilder" "java/lang/AbstractStringBuilder" "append" "(I)Ljava/lang/AbstractStringBuilder;") ∈ lw_all := lw_g (lw_at lw_m10 193 rfl) rfl
theorem q2429 : (Jvm.Cond.sameMethod "java/lang/AbstractStringBuilder" "java/lang/AbstractStringBuilder" "ensureCapacityInternal" "(I)V") ∈ lw_all := lw_g (lw_at lw_m10 194 rfl) rfl
theorem q2430 : (Jvm.Cond.sameMethod "java/lang/AbstractStringBuilder" "java/lang/AbstractStringBuilder" "newCapacity" "(I)I") ∈ lw_all := lw_g (lw_at lw_m10 195 rfl) rfl
theorem q2431 : (Jvm.Cond.sameMethod "java/lang/AbstractStringBuilder" "java/lang/AbstractStringBuilder" "append" "(Ljava/lang/String;)Ljava/lang/AbstractStringBuilder;") ∈ lw_all := lw_g (lw_at lw_m10 196 rfl) rfl
theorem q2432 : (Jvm.Cond.sameMethod "java/lang/AbstractStringBuilder" "java/lang/AbstractStringBuilder" "appendNull" "()Ljava/lang/AbstractStringBuilder;") ∈ lw_all := lw_g (lw_at lw_m10 197 rfl) rfl
theorem q2433 : (Jvm.Cond.sameMethod "java/lang/AbstractStringBuilder" "java/lang/AbstractStringBuilder" "putStringAt" "(ILjava/lang/String;)V") ∈ lw_all := lw_g (lw_at lw_m10 198 rfl) rfl
theorem q2434 : (Jvm.Cond.sameMethod "java/lang/AbstractStringBuilder" "java/lang/AbstractStringBuilder" "inflateIfNeededFor" "(Ljava/lang/String;)V") ∈ lw_all := lw_g (lw_at lw_m10 199 rfl) rfl
theorem q2435 : (Jvm.Cond.sameMethod "java/lang/AbstractStringBuilder" "java/lang/AbstractStringBuilder" "inflate" "()V") ∈ lw_all := lw_g (lw_at lw_m10 200 rfl) rfl
theorem q2436 : (Jvm.Cond.sameMethod "java/lang/AbstractStringBuilder" "java/lang/AbstractStringBuilder" "append" "(C)Ljava/lang/AbstractStringBuilder;") ∈ lw_all := lw_g (lw_at lw_m10 201 rfl) rfl
theorem q2438 : (Jvm.Cond.sameMethod "java/lang/AbstractStringBuilder" "java/lang/AbstractStringBuilder" "setLength" "(I)V") ∈ lw_all := lw_g (lw_at lw_m10 203 rfl) rfl
/-! java/lang/StringBuilder -/
def RJ9 : String := "java/lang/StringBuilder"
def TJ9 : u_T := fun k => match k with
  | 0 => ("java/lang/AbstractStringBuilder", "value", "[B", false)
  | 1 => ("java/lang/AbstractStringBuilder", "coder", "B", false)
  | 2 => ("java/lang/AbstractStringBuilder", "maybeLatin1", "Z", false)
  | _ => ("java/lang/AbstractStringBuilder", "count", "I", false)
def tyJ9 : Nat → FieldType := fun k => match k with
  | 0 => .array .byte
  | 1 => .byte
  | 2 => .boolean
  | _ => .int
abbrev wsJ90 : List Cond := u_ws RJ9 TJ9 4
theorem nmJ9 : ∀ a, a < 4 → ∀ b, b < 4 → a ≠ b → (TJ9 a).2.1 ≠ (TJ9 b).2.1 := by decide +kernel
theorem tyJ9_ok : ∀ k, k < 4 → parseFieldDescriptor (TJ9 k).2.2.1 = some (tyJ9 k) := by decide +kernel
abbrev cJ9_init : ByteArray := prog_35_method_1_code
def yJ9_init : MethodName := ⟨RJ9, "<init>", "()V"⟩
abbrev cJ9_append : ByteArray := prog_35_method_15_code
def yJ9_append : MethodName := ⟨RJ9, "append", "(I)Ljava/lang/StringBuilder;"⟩
abbrev cJ9_append_2 : ByteArray := prog_35_method_7_code
def yJ9_append_2 : MethodName := ⟨RJ9, "append", "(Ljava/lang/String;)Ljava/lang/StringBuilder;"⟩
abbrev cJ9_append_3 : ByteArray := prog_35_method_14_code
def yJ9_append_3 : MethodName := ⟨RJ9, "append", "(C)Ljava/lang/StringBuilder;"⟩
abbrev cJ9_toString : ByteArray := prog_35_method_42_code
def yJ9_toString : MethodName := ⟨RJ9, "toString", "()Ljava/lang/String;"⟩
abbrev cJ9_length : ByteArray := prog_35_method_93_code
def yJ9_length : MethodName := ⟨RJ9, "length", "()I"⟩
abbrev cJ9_setLength : ByteArray := prog_35_method_89_code
def yJ9_setLength : MethodName := ⟨RJ9, "setLength", "(I)V"⟩
theorem q87 : (Jvm.Cond.initialized "java/lang/StringBuilder") ∈ lw_all := lw_g (lw_at lw_m1 12 rfl) rfl
theorem q356 : (Jvm.Cond.instantiable "java/lang/StringBuilder" (4 : Nat)) ∈ lw_all := lw_g (lw_at lw_m2 41 rfl) rfl
theorem q358 : (Jvm.Cond.instanceMethod ({ cls := "java/lang/StringBuilder", name := "<init>", desc := "()V" } : Jvm.MethodName)) ∈ lw_all := lw_g (lw_at lw_m2 43 rfl) rfl
theorem q359 : (Jvm.Cond.code ({ cls := "java/lang/StringBuilder", name := "<init>", desc := "()V" } : Jvm.MethodName) prog_35_method_1_code (1 : Nat) (Option.none : Option Jvm.ClassFile.FieldType)) ∈ lw_all := lw_g (lw_at lw_m2 44 rfl) rfl
theorem q360 : (Jvm.Cond.methodLink "java/lang/StringBuilder" (1 : Nat) ({ cls := "java/lang/AbstractStringBuilder", name := "<init>", desc := "(I)V" } : Jvm.MethodName)) ∈ lw_all := lw_g (lw_at lw_m2 45 rfl) rfl
theorem q378 : (Jvm.Cond.lays "java/lang/StringBuilder" "java/lang/AbstractStringBuilder" "value" "[B") ∈ lw_all := lw_g (lw_at lw_m2 63 rfl) rfl
theorem q380 : (Jvm.Cond.lays "java/lang/StringBuilder" "java/lang/AbstractStringBuilder" "coder" "B") ∈ lw_all := lw_g (lw_at lw_m2 65 rfl) rfl
theorem q382 : (Jvm.Cond.lays "java/lang/StringBuilder" "java/lang/AbstractStringBuilder" "maybeLatin1" "Z") ∈ lw_all := lw_g (lw_at lw_m2 67 rfl) rfl
theorem q384 : (Jvm.Cond.lays "java/lang/StringBuilder" "java/lang/AbstractStringBuilder" "count" "I") ∈ lw_all := lw_g (lw_at lw_m2 69 rfl) rfl
theorem q386 : (Jvm.Cond.superclass "java/lang/StringBuilder" "java/lang/AbstractStringBuilder") ∈ lw_all := lw_g (lw_at lw_m2 71 rfl) rfl
theorem q700 : (Jvm.Cond.selects "java/lang/StringBuilder" ({ cls := "java/lang/Object", name := "getClass", desc := "()Ljava/lang/Class;" } : Jvm.MethodName) ({ cls := "java/lang/Object", name := "getClass", desc := "()Ljava/lang/Class;" } : Jvm.MethodName)) ∈ lw_all := lw_g (lw_at lw_m3 145 rfl) rfl
theorem q1456 : (Jvm.Cond.instanceMethod ({ cls := "java/lang/StringBuilder", name := "append", desc := "(I)Ljava/lang/StringBuilder;" } : Jvm.MethodName)) ∈ lw_all := lw_g (lw_at lw_m6 181 rfl) rfl
theorem q1457 : (Jvm.Cond.selects "java/lang/StringBuilder" ({ cls := "java/lang/StringBuilder", name := "append", desc := "(I)Ljava/lang/StringBuilder;" } : Jvm.MethodName) ({ cls := "java/lang/StringBuilder", name := "append", desc := "(I)Ljava/lang/StringBuilder;" } : Jvm.MethodName)) ∈ lw_all := lw_g (lw_at lw_m6 182 rfl) rfl
theorem q1458 : (Jvm.Cond.code ({ cls := "java/lang/StringBuilder", name := "append", desc := "(I)Ljava/lang/StringBuilder;" } : Jvm.MethodName) prog_35_method_15_code (2 : Nat) (Option.some (Jvm.ClassFile.FieldType.object "java/lang/StringBuilder"))) ∈ lw_all := lw_g (lw_at lw_m6 183 rfl) rfl
theorem q1459 : (Jvm.Cond.methodLink "java/lang/StringBuilder" (53 : Nat) ({ cls := "java/lang/AbstractStringBuilder", name := "append", desc := "(I)Ljava/lang/AbstractStringBuilder;" } : Jvm.MethodName)) ∈ lw_all := lw_g (lw_at lw_m6 184 rfl) rfl
theorem q1488 : (Jvm.Cond.selects "java/lang/StringBuilder" ({ cls := "java/lang/AbstractStringBuilder", name := "isLatin1", desc := "()Z" } : Jvm.MethodName) ({ cls := "java/lang/AbstractStringBuilder", name := "isLatin1", desc := "()Z" } : Jvm.MethodName)) ∈ lw_all := lw_g (lw_at lw_m6 213 rfl) rfl
theorem q1510 : (Jvm.Cond.instanceMethod ({ cls := "java/lang/StringBuilder", name := "append", desc := "(Ljava/lang/String;)Ljava/lang/StringBuilder;" } : Jvm.MethodName)) ∈ lw_all := lw_g (lw_at lw_m6 235 rfl) rfl
theorem q1511 : (Jvm.Cond.selects "java/lang/StringBuilder" ({ cls := "java/lang/StringBuilder", name := "append", desc := "(Ljava/lang/String;)Ljava/lang/StringBuilder;" } : Jvm.MethodName) ({ cls := "java/lang/StringBuilder", name := "append", desc := "(Ljava/lang/String;)Ljava/lang/StringBuilder;" } : Jvm.MethodName)) ∈ lw_all := lw_g (lw_at lw_m6 236 rfl) rfl
theorem q1512 : (Jvm.Cond.code ({ cls := "java/lang/StringBuilder", name := "append", desc := "(Ljava/lang/String;)Ljava/lang/StringBuilder;" } : Jvm.MethodName) prog_35_method_7_code (2 : Nat) (Option.some (Jvm.ClassFile.FieldType.object "java/lang/StringBuilder"))) ∈ lw_all := lw_g (lw_at lw_m6 237 rfl) rfl
theorem q1513 : (Jvm.Cond.methodLink "java/lang/StringBuilder" (29 : Nat) ({ cls := "java/lang/AbstractStringBuilder", name := "append", desc := "(Ljava/lang/String;)Ljava/lang/AbstractStringBuilder;" } : Jvm.MethodName)) ∈ lw_all := lw_g (lw_at lw_m6 238 rfl) rfl
theorem q1559 : (Jvm.Cond.instanceMethod ({ cls := "java/lang/StringBuilder", name := "append", desc := "(C)Ljava/lang/StringBuilder;" } : Jvm.MethodName)) ∈ lw_all := lw_g (lw_at lw_m7 44 rfl) rfl
theorem q1560 : (Jvm.Cond.selects "java/lang/StringBuilder" ({ cls := "java/lang/StringBuilder", name := "append", desc := "(C)Ljava/lang/StringBuilder;" } : Jvm.MethodName) ({ cls := "java/lang/StringBuilder", name := "append", desc := "(C)Ljava/lang/StringBuilder;" } : Jvm.MethodName)) ∈ lw_all := lw_g (lw_at lw_m7 45 rfl) rfl
theorem q1561 : (Jvm.Cond.code ({ cls := "java/lang/StringBuilder", name := "append", desc := "(C)Ljava/lang/StringBuilder;" } : Jvm.MethodName) prog_35_method_14_code (2 : Nat) (Option.some (Jvm.ClassFile.FieldType.object "java/lang/StringBuilder"))) ∈ lw_all := lw_g (lw_at lw_m7 46 rfl) rfl
theorem q1562 : (Jvm.Cond.methodLink "java/lang/StringBuilder" (50 : Nat) ({ cls := "java/lang/AbstractStringBuilder", name := "append", desc := "(C)Ljava/lang/AbstractStringBuilder;" } : Jvm.MethodName)) ∈ lw_all := lw_g (lw_at lw_m7 47 rfl) rfl
theorem q1579 : (Jvm.Cond.instanceMethod ({ cls := "java/lang/StringBuilder", name := "toString", desc := "()Ljava/lang/String;" } : Jvm.MethodName)) ∈ lw_all := lw_g (lw_at lw_m7 64 rfl) rfl
theorem q1580 : (Jvm.Cond.selects "java/lang/StringBuilder" ({ cls := "java/lang/StringBuilder", name := "toString", desc := "()Ljava/lang/String;" } : Jvm.MethodName) ({ cls := "java/lang/StringBuilder", name := "toString", desc := "()Ljava/lang/String;" } : Jvm.MethodName)) ∈ lw_all := lw_g (lw_at lw_m7 65 rfl) rfl
theorem q1581 : (Jvm.Cond.code ({ cls := "java/lang/StringBuilder", name := "toString", desc := "()Ljava/lang/String;" } : Jvm.MethodName) prog_35_method_42_code (1 : Nat) (Option.some (Jvm.ClassFile.FieldType.object "java/lang/String"))) ∈ lw_all := lw_g (lw_at lw_m7 66 rfl) rfl
theorem q1582 : (Jvm.Cond.classLink "java/lang/StringBuilder" (18 : Nat) "java/lang/String") ∈ lw_all := lw_g (lw_at lw_m7 67 rfl) rfl
theorem q1583 : (Jvm.Cond.methodLink "java/lang/StringBuilder" (137 : Nat) ({ cls := "java/lang/String", name := "<init>", desc := "(Ljava/lang/StringBuilder;)V" } : Jvm.MethodName)) ∈ lw_all := lw_g (lw_at lw_m7 68 rfl) rfl
theorem q1593 : (Jvm.Cond.selects "java/lang/StringBuilder" ({ cls := "java/lang/AbstractStringBuilder", name := "getValue", desc := "()[B" } : Jvm.MethodName) ({ cls := "java/lang/AbstractStringBuilder", name := "getValue", desc := "()[B" } : Jvm.MethodName)) ∈ lw_all := lw_g (lw_at lw_m7 78 rfl) rfl
theorem q1598 : (Jvm.Cond.selects "java/lang/StringBuilder" ({ cls := "java/lang/AbstractStringBuilder", name := "length", desc := "()I" } : Jvm.MethodName) ({ cls := "java/lang/StringBuilder", name := "length", desc := "()I" } : Jvm.MethodName)) ∈ lw_all := lw_g (lw_at lw_m7 83 rfl) rfl
theorem q1599 : (Jvm.Cond.instanceMethod ({ cls := "java/lang/StringBuilder", name := "length", desc := "()I" } : Jvm.MethodName)) ∈ lw_all := lw_g (lw_at lw_m7 84 rfl) rfl
theorem q1600 : (Jvm.Cond.code ({ cls := "java/lang/StringBuilder", name := "length", desc := "()I" } : Jvm.MethodName) prog_35_method_93_code (1 : Nat) (Option.some Jvm.ClassFile.FieldType.int)) ∈ lw_all := lw_g (lw_at lw_m7 85 rfl) rfl
theorem q1601 : (Jvm.Cond.methodLink "java/lang/StringBuilder" (343 : Nat) ({ cls := "java/lang/AbstractStringBuilder", name := "length", desc := "()I" } : Jvm.MethodName)) ∈ lw_all := lw_g (lw_at lw_m7 86 rfl) rfl
theorem q1779 : (Jvm.Cond.instanceMethod ({ cls := "java/lang/StringBuilder", name := "setLength", desc := "(I)V" } : Jvm.MethodName)) ∈ lw_all := lw_g (lw_at lw_m8 24 rfl) rfl
theorem q1780 : (Jvm.Cond.selects "java/lang/StringBuilder" ({ cls := "java/lang/StringBuilder", name := "setLength", desc := "(I)V" } : Jvm.MethodName) ({ cls := "java/lang/StringBuilder", name := "setLength", desc := "(I)V" } : Jvm.MethodName)) ∈ lw_all := lw_g (lw_at lw_m8 25 rfl) rfl
theorem q1781 : (Jvm.Cond.code ({ cls := "java/lang/StringBuilder", name := "setLength", desc := "(I)V" } : Jvm.MethodName) prog_35_method_89_code (2 : Nat) (Option.none : Option Jvm.ClassFile.FieldType)) ∈ lw_all := lw_g (lw_at lw_m8 26 rfl) rfl
theorem q1782 : (Jvm.Cond.methodLink "java/lang/StringBuilder" (333 : Nat) ({ cls := "java/lang/AbstractStringBuilder", name := "setLength", desc := "(I)V" } : Jvm.MethodName)) ∈ lw_all := lw_g (lw_at lw_m8 27 rfl) rfl
theorem q2437 : (Jvm.Cond.selects "java/lang/StringBuilder" ({ cls := "java/lang/StringBuilder", name := "length", desc := "()I" } : Jvm.MethodName) ({ cls := "java/lang/StringBuilder", name := "length", desc := "()I" } : Jvm.MethodName)) ∈ lw_all := lw_g (lw_at lw_m10 202 rfl) rfl
theorem q2447 : (Jvm.Cond.castable "java/lang/StringBuilder" "java/lang/Object") ∈ lw_tbl := lw_at lw_m10 212 rfl
theorem in_J9 : ∀ w ∈ wsJ90, w ∈ lw_all := lw_in wsJ90 [378, 380, 382, 384] (by decide +kernel) (by decide +kernel)
/-! the law's own entry -/
abbrev cL_law : ByteArray := code
/-! HabitRegistryLaw -/
def RX0 : String := "HabitRegistryLaw"
abbrev cX0_addFounder : ByteArray := method_3_code
def yX0_addFounder : MethodName := ⟨RX0, "addFounder", "(LHabitRegistry;[J)I"⟩
abbrev cX0_addChild : ByteArray := method_4_code
def yX0_addChild : MethodName := ⟨RX0, "addChild", "(LHabitRegistry;I[J)I"⟩
abbrev cX0_bury : ByteArray := method_5_code
def yX0_bury : MethodName := ⟨RX0, "bury", "(LHabitRegistry;I[J)I"⟩
abbrev cX0_isAlive : ByteArray := method_6_code
def yX0_isAlive : MethodName := ⟨RX0, "isAlive", "(LHabitRegistry;I[J)I"⟩
abbrev cX0_isFounder : ByteArray := method_7_code
def yX0_isFounder : MethodName := ⟨RX0, "isFounder", "(LHabitRegistry;I[J)I"⟩
abbrev cX0_parentOf : ByteArray := method_8_code
def yX0_parentOf : MethodName := ⟨RX0, "parentOf", "(LHabitRegistry;I[J)I"⟩
abbrev cX0_childCount : ByteArray := method_9_code
def yX0_childCount : MethodName := ⟨RX0, "childCount", "(LHabitRegistry;I[J)I"⟩
abbrev cX0_childAt : ByteArray := method_10_code
def yX0_childAt : MethodName := ⟨RX0, "childAt", "(LHabitRegistry;II[J)I"⟩
abbrev cX0_generation : ByteArray := method_11_code
def yX0_generation : MethodName := ⟨RX0, "generation", "(LHabitRegistry;I[J)I"⟩
abbrev cX0_livingDescendants : ByteArray := method_12_code
def yX0_livingDescendants : MethodName := ⟨RX0, "livingDescendants", "(LHabitRegistry;I[J)I"⟩
abbrev cX0_isAncestor : ByteArray := method_13_code
def yX0_isAncestor : MethodName := ⟨RX0, "isAncestor", "(LHabitRegistry;II[J)I"⟩
abbrev cX0_commonAncestor : ByteArray := method_14_code
def yX0_commonAncestor : MethodName := ⟨RX0, "commonAncestor", "(LHabitRegistry;II[J)I"⟩
abbrev cX0_distance : ByteArray := method_15_code
def yX0_distance : MethodName := ⟨RX0, "distance", "(LHabitRegistry;II[J)I"⟩
abbrev cX0_distanceBySearch : ByteArray := method_16_code
def yX0_distanceBySearch : MethodName := ⟨RX0, "distanceBySearch", "(LHabitRegistry;II[J)I"⟩
abbrev cX0_heirOf : ByteArray := method_17_code
def yX0_heirOf : MethodName := ⟨RX0, "heirOf", "(LHabitRegistry;I[J)I"⟩
abbrev cX0_heirByComparison : ByteArray := method_18_code
def yX0_heirByComparison : MethodName := ⟨RX0, "heirByComparison", "(LHabitRegistry;I[J)I"⟩
abbrev cX0_directHeirOf : ByteArray := method_19_code
def yX0_directHeirOf : MethodName := ⟨RX0, "directHeirOf", "(LHabitRegistry;I[J)I"⟩
abbrev cX0_successionPosition : ByteArray := method_20_code
def yX0_successionPosition : MethodName := ⟨RX0, "successionPosition", "(LHabitRegistry;I[J)I"⟩
abbrev cX0_addHabit : ByteArray := method_21_code
def yX0_addHabit : MethodName := ⟨RX0, "addHabit", "(LHabitRegistry;ICI[J)I"⟩
abbrev cX0_practise : ByteArray := method_22_code
def yX0_practise : MethodName := ⟨RX0, "practise", "(LHabitRegistry;I[J)I"⟩
abbrev cX0_neglect : ByteArray := method_23_code
def yX0_neglect : MethodName := ⟨RX0, "neglect", "(LHabitRegistry;I[J)I"⟩
abbrev cX0_entail : ByteArray := method_24_code
def yX0_entail : MethodName := ⟨RX0, "entail", "(LHabitRegistry;I[J)I"⟩
abbrev cX0_breakEntail : ByteArray := method_25_code
def yX0_breakEntail : MethodName := ⟨RX0, "breakEntail", "(LHabitRegistry;I[J)I"⟩
abbrev cX0_give : ByteArray := method_26_code
def yX0_give : MethodName := ⟨RX0, "give", "(LHabitRegistry;II[J)I"⟩
abbrev cX0_kindOf : ByteArray := method_27_code
def yX0_kindOf : MethodName := ⟨RX0, "kindOf", "(LHabitRegistry;I[J)I"⟩
abbrev cX0_strengthOf : ByteArray := method_28_code
def yX0_strengthOf : MethodName := ⟨RX0, "strengthOf", "(LHabitRegistry;I[J)I"⟩
abbrev cX0_holderOf : ByteArray := method_29_code
def yX0_holderOf : MethodName := ⟨RX0, "holderOf", "(LHabitRegistry;I[J)I"⟩
abbrev cX0_isExtinct : ByteArray := method_30_code
def yX0_isExtinct : MethodName := ⟨RX0, "isExtinct", "(LHabitRegistry;I[J)I"⟩
abbrev cX0_isEntailed : ByteArray := method_31_code
def yX0_isEntailed : MethodName := ⟨RX0, "isEntailed", "(LHabitRegistry;I[J)I"⟩
abbrev cX0_isPractised : ByteArray := method_32_code
def yX0_isPractised : MethodName := ⟨RX0, "isPractised", "(LHabitRegistry;I[J)I"⟩
abbrev cX0_habitOf : ByteArray := method_33_code
def yX0_habitOf : MethodName := ⟨RX0, "habitOf", "(LHabitRegistry;IC[J)I"⟩
abbrev cX0_habitStrength : ByteArray := method_34_code
def yX0_habitStrength : MethodName := ⟨RX0, "habitStrength", "(LHabitRegistry;I[J)I"⟩
abbrev cX0_passYears : ByteArray := method_35_code
def yX0_passYears : MethodName := ⟨RX0, "passYears", "(LHabitRegistry;I[J)I"⟩
abbrev cX0_yearsLeft : ByteArray := method_36_code
def yX0_yearsLeft : MethodName := ⟨RX0, "yearsLeft", "(LHabitRegistry;I[J)I"⟩
abbrev cX0_habitByStrength : ByteArray := method_37_code
def yX0_habitByStrength : MethodName := ⟨RX0, "habitByStrength", "(LHabitRegistry;I[J)I"⟩
abbrev cX0_personByStrength : ByteArray := method_38_code
def yX0_personByStrength : MethodName := ⟨RX0, "personByStrength", "(LHabitRegistry;I[J)I"⟩
abbrev cX0_meanStrength : ByteArray := method_39_code
def yX0_meanStrength : MethodName := ⟨RX0, "meanStrength", "(LHabitRegistry;[D)I"⟩
abbrev cX0_livingShare : ByteArray := method_40_code
def yX0_livingShare : MethodName := ⟨RX0, "livingShare", "(LHabitRegistry;[D)I"⟩
abbrev cX0_writePerson : ByteArray := method_41_code
def yX0_writePerson : MethodName := ⟨RX0, "writePerson", "(LHabitRegistry;I[J)I"⟩
abbrev cX0_writeLine : ByteArray := method_42_code
def yX0_writeLine : MethodName := ⟨RX0, "writeLine", "(LHabitRegistry;I[J)I"⟩
abbrev cX0_outputAt : ByteArray := method_43_code
def yX0_outputAt : MethodName := ⟨RX0, "outputAt", "(LHabitRegistry;I[J)I"⟩
abbrev cX0_appendInput : ByteArray := method_44_code
def yX0_appendInput : MethodName := ⟨RX0, "appendInput", "(LHabitRegistry;C[J)I"⟩
abbrev cX0_execute : ByteArray := method_45_code
def yX0_execute : MethodName := ⟨RX0, "execute", "(LHabitRegistry;[J)I"⟩
abbrev cX0_syntaxErrorOffset : ByteArray := method_46_code
def yX0_syntaxErrorOffset : MethodName := ⟨RX0, "syntaxErrorOffset", "(LHabitRegistry;[J)I"⟩
abbrev cX0_rejectionReason : ByteArray := method_47_code
def yX0_rejectionReason : MethodName := ⟨RX0, "rejectionReason", "(LHabitRegistry;[J)I"⟩
abbrev cX0_rejectionDetail : ByteArray := method_48_code
def yX0_rejectionDetail : MethodName := ⟨RX0, "rejectionDetail", "(LHabitRegistry;[J)I"⟩
abbrev cX0_causeReason : ByteArray := method_49_code
def yX0_causeReason : MethodName := ⟨RX0, "causeReason", "(LHabitRegistry;[J)I"⟩
abbrev cX0_undo : ByteArray := method_50_code
def yX0_undo : MethodName := ⟨RX0, "undo", "(LHabitRegistry;[J)I"⟩
abbrev cX0_restoreSnapshot : ByteArray := method_51_code
def yX0_restoreSnapshot : MethodName := ⟨RX0, "restoreSnapshot", "(LHabitRegistry;[J)I"⟩
theorem q75 : (Jvm.Cond.initialized "HabitRegistryLaw") ∈ lw_all := lw_g (lw_at lw_m1 0 rfl) rfl
theorem q116 : (Jvm.Cond.classLink "HabitRegistryLaw" (8 : Nat) "HabitRegistry") ∈ lw_all := lw_g (lw_at lw_m1 41 rfl) rfl
theorem q118 : (Jvm.Cond.methodLink "HabitRegistryLaw" (179 : Nat) ({ cls := "HabitRegistry", name := "<init>", desc := "()V" } : Jvm.MethodName)) ∈ lw_all := lw_g (lw_at lw_m1 43 rfl) rfl
theorem q411 : (Jvm.Cond.methodLink "HabitRegistryLaw" (199 : Nat) ({ cls := "HabitRegistry", name := "peopleCount", desc := "()I" } : Jvm.MethodName)) ∈ lw_all := lw_g (lw_at lw_m2 96 rfl) rfl
theorem q419 : (Jvm.Cond.methodLink "HabitRegistryLaw" (203 : Nat) ({ cls := "HabitRegistry", name := "livingCount", desc := "()I" } : Jvm.MethodName)) ∈ lw_all := lw_g (lw_at lw_m2 104 rfl) rfl
theorem q431 : (Jvm.Cond.methodLink "HabitRegistryLaw" (272 : Nat) ({ cls := "HabitRegistry", name := "habitCount", desc := "()I" } : Jvm.MethodName)) ∈ lw_all := lw_g (lw_at lw_m2 116 rfl) rfl
theorem q435 : (Jvm.Cond.methodLink "HabitRegistryLaw" (304 : Nat) ({ cls := "HabitRegistry", name := "year", desc := "()I" } : Jvm.MethodName)) ∈ lw_all := lw_g (lw_at lw_m2 120 rfl) rfl
theorem q439 : (Jvm.Cond.methodLink "HabitRegistryLaw" (311 : Nat) ({ cls := "HabitRegistry", name := "lapsedCount", desc := "()I" } : Jvm.MethodName)) ∈ lw_all := lw_g (lw_at lw_m2 124 rfl) rfl
theorem q443 : (Jvm.Cond.methodLink "HabitRegistryLaw" (315 : Nat) ({ cls := "HabitRegistry", name := "mergedCount", desc := "()I" } : Jvm.MethodName)) ∈ lw_all := lw_g (lw_at lw_m2 128 rfl) rfl
theorem q447 : (Jvm.Cond.methodLink "HabitRegistryLaw" (319 : Nat) ({ cls := "HabitRegistry", name := "brokenCount", desc := "()I" } : Jvm.MethodName)) ∈ lw_all := lw_g (lw_at lw_m2 132 rfl) rfl
theorem q451 : (Jvm.Cond.methodLink "HabitRegistryLaw" (323 : Nat) ({ cls := "HabitRegistry", name := "totalStrength", desc := "()I" } : Jvm.MethodName)) ∈ lw_all := lw_g (lw_at lw_m2 136 rfl) rfl
theorem q456 : (Jvm.Cond.methodLink "HabitRegistryLaw" (327 : Nat) ({ cls := "HabitRegistry", name := "totalStrengthByPeople", desc := "()I" } : Jvm.MethodName)) ∈ lw_all := lw_g (lw_at lw_m2 141 rfl) rfl
theorem q464 : (Jvm.Cond.methodLink "HabitRegistryLaw" (344 : Nat) ({ cls := "HabitRegistry", name := "isConsistent", desc := "()Z" } : Jvm.MethodName)) ∈ lw_all := lw_g (lw_at lw_m2 149 rfl) rfl
theorem q606 : (Jvm.Cond.methodLink "HabitRegistryLaw" (380 : Nat) ({ cls := "HabitRegistry", name := "undoCount", desc := "()I" } : Jvm.MethodName)) ∈ lw_all := lw_g (lw_at lw_m3 51 rfl) rfl
theorem q610 : (Jvm.Cond.methodLink "HabitRegistryLaw" (384 : Nat) ({ cls := "HabitRegistry", name := "saveSnapshot", desc := "()I" } : Jvm.MethodName)) ∈ lw_all := lw_g (lw_at lw_m3 55 rfl) rfl
theorem q757 : (Jvm.Cond.methodLink "HabitRegistryLaw" (183 : Nat) ({ cls := "HabitRegistryLaw", name := "addFounder", desc := "(LHabitRegistry;[J)I" } : Jvm.MethodName)) ∈ lw_all := lw_g (lw_at lw_m3 202 rfl) rfl
theorem q758 : (Jvm.Cond.static ({ cls := "HabitRegistryLaw", name := "addFounder", desc := "(LHabitRegistry;[J)I" } : Jvm.MethodName)) ∈ lw_all := lw_g (lw_at lw_m3 203 rfl) rfl
theorem q759 : (Jvm.Cond.codeWith ({ cls := "HabitRegistryLaw", name := "addFounder", desc := "(LHabitRegistry;[J)I" } : Jvm.MethodName) method_3_code (3 : Nat) (Option.some Jvm.ClassFile.FieldType.int) [((0 : Nat), (8 : Nat), (11 : Nat), (13 : Nat))]) ∈ lw_all := lw_g (lw_at lw_m3 204 rfl) rfl
theorem q760 : (Jvm.Cond.classLink "HabitRegistryLaw" (13 : Nat) "java/lang/UnsupportedOperationException") ∈ lw_all := lw_g (lw_at lw_m3 205 rfl) rfl
theorem q761 : (Jvm.Cond.methodLink "HabitRegistryLaw" (7 : Nat) ({ cls := "HabitRegistry", name := "addFounder", desc := "()I" } : Jvm.MethodName)) ∈ lw_all := lw_g (lw_at lw_m3 206 rfl) rfl
theorem q987 : (Jvm.Cond.methodLink "HabitRegistryLaw" (192 : Nat) ({ cls := "HabitRegistryLaw", name := "addChild", desc := "(LHabitRegistry;I[J)I" } : Jvm.MethodName)) ∈ lw_all := lw_g (lw_at lw_m4 192 rfl) rfl
theorem q988 : (Jvm.Cond.static ({ cls := "HabitRegistryLaw", name := "addChild", desc := "(LHabitRegistry;I[J)I" } : Jvm.MethodName)) ∈ lw_all := lw_g (lw_at lw_m4 193 rfl) rfl
theorem q989 : (Jvm.Cond.codeWith ({ cls := "HabitRegistryLaw", name := "addChild", desc := "(LHabitRegistry;I[J)I" } : Jvm.MethodName) method_4_code (4 : Nat) (Option.some Jvm.ClassFile.FieldType.int) [((0 : Nat), (9 : Nat), (12 : Nat), (19 : Nat)), ((0 : Nat), (9 : Nat), (15 : Nat), (13 : Nat))]) ∈ lw_all := lw_g (lw_at lw_m4 194 rfl) rfl
theorem q990 : (Jvm.Cond.classLink "HabitRegistryLaw" (19 : Nat) "java/lang/IndexOutOfBoundsException") ∈ lw_all := lw_g (lw_at lw_m4 195 rfl) rfl
theorem q1022 : (Jvm.Cond.methodLink "HabitRegistryLaw" (15 : Nat) ({ cls := "HabitRegistry", name := "addChild", desc := "(I)I" } : Jvm.MethodName)) ∈ lw_all := lw_g (lw_at lw_m4 227 rfl) rfl
theorem q1045 : (Jvm.Cond.methodLink "HabitRegistryLaw" (196 : Nat) ({ cls := "HabitRegistryLaw", name := "bury", desc := "(LHabitRegistry;I[J)I" } : Jvm.MethodName)) ∈ lw_all := lw_g (lw_at lw_m5 10 rfl) rfl
theorem q1046 : (Jvm.Cond.static ({ cls := "HabitRegistryLaw", name := "bury", desc := "(LHabitRegistry;I[J)I" } : Jvm.MethodName)) ∈ lw_all := lw_g (lw_at lw_m5 11 rfl) rfl
theorem q1047 : (Jvm.Cond.codeWith ({ cls := "HabitRegistryLaw", name := "bury", desc := "(LHabitRegistry;I[J)I" } : Jvm.MethodName) method_5_code (4 : Nat) (Option.some Jvm.ClassFile.FieldType.int) [((0 : Nat), (9 : Nat), (12 : Nat), (19 : Nat)), ((0 : Nat), (9 : Nat), (15 : Nat), (13 : Nat))]) ∈ lw_all := lw_g (lw_at lw_m5 12 rfl) rfl
theorem q1048 : (Jvm.Cond.methodLink "HabitRegistryLaw" (21 : Nat) ({ cls := "HabitRegistry", name := "bury", desc := "(I)I" } : Jvm.MethodName)) ∈ lw_all := lw_g (lw_at lw_m5 13 rfl) rfl
theorem q1052 : (Jvm.Cond.methodLink "HabitRegistryLaw" (207 : Nat) ({ cls := "HabitRegistryLaw", name := "isAlive", desc := "(LHabitRegistry;I[J)I" } : Jvm.MethodName)) ∈ lw_all := lw_g (lw_at lw_m5 17 rfl) rfl
theorem q1053 : (Jvm.Cond.static ({ cls := "HabitRegistryLaw", name := "isAlive", desc := "(LHabitRegistry;I[J)I" } : Jvm.MethodName)) ∈ lw_all := lw_g (lw_at lw_m5 18 rfl) rfl
theorem q1054 : (Jvm.Cond.codeWith ({ cls := "HabitRegistryLaw", name := "isAlive", desc := "(LHabitRegistry;I[J)I" } : Jvm.MethodName) method_6_code (4 : Nat) (Option.some Jvm.ClassFile.FieldType.int) [((0 : Nat), (16 : Nat), (19 : Nat), (19 : Nat))]) ∈ lw_all := lw_g (lw_at lw_m5 19 rfl) rfl
theorem q1055 : (Jvm.Cond.methodLink "HabitRegistryLaw" (24 : Nat) ({ cls := "HabitRegistry", name := "isAlive", desc := "(I)Z" } : Jvm.MethodName)) ∈ lw_all := lw_g (lw_at lw_m5 20 rfl) rfl
theorem q1065 : (Jvm.Cond.methodLink "HabitRegistryLaw" (210 : Nat) ({ cls := "HabitRegistryLaw", name := "isFounder", desc := "(LHabitRegistry;I[J)I" } : Jvm.MethodName)) ∈ lw_all := lw_g (lw_at lw_m5 30 rfl) rfl
theorem q1066 : (Jvm.Cond.static ({ cls := "HabitRegistryLaw", name := "isFounder", desc := "(LHabitRegistry;I[J)I" } : Jvm.MethodName)) ∈ lw_all := lw_g (lw_at lw_m5 31 rfl) rfl
theorem q1067 : (Jvm.Cond.codeWith ({ cls := "HabitRegistryLaw", name := "isFounder", desc := "(LHabitRegistry;I[J)I" } : Jvm.MethodName) method_7_code (4 : Nat) (Option.some Jvm.ClassFile.FieldType.int) [((0 : Nat), (16 : Nat), (19 : Nat), (19 : Nat))]) ∈ lw_all := lw_g (lw_at lw_m5 32 rfl) rfl
theorem q1068 : (Jvm.Cond.methodLink "HabitRegistryLaw" (28 : Nat) ({ cls := "HabitRegistry", name := "isFounder", desc := "(I)Z" } : Jvm.MethodName)) ∈ lw_all := lw_g (lw_at lw_m5 33 rfl) rfl
theorem q1072 : (Jvm.Cond.methodLink "HabitRegistryLaw" (213 : Nat) ({ cls := "HabitRegistryLaw", name := "parentOf", desc := "(LHabitRegistry;I[J)I" } : Jvm.MethodName)) ∈ lw_all := lw_g (lw_at lw_m5 37 rfl) rfl
theorem q1073 : (Jvm.Cond.static ({ cls := "HabitRegistryLaw", name := "parentOf", desc := "(LHabitRegistry;I[J)I" } : Jvm.MethodName)) ∈ lw_all := lw_g (lw_at lw_m5 38 rfl) rfl
theorem q1074 : (Jvm.Cond.codeWith ({ cls := "HabitRegistryLaw", name := "parentOf", desc := "(LHabitRegistry;I[J)I" } : Jvm.MethodName) method_8_code (4 : Nat) (Option.some Jvm.ClassFile.FieldType.int) [((0 : Nat), (9 : Nat), (12 : Nat), (19 : Nat)), ((0 : Nat), (9 : Nat), (15 : Nat), (34 : Nat))]) ∈ lw_all := lw_g (lw_at lw_m5 39 rfl) rfl
theorem q1075 : (Jvm.Cond.classLink "HabitRegistryLaw" (34 : Nat) "java/util/NoSuchElementException") ∈ lw_all := lw_g (lw_at lw_m5 40 rfl) rfl
theorem q1076 : (Jvm.Cond.methodLink "HabitRegistryLaw" (31 : Nat) ({ cls := "HabitRegistry", name := "parentOf", desc := "(I)I" } : Jvm.MethodName)) ∈ lw_all := lw_g (lw_at lw_m5 41 rfl) rfl
theorem q1088 : (Jvm.Cond.methodLink "HabitRegistryLaw" (216 : Nat) ({ cls := "HabitRegistryLaw", name := "childCount", desc := "(LHabitRegistry;I[J)I" } : Jvm.MethodName)) ∈ lw_all := lw_g (lw_at lw_m5 53 rfl) rfl
theorem q1089 : (Jvm.Cond.static ({ cls := "HabitRegistryLaw", name := "childCount", desc := "(LHabitRegistry;I[J)I" } : Jvm.MethodName)) ∈ lw_all := lw_g (lw_at lw_m5 54 rfl) rfl
theorem q1090 : (Jvm.Cond.codeWith ({ cls := "HabitRegistryLaw", name := "childCount", desc := "(LHabitRegistry;I[J)I" } : Jvm.MethodName) method_9_code (4 : Nat) (Option.some Jvm.ClassFile.FieldType.int) [((0 : Nat), (9 : Nat), (12 : Nat), (19 : Nat))]) ∈ lw_all := lw_g (lw_at lw_m5 55 rfl) rfl
theorem q1091 : (Jvm.Cond.methodLink "HabitRegistryLaw" (36 : Nat) ({ cls := "HabitRegistry", name := "childCount", desc := "(I)I" } : Jvm.MethodName)) ∈ lw_all := lw_g (lw_at lw_m5 56 rfl) rfl
theorem q1095 : (Jvm.Cond.methodLink "HabitRegistryLaw" (219 : Nat) ({ cls := "HabitRegistryLaw", name := "childAt", desc := "(LHabitRegistry;II[J)I" } : Jvm.MethodName)) ∈ lw_all := lw_g (lw_at lw_m5 60 rfl) rfl
theorem q1096 : (Jvm.Cond.static ({ cls := "HabitRegistryLaw", name := "childAt", desc := "(LHabitRegistry;II[J)I" } : Jvm.MethodName)) ∈ lw_all := lw_g (lw_at lw_m5 61 rfl) rfl
theorem q1097 : (Jvm.Cond.codeWith ({ cls := "HabitRegistryLaw", name := "childAt", desc := "(LHabitRegistry;II[J)I" } : Jvm.MethodName) method_10_code (5 : Nat) (Option.some Jvm.ClassFile.FieldType.int) [((0 : Nat), (10 : Nat), (13 : Nat), (19 : Nat)), ((0 : Nat), (10 : Nat), (17 : Nat), (34 : Nat))]) ∈ lw_all := lw_g (lw_at lw_m5 62 rfl) rfl
theorem q1098 : (Jvm.Cond.methodLink "HabitRegistryLaw" (39 : Nat) ({ cls := "HabitRegistry", name := "childAt", desc := "(II)I" } : Jvm.MethodName)) ∈ lw_all := lw_g (lw_at lw_m5 63 rfl) rfl
theorem q1102 : (Jvm.Cond.methodLink "HabitRegistryLaw" (223 : Nat) ({ cls := "HabitRegistryLaw", name := "generation", desc := "(LHabitRegistry;I[J)I" } : Jvm.MethodName)) ∈ lw_all := lw_g (lw_at lw_m5 67 rfl) rfl
theorem q1103 : (Jvm.Cond.static ({ cls := "HabitRegistryLaw", name := "generation", desc := "(LHabitRegistry;I[J)I" } : Jvm.MethodName)) ∈ lw_all := lw_g (lw_at lw_m5 68 rfl) rfl
theorem q1104 : (Jvm.Cond.codeWith ({ cls := "HabitRegistryLaw", name := "generation", desc := "(LHabitRegistry;I[J)I" } : Jvm.MethodName) method_11_code (4 : Nat) (Option.some Jvm.ClassFile.FieldType.int) [((0 : Nat), (9 : Nat), (12 : Nat), (19 : Nat))]) ∈ lw_all := lw_g (lw_at lw_m5 69 rfl) rfl
theorem q1105 : (Jvm.Cond.methodLink "HabitRegistryLaw" (43 : Nat) ({ cls := "HabitRegistry", name := "generation", desc := "(I)I" } : Jvm.MethodName)) ∈ lw_all := lw_g (lw_at lw_m5 70 rfl) rfl
theorem q1110 : (Jvm.Cond.methodLink "HabitRegistryLaw" (226 : Nat) ({ cls := "HabitRegistryLaw", name := "livingDescendants", desc := "(LHabitRegistry;I[J)I" } : Jvm.MethodName)) ∈ lw_all := lw_g (lw_at lw_m5 75 rfl) rfl
theorem q1111 : (Jvm.Cond.static ({ cls := "HabitRegistryLaw", name := "livingDescendants", desc := "(LHabitRegistry;I[J)I" } : Jvm.MethodName)) ∈ lw_all := lw_g (lw_at lw_m5 76 rfl) rfl
theorem q1112 : (Jvm.Cond.codeWith ({ cls := "HabitRegistryLaw", name := "livingDescendants", desc := "(LHabitRegistry;I[J)I" } : Jvm.MethodName) method_12_code (4 : Nat) (Option.some Jvm.ClassFile.FieldType.int) [((0 : Nat), (9 : Nat), (12 : Nat), (19 : Nat))]) ∈ lw_all := lw_g (lw_at lw_m5 77 rfl) rfl
theorem q1113 : (Jvm.Cond.methodLink "HabitRegistryLaw" (46 : Nat) ({ cls := "HabitRegistry", name := "livingDescendants", desc := "(I)I" } : Jvm.MethodName)) ∈ lw_all := lw_g (lw_at lw_m5 78 rfl) rfl
theorem q1121 : (Jvm.Cond.methodLink "HabitRegistryLaw" (229 : Nat) ({ cls := "HabitRegistryLaw", name := "isAncestor", desc := "(LHabitRegistry;II[J)I" } : Jvm.MethodName)) ∈ lw_all := lw_g (lw_at lw_m5 86 rfl) rfl
theorem q1122 : (Jvm.Cond.static ({ cls := "HabitRegistryLaw", name := "isAncestor", desc := "(LHabitRegistry;II[J)I" } : Jvm.MethodName)) ∈ lw_all := lw_g (lw_at lw_m5 87 rfl) rfl
theorem q1123 : (Jvm.Cond.codeWith ({ cls := "HabitRegistryLaw", name := "isAncestor", desc := "(LHabitRegistry;II[J)I" } : Jvm.MethodName) method_13_code (5 : Nat) (Option.some Jvm.ClassFile.FieldType.int) [((0 : Nat), (17 : Nat), (20 : Nat), (19 : Nat))]) ∈ lw_all := lw_g (lw_at lw_m5 88 rfl) rfl
theorem q1124 : (Jvm.Cond.methodLink "HabitRegistryLaw" (49 : Nat) ({ cls := "HabitRegistry", name := "isAncestor", desc := "(II)Z" } : Jvm.MethodName)) ∈ lw_all := lw_g (lw_at lw_m5 89 rfl) rfl
theorem q1129 : (Jvm.Cond.methodLink "HabitRegistryLaw" (232 : Nat) ({ cls := "HabitRegistryLaw", name := "commonAncestor", desc := "(LHabitRegistry;II[J)I" } : Jvm.MethodName)) ∈ lw_all := lw_g (lw_at lw_m5 94 rfl) rfl
theorem q1130 : (Jvm.Cond.static ({ cls := "HabitRegistryLaw", name := "commonAncestor", desc := "(LHabitRegistry;II[J)I" } : Jvm.MethodName)) ∈ lw_all := lw_g (lw_at lw_m5 95 rfl) rfl
theorem q1131 : (Jvm.Cond.codeWith ({ cls := "HabitRegistryLaw", name := "commonAncestor", desc := "(LHabitRegistry;II[J)I" } : Jvm.MethodName) method_14_code (5 : Nat) (Option.some Jvm.ClassFile.FieldType.int) [((0 : Nat), (10 : Nat), (13 : Nat), (19 : Nat)), ((0 : Nat), (10 : Nat), (17 : Nat), (34 : Nat))]) ∈ lw_all := lw_g (lw_at lw_m5 96 rfl) rfl
theorem q1132 : (Jvm.Cond.methodLink "HabitRegistryLaw" (53 : Nat) ({ cls := "HabitRegistry", name := "commonAncestor", desc := "(II)I" } : Jvm.MethodName)) ∈ lw_all := lw_g (lw_at lw_m5 97 rfl) rfl
theorem q1137 : (Jvm.Cond.methodLink "HabitRegistryLaw" (235 : Nat) ({ cls := "HabitRegistryLaw", name := "distance", desc := "(LHabitRegistry;II[J)I" } : Jvm.MethodName)) ∈ lw_all := lw_g (lw_at lw_m5 102 rfl) rfl
theorem q1138 : (Jvm.Cond.static ({ cls := "HabitRegistryLaw", name := "distance", desc := "(LHabitRegistry;II[J)I" } : Jvm.MethodName)) ∈ lw_all := lw_g (lw_at lw_m5 103 rfl) rfl
theorem q1139 : (Jvm.Cond.codeWith ({ cls := "HabitRegistryLaw", name := "distance", desc := "(LHabitRegistry;II[J)I" } : Jvm.MethodName) method_15_code (5 : Nat) (Option.some Jvm.ClassFile.FieldType.int) [((0 : Nat), (10 : Nat), (13 : Nat), (19 : Nat)), ((0 : Nat), (10 : Nat), (17 : Nat), (34 : Nat))]) ∈ lw_all := lw_g (lw_at lw_m5 104 rfl) rfl
theorem q1140 : (Jvm.Cond.methodLink "HabitRegistryLaw" (56 : Nat) ({ cls := "HabitRegistry", name := "distance", desc := "(II)I" } : Jvm.MethodName)) ∈ lw_all := lw_g (lw_at lw_m5 105 rfl) rfl
theorem q1148 : (Jvm.Cond.methodLink "HabitRegistryLaw" (238 : Nat) ({ cls := "HabitRegistryLaw", name := "distanceBySearch", desc := "(LHabitRegistry;II[J)I" } : Jvm.MethodName)) ∈ lw_all := lw_g (lw_at lw_m5 113 rfl) rfl
theorem q1149 : (Jvm.Cond.static ({ cls := "HabitRegistryLaw", name := "distanceBySearch", desc := "(LHabitRegistry;II[J)I" } : Jvm.MethodName)) ∈ lw_all := lw_g (lw_at lw_m5 114 rfl) rfl
theorem q1150 : (Jvm.Cond.codeWith ({ cls := "HabitRegistryLaw", name := "distanceBySearch", desc := "(LHabitRegistry;II[J)I" } : Jvm.MethodName) method_16_code (5 : Nat) (Option.some Jvm.ClassFile.FieldType.int) [((0 : Nat), (10 : Nat), (13 : Nat), (19 : Nat)), ((0 : Nat), (10 : Nat), (17 : Nat), (34 : Nat))]) ∈ lw_all := lw_g (lw_at lw_m5 115 rfl) rfl
theorem q1151 : (Jvm.Cond.methodLink "HabitRegistryLaw" (59 : Nat) ({ cls := "HabitRegistry", name := "distanceBySearch", desc := "(II)I" } : Jvm.MethodName)) ∈ lw_all := lw_g (lw_at lw_m5 116 rfl) rfl
theorem q1156 : (Jvm.Cond.methodLink "HabitRegistryLaw" (241 : Nat) ({ cls := "HabitRegistryLaw", name := "heirOf", desc := "(LHabitRegistry;I[J)I" } : Jvm.MethodName)) ∈ lw_all := lw_g (lw_at lw_m5 121 rfl) rfl
theorem q1157 : (Jvm.Cond.static ({ cls := "HabitRegistryLaw", name := "heirOf", desc := "(LHabitRegistry;I[J)I" } : Jvm.MethodName)) ∈ lw_all := lw_g (lw_at lw_m5 122 rfl) rfl
theorem q1158 : (Jvm.Cond.codeWith ({ cls := "HabitRegistryLaw", name := "heirOf", desc := "(LHabitRegistry;I[J)I" } : Jvm.MethodName) method_17_code (4 : Nat) (Option.some Jvm.ClassFile.FieldType.int) [((0 : Nat), (9 : Nat), (12 : Nat), (19 : Nat)), ((0 : Nat), (9 : Nat), (15 : Nat), (34 : Nat))]) ∈ lw_all := lw_g (lw_at lw_m5 123 rfl) rfl
theorem q1159 : (Jvm.Cond.methodLink "HabitRegistryLaw" (62 : Nat) ({ cls := "HabitRegistry", name := "heirOf", desc := "(I)I" } : Jvm.MethodName)) ∈ lw_all := lw_g (lw_at lw_m5 124 rfl) rfl
theorem q1164 : (Jvm.Cond.methodLink "HabitRegistryLaw" (244 : Nat) ({ cls := "HabitRegistryLaw", name := "heirByComparison", desc := "(LHabitRegistry;I[J)I" } : Jvm.MethodName)) ∈ lw_all := lw_g (lw_at lw_m5 129 rfl) rfl
theorem q1165 : (Jvm.Cond.static ({ cls := "HabitRegistryLaw", name := "heirByComparison", desc := "(LHabitRegistry;I[J)I" } : Jvm.MethodName)) ∈ lw_all := lw_g (lw_at lw_m5 130 rfl) rfl
theorem q1166 : (Jvm.Cond.codeWith ({ cls := "HabitRegistryLaw", name := "heirByComparison", desc := "(LHabitRegistry;I[J)I" } : Jvm.MethodName) method_18_code (4 : Nat) (Option.some Jvm.ClassFile.FieldType.int) [((0 : Nat), (9 : Nat), (12 : Nat), (19 : Nat)), ((0 : Nat), (9 : Nat), (15 : Nat), (34 : Nat))]) ∈ lw_all := lw_g (lw_at lw_m5 131 rfl) rfl
theorem q1167 : (Jvm.Cond.methodLink "HabitRegistryLaw" (65 : Nat) ({ cls := "HabitRegistry", name := "heirByComparison", desc := "(I)I" } : Jvm.MethodName)) ∈ lw_all := lw_g (lw_at lw_m5 132 rfl) rfl
theorem q1172 : (Jvm.Cond.methodLink "HabitRegistryLaw" (247 : Nat) ({ cls := "HabitRegistryLaw", name := "directHeirOf", desc := "(LHabitRegistry;I[J)I" } : Jvm.MethodName)) ∈ lw_all := lw_g (lw_at lw_m5 137 rfl) rfl
theorem q1173 : (Jvm.Cond.static ({ cls := "HabitRegistryLaw", name := "directHeirOf", desc := "(LHabitRegistry;I[J)I" } : Jvm.MethodName)) ∈ lw_all := lw_g (lw_at lw_m5 138 rfl) rfl
theorem q1174 : (Jvm.Cond.codeWith ({ cls := "HabitRegistryLaw", name := "directHeirOf", desc := "(LHabitRegistry;I[J)I" } : Jvm.MethodName) method_19_code (4 : Nat) (Option.some Jvm.ClassFile.FieldType.int) [((0 : Nat), (9 : Nat), (12 : Nat), (19 : Nat)), ((0 : Nat), (9 : Nat), (15 : Nat), (34 : Nat))]) ∈ lw_all := lw_g (lw_at lw_m5 139 rfl) rfl
theorem q1175 : (Jvm.Cond.methodLink "HabitRegistryLaw" (68 : Nat) ({ cls := "HabitRegistry", name := "directHeirOf", desc := "(I)I" } : Jvm.MethodName)) ∈ lw_all := lw_g (lw_at lw_m5 140 rfl) rfl
theorem q1180 : (Jvm.Cond.methodLink "HabitRegistryLaw" (250 : Nat) ({ cls := "HabitRegistryLaw", name := "successionPosition", desc := "(LHabitRegistry;I[J)I" } : Jvm.MethodName)) ∈ lw_all := lw_g (lw_at lw_m5 145 rfl) rfl
theorem q1181 : (Jvm.Cond.static ({ cls := "HabitRegistryLaw", name := "successionPosition", desc := "(LHabitRegistry;I[J)I" } : Jvm.MethodName)) ∈ lw_all := lw_g (lw_at lw_m5 146 rfl) rfl
theorem q1182 : (Jvm.Cond.codeWith ({ cls := "HabitRegistryLaw", name := "successionPosition", desc := "(LHabitRegistry;I[J)I" } : Jvm.MethodName) method_20_code (4 : Nat) (Option.some Jvm.ClassFile.FieldType.int) [((0 : Nat), (9 : Nat), (12 : Nat), (19 : Nat))]) ∈ lw_all := lw_g (lw_at lw_m5 147 rfl) rfl
theorem q1183 : (Jvm.Cond.methodLink "HabitRegistryLaw" (71 : Nat) ({ cls := "HabitRegistry", name := "successionPosition", desc := "(I)I" } : Jvm.MethodName)) ∈ lw_all := lw_g (lw_at lw_m5 148 rfl) rfl
theorem q1191 : (Jvm.Cond.methodLink "HabitRegistryLaw" (253 : Nat) ({ cls := "HabitRegistryLaw", name := "addHabit", desc := "(LHabitRegistry;ICI[J)I" } : Jvm.MethodName)) ∈ lw_all := lw_g (lw_at lw_m5 156 rfl) rfl
theorem q1192 : (Jvm.Cond.static ({ cls := "HabitRegistryLaw", name := "addHabit", desc := "(LHabitRegistry;ICI[J)I" } : Jvm.MethodName)) ∈ lw_all := lw_g (lw_at lw_m5 157 rfl) rfl
theorem q1193 : (Jvm.Cond.codeWith ({ cls := "HabitRegistryLaw", name := "addHabit", desc := "(LHabitRegistry;ICI[J)I" } : Jvm.MethodName) method_21_code (6 : Nat) (Option.some Jvm.ClassFile.FieldType.int) [((0 : Nat), (12 : Nat), (15 : Nat), (19 : Nat)), ((0 : Nat), (12 : Nat), (19 : Nat), (78 : Nat)), ((0 : Nat), (12 : Nat), (23 : Nat), (13 : Nat))]) ∈ lw_all := lw_g (lw_at lw_m5 158 rfl) rfl
theorem q1194 : (Jvm.Cond.classLink "HabitRegistryLaw" (78 : Nat) "java/lang/IllegalArgumentException") ∈ lw_all := lw_g (lw_at lw_m5 159 rfl) rfl
theorem q1195 : (Jvm.Cond.methodLink "HabitRegistryLaw" (74 : Nat) ({ cls := "HabitRegistry", name := "addHabit", desc := "(ICI)I" } : Jvm.MethodName)) ∈ lw_all := lw_g (lw_at lw_m5 160 rfl) rfl
theorem q1262 : (Jvm.Cond.methodLink "HabitRegistryLaw" (257 : Nat) ({ cls := "HabitRegistryLaw", name := "practise", desc := "(LHabitRegistry;I[J)I" } : Jvm.MethodName)) ∈ lw_all := lw_g (lw_at lw_m5 227 rfl) rfl
theorem q1263 : (Jvm.Cond.static ({ cls := "HabitRegistryLaw", name := "practise", desc := "(LHabitRegistry;I[J)I" } : Jvm.MethodName)) ∈ lw_all := lw_g (lw_at lw_m5 228 rfl) rfl
theorem q1264 : (Jvm.Cond.codeWith ({ cls := "HabitRegistryLaw", name := "practise", desc := "(LHabitRegistry;I[J)I" } : Jvm.MethodName) method_22_code (4 : Nat) (Option.some Jvm.ClassFile.FieldType.int) [((0 : Nat), (9 : Nat), (12 : Nat), (19 : Nat)), ((0 : Nat), (9 : Nat), (15 : Nat), (13 : Nat))]) ∈ lw_all := lw_g (lw_at lw_m5 229 rfl) rfl
theorem q1265 : (Jvm.Cond.methodLink "HabitRegistryLaw" (80 : Nat) ({ cls := "HabitRegistry", name := "practise", desc := "(I)I" } : Jvm.MethodName)) ∈ lw_all := lw_g (lw_at lw_m5 230 rfl) rfl
theorem q1270 : (Jvm.Cond.methodLink "HabitRegistryLaw" (260 : Nat) ({ cls := "HabitRegistryLaw", name := "neglect", desc := "(LHabitRegistry;I[J)I" } : Jvm.MethodName)) ∈ lw_all := lw_g (lw_at lw_m5 235 rfl) rfl
theorem q1271 : (Jvm.Cond.static ({ cls := "HabitRegistryLaw", name := "neglect", desc := "(LHabitRegistry;I[J)I" } : Jvm.MethodName)) ∈ lw_all := lw_g (lw_at lw_m5 236 rfl) rfl
theorem q1272 : (Jvm.Cond.codeWith ({ cls := "HabitRegistryLaw", name := "neglect", desc := "(LHabitRegistry;I[J)I" } : Jvm.MethodName) method_23_code (4 : Nat) (Option.some Jvm.ClassFile.FieldType.int) [((0 : Nat), (9 : Nat), (12 : Nat), (19 : Nat)), ((0 : Nat), (9 : Nat), (15 : Nat), (13 : Nat))]) ∈ lw_all := lw_g (lw_at lw_m5 237 rfl) rfl
theorem q1273 : (Jvm.Cond.methodLink "HabitRegistryLaw" (83 : Nat) ({ cls := "HabitRegistry", name := "neglect", desc := "(I)I" } : Jvm.MethodName)) ∈ lw_all := lw_g (lw_at lw_m5 238 rfl) rfl
theorem q1277 : (Jvm.Cond.methodLink "HabitRegistryLaw" (263 : Nat) ({ cls := "HabitRegistryLaw", name := "entail", desc := "(LHabitRegistry;I[J)I" } : Jvm.MethodName)) ∈ lw_all := lw_g (lw_at lw_m6 2 rfl) rfl
theorem q1278 : (Jvm.Cond.static ({ cls := "HabitRegistryLaw", name := "entail", desc := "(LHabitRegistry;I[J)I" } : Jvm.MethodName)) ∈ lw_all := lw_g (lw_at lw_m6 3 rfl) rfl
theorem q1279 : (Jvm.Cond.codeWith ({ cls := "HabitRegistryLaw", name := "entail", desc := "(LHabitRegistry;I[J)I" } : Jvm.MethodName) method_24_code (4 : Nat) (Option.some Jvm.ClassFile.FieldType.int) [((0 : Nat), (9 : Nat), (12 : Nat), (19 : Nat)), ((0 : Nat), (9 : Nat), (15 : Nat), (13 : Nat))]) ∈ lw_all := lw_g (lw_at lw_m6 4 rfl) rfl
theorem q1280 : (Jvm.Cond.methodLink "HabitRegistryLaw" (86 : Nat) ({ cls := "HabitRegistry", name := "entail", desc := "(I)I" } : Jvm.MethodName)) ∈ lw_all := lw_g (lw_at lw_m6 5 rfl) rfl
theorem q1284 : (Jvm.Cond.methodLink "HabitRegistryLaw" (266 : Nat) ({ cls := "HabitRegistryLaw", name := "breakEntail", desc := "(LHabitRegistry;I[J)I" } : Jvm.MethodName)) ∈ lw_all := lw_g (lw_at lw_m6 9 rfl) rfl
theorem q1285 : (Jvm.Cond.static ({ cls := "HabitRegistryLaw", name := "breakEntail", desc := "(LHabitRegistry;I[J)I" } : Jvm.MethodName)) ∈ lw_all := lw_g (lw_at lw_m6 10 rfl) rfl
theorem q1286 : (Jvm.Cond.codeWith ({ cls := "HabitRegistryLaw", name := "breakEntail", desc := "(LHabitRegistry;I[J)I" } : Jvm.MethodName) method_25_code (4 : Nat) (Option.some Jvm.ClassFile.FieldType.int) [((0 : Nat), (9 : Nat), (12 : Nat), (19 : Nat)), ((0 : Nat), (9 : Nat), (15 : Nat), (13 : Nat))]) ∈ lw_all := lw_g (lw_at lw_m6 11 rfl) rfl
theorem q1287 : (Jvm.Cond.methodLink "HabitRegistryLaw" (89 : Nat) ({ cls := "HabitRegistry", name := "breakEntail", desc := "(I)I" } : Jvm.MethodName)) ∈ lw_all := lw_g (lw_at lw_m6 12 rfl) rfl
theorem q1291 : (Jvm.Cond.methodLink "HabitRegistryLaw" (269 : Nat) ({ cls := "HabitRegistryLaw", name := "give", desc := "(LHabitRegistry;II[J)I" } : Jvm.MethodName)) ∈ lw_all := lw_g (lw_at lw_m6 16 rfl) rfl
theorem q1292 : (Jvm.Cond.static ({ cls := "HabitRegistryLaw", name := "give", desc := "(LHabitRegistry;II[J)I" } : Jvm.MethodName)) ∈ lw_all := lw_g (lw_at lw_m6 17 rfl) rfl
theorem q1293 : (Jvm.Cond.codeWith ({ cls := "HabitRegistryLaw", name := "give", desc := "(LHabitRegistry;II[J)I" } : Jvm.MethodName) method_26_code (5 : Nat) (Option.some Jvm.ClassFile.FieldType.int) [((0 : Nat), (10 : Nat), (13 : Nat), (19 : Nat)), ((0 : Nat), (10 : Nat), (17 : Nat), (13 : Nat))]) ∈ lw_all := lw_g (lw_at lw_m6 18 rfl) rfl
theorem q1294 : (Jvm.Cond.methodLink "HabitRegistryLaw" (92 : Nat) ({ cls := "HabitRegistry", name := "give", desc := "(II)I" } : Jvm.MethodName)) ∈ lw_all := lw_g (lw_at lw_m6 19 rfl) rfl
theorem q1298 : (Jvm.Cond.methodLink "HabitRegistryLaw" (276 : Nat) ({ cls := "HabitRegistryLaw", name := "kindOf", desc := "(LHabitRegistry;I[J)I" } : Jvm.MethodName)) ∈ lw_all := lw_g (lw_at lw_m6 23 rfl) rfl
theorem q1299 : (Jvm.Cond.static ({ cls := "HabitRegistryLaw", name := "kindOf", desc := "(LHabitRegistry;I[J)I" } : Jvm.MethodName)) ∈ lw_all := lw_g (lw_at lw_m6 24 rfl) rfl
theorem q1300 : (Jvm.Cond.codeWith ({ cls := "HabitRegistryLaw", name := "kindOf", desc := "(LHabitRegistry;I[J)I" } : Jvm.MethodName) method_27_code (4 : Nat) (Option.some Jvm.ClassFile.FieldType.int) [((0 : Nat), (9 : Nat), (12 : Nat), (19 : Nat))]) ∈ lw_all := lw_g (lw_at lw_m6 25 rfl) rfl
theorem q1301 : (Jvm.Cond.methodLink "HabitRegistryLaw" (95 : Nat) ({ cls := "HabitRegistry", name := "kindOf", desc := "(I)C" } : Jvm.MethodName)) ∈ lw_all := lw_g (lw_at lw_m6 26 rfl) rfl
theorem q1310 : (Jvm.Cond.methodLink "HabitRegistryLaw" (279 : Nat) ({ cls := "HabitRegistryLaw", name := "strengthOf", desc := "(LHabitRegistry;I[J)I" } : Jvm.MethodName)) ∈ lw_all := lw_g (lw_at lw_m6 35 rfl) rfl
theorem q1311 : (Jvm.Cond.static ({ cls := "HabitRegistryLaw", name := "strengthOf", desc := "(LHabitRegistry;I[J)I" } : Jvm.MethodName)) ∈ lw_all := lw_g (lw_at lw_m6 36 rfl) rfl
theorem q1312 : (Jvm.Cond.codeWith ({ cls := "HabitRegistryLaw", name := "strengthOf", desc := "(LHabitRegistry;I[J)I" } : Jvm.MethodName) method_28_code (4 : Nat) (Option.some Jvm.ClassFile.FieldType.int) [((0 : Nat), (9 : Nat), (12 : Nat), (19 : Nat))]) ∈ lw_all := lw_g (lw_at lw_m6 37 rfl) rfl
theorem q1313 : (Jvm.Cond.methodLink "HabitRegistryLaw" (99 : Nat) ({ cls := "HabitRegistry", name := "strengthOf", desc := "(I)I" } : Jvm.MethodName)) ∈ lw_all := lw_g (lw_at lw_m6 38 rfl) rfl
theorem q1317 : (Jvm.Cond.methodLink "HabitRegistryLaw" (282 : Nat) ({ cls := "HabitRegistryLaw", name := "holderOf", desc := "(LHabitRegistry;I[J)I" } : Jvm.MethodName)) ∈ lw_all := lw_g (lw_at lw_m6 42 rfl) rfl
theorem q1318 : (Jvm.Cond.static ({ cls := "HabitRegistryLaw", name := "holderOf", desc := "(LHabitRegistry;I[J)I" } : Jvm.MethodName)) ∈ lw_all := lw_g (lw_at lw_m6 43 rfl) rfl
theorem q1319 : (Jvm.Cond.codeWith ({ cls := "HabitRegistryLaw", name := "holderOf", desc := "(LHabitRegistry;I[J)I" } : Jvm.MethodName) method_29_code (4 : Nat) (Option.some Jvm.ClassFile.FieldType.int) [((0 : Nat), (9 : Nat), (12 : Nat), (19 : Nat)), ((0 : Nat), (9 : Nat), (15 : Nat), (34 : Nat))]) ∈ lw_all := lw_g (lw_at lw_m6 44 rfl) rfl
theorem q1320 : (Jvm.Cond.methodLink "HabitRegistryLaw" (102 : Nat) ({ cls := "HabitRegistry", name := "holderOf", desc := "(I)I" } : Jvm.MethodName)) ∈ lw_all := lw_g (lw_at lw_m6 45 rfl) rfl
theorem q1324 : (Jvm.Cond.methodLink "HabitRegistryLaw" (285 : Nat) ({ cls := "HabitRegistryLaw", name := "isExtinct", desc := "(LHabitRegistry;I[J)I" } : Jvm.MethodName)) ∈ lw_all := lw_g (lw_at lw_m6 49 rfl) rfl
theorem q1325 : (Jvm.Cond.static ({ cls := "HabitRegistryLaw", name := "isExtinct", desc := "(LHabitRegistry;I[J)I" } : Jvm.MethodName)) ∈ lw_all := lw_g (lw_at lw_m6 50 rfl) rfl
theorem q1326 : (Jvm.Cond.codeWith ({ cls := "HabitRegistryLaw", name := "isExtinct", desc := "(LHabitRegistry;I[J)I" } : Jvm.MethodName) method_30_code (4 : Nat) (Option.some Jvm.ClassFile.FieldType.int) [((0 : Nat), (16 : Nat), (19 : Nat), (19 : Nat))]) ∈ lw_all := lw_g (lw_at lw_m6 51 rfl) rfl
theorem q1327 : (Jvm.Cond.methodLink "HabitRegistryLaw" (105 : Nat) ({ cls := "HabitRegistry", name := "isExtinct", desc := "(I)Z" } : Jvm.MethodName)) ∈ lw_all := lw_g (lw_at lw_m6 52 rfl) rfl
theorem q1332 : (Jvm.Cond.methodLink "HabitRegistryLaw" (288 : Nat) ({ cls := "HabitRegistryLaw", name := "isEntailed", desc := "(LHabitRegistry;I[J)I" } : Jvm.MethodName)) ∈ lw_all := lw_g (lw_at lw_m6 57 rfl) rfl
theorem q1333 : (Jvm.Cond.static ({ cls := "HabitRegistryLaw", name := "isEntailed", desc := "(LHabitRegistry;I[J)I" } : Jvm.MethodName)) ∈ lw_all := lw_g (lw_at lw_m6 58 rfl) rfl
theorem q1334 : (Jvm.Cond.codeWith ({ cls := "HabitRegistryLaw", name := "isEntailed", desc := "(LHabitRegistry;I[J)I" } : Jvm.MethodName) method_31_code (4 : Nat) (Option.some Jvm.ClassFile.FieldType.int) [((0 : Nat), (16 : Nat), (19 : Nat), (19 : Nat))]) ∈ lw_all := lw_g (lw_at lw_m6 59 rfl) rfl
theorem q1335 : (Jvm.Cond.methodLink "HabitRegistryLaw" (108 : Nat) ({ cls := "HabitRegistry", name := "isEntailed", desc := "(I)Z" } : Jvm.MethodName)) ∈ lw_all := lw_g (lw_at lw_m6 60 rfl) rfl
theorem q1339 : (Jvm.Cond.methodLink "HabitRegistryLaw" (291 : Nat) ({ cls := "HabitRegistryLaw", name := "isPractised", desc := "(LHabitRegistry;I[J)I" } : Jvm.MethodName)) ∈ lw_all := lw_g (lw_at lw_m6 64 rfl) rfl
theorem q1340 : (Jvm.Cond.static ({ cls := "HabitRegistryLaw", name := "isPractised", desc := "(LHabitRegistry;I[J)I" } : Jvm.MethodName)) ∈ lw_all := lw_g (lw_at lw_m6 65 rfl) rfl
theorem q1341 : (Jvm.Cond.codeWith ({ cls := "HabitRegistryLaw", name := "isPractised", desc := "(LHabitRegistry;I[J)I" } : Jvm.MethodName) method_32_code (4 : Nat) (Option.some Jvm.ClassFile.FieldType.int) [((0 : Nat), (16 : Nat), (19 : Nat), (19 : Nat))]) ∈ lw_all := lw_g (lw_at lw_m6 66 rfl) rfl
theorem q1342 : (Jvm.Cond.methodLink "HabitRegistryLaw" (111 : Nat) ({ cls := "HabitRegistry", name := "isPractised", desc := "(I)Z" } : Jvm.MethodName)) ∈ lw_all := lw_g (lw_at lw_m6 67 rfl) rfl
theorem q1346 : (Jvm.Cond.methodLink "HabitRegistryLaw" (294 : Nat) ({ cls := "HabitRegistryLaw", name := "habitOf", desc := "(LHabitRegistry;IC[J)I" } : Jvm.MethodName)) ∈ lw_all := lw_g (lw_at lw_m6 71 rfl) rfl
theorem q1347 : (Jvm.Cond.static ({ cls := "HabitRegistryLaw", name := "habitOf", desc := "(LHabitRegistry;IC[J)I" } : Jvm.MethodName)) ∈ lw_all := lw_g (lw_at lw_m6 72 rfl) rfl
theorem q1348 : (Jvm.Cond.codeWith ({ cls := "HabitRegistryLaw", name := "habitOf", desc := "(LHabitRegistry;IC[J)I" } : Jvm.MethodName) method_33_code (5 : Nat) (Option.some Jvm.ClassFile.FieldType.int) [((0 : Nat), (10 : Nat), (13 : Nat), (19 : Nat)), ((0 : Nat), (10 : Nat), (17 : Nat), (78 : Nat)), ((0 : Nat), (10 : Nat), (21 : Nat), (34 : Nat))]) ∈ lw_all := lw_g (lw_at lw_m6 73 rfl) rfl
theorem q1349 : (Jvm.Cond.methodLink "HabitRegistryLaw" (114 : Nat) ({ cls := "HabitRegistry", name := "habitOf", desc := "(IC)I" } : Jvm.MethodName)) ∈ lw_all := lw_g (lw_at lw_m6 74 rfl) rfl
theorem q1354 : (Jvm.Cond.methodLink "HabitRegistryLaw" (298 : Nat) ({ cls := "HabitRegistryLaw", name := "habitStrength", desc := "(LHabitRegistry;I[J)I" } : Jvm.MethodName)) ∈ lw_all := lw_g (lw_at lw_m6 79 rfl) rfl
theorem q1355 : (Jvm.Cond.static ({ cls := "HabitRegistryLaw", name := "habitStrength", desc := "(LHabitRegistry;I[J)I" } : Jvm.MethodName)) ∈ lw_all := lw_g (lw_at lw_m6 80 rfl) rfl
theorem q1356 : (Jvm.Cond.codeWith ({ cls := "HabitRegistryLaw", name := "habitStrength", desc := "(LHabitRegistry;I[J)I" } : Jvm.MethodName) method_34_code (4 : Nat) (Option.some Jvm.ClassFile.FieldType.int) [((0 : Nat), (9 : Nat), (12 : Nat), (19 : Nat))]) ∈ lw_all := lw_g (lw_at lw_m6 81 rfl) rfl
theorem q1357 : (Jvm.Cond.methodLink "HabitRegistryLaw" (118 : Nat) ({ cls := "HabitRegistry", name := "habitStrength", desc := "(I)I" } : Jvm.MethodName)) ∈ lw_all := lw_g (lw_at lw_m6 82 rfl) rfl
theorem q1362 : (Jvm.Cond.methodLink "HabitRegistryLaw" (301 : Nat) ({ cls := "HabitRegistryLaw", name := "passYears", desc := "(LHabitRegistry;I[J)I" } : Jvm.MethodName)) ∈ lw_all := lw_g (lw_at lw_m6 87 rfl) rfl
theorem q1363 : (Jvm.Cond.static ({ cls := "HabitRegistryLaw", name := "passYears", desc := "(LHabitRegistry;I[J)I" } : Jvm.MethodName)) ∈ lw_all := lw_g (lw_at lw_m6 88 rfl) rfl
theorem q1364 : (Jvm.Cond.codeWith ({ cls := "HabitRegistryLaw", name := "passYears", desc := "(LHabitRegistry;I[J)I" } : Jvm.MethodName) method_35_code (4 : Nat) (Option.some Jvm.ClassFile.FieldType.int) [((0 : Nat), (9 : Nat), (12 : Nat), (78 : Nat))]) ∈ lw_all := lw_g (lw_at lw_m6 89 rfl) rfl
theorem q1365 : (Jvm.Cond.methodLink "HabitRegistryLaw" (121 : Nat) ({ cls := "HabitRegistry", name := "passYears", desc := "(I)I" } : Jvm.MethodName)) ∈ lw_all := lw_g (lw_at lw_m6 90 rfl) rfl
theorem q1370 : (Jvm.Cond.methodLink "HabitRegistryLaw" (308 : Nat) ({ cls := "HabitRegistryLaw", name := "yearsLeft", desc := "(LHabitRegistry;I[J)I" } : Jvm.MethodName)) ∈ lw_all := lw_g (lw_at lw_m6 95 rfl) rfl
theorem q1371 : (Jvm.Cond.static ({ cls := "HabitRegistryLaw", name := "yearsLeft", desc := "(LHabitRegistry;I[J)I" } : Jvm.MethodName)) ∈ lw_all := lw_g (lw_at lw_m6 96 rfl) rfl
theorem q1372 : (Jvm.Cond.codeWith ({ cls := "HabitRegistryLaw", name := "yearsLeft", desc := "(LHabitRegistry;I[J)I" } : Jvm.MethodName) method_36_code (4 : Nat) (Option.some Jvm.ClassFile.FieldType.int) [((0 : Nat), (9 : Nat), (12 : Nat), (19 : Nat)), ((0 : Nat), (9 : Nat), (15 : Nat), (34 : Nat))]) ∈ lw_all := lw_g (lw_at lw_m6 97 rfl) rfl
theorem q1373 : (Jvm.Cond.methodLink "HabitRegistryLaw" (124 : Nat) ({ cls := "HabitRegistry", name := "yearsLeft", desc := "(I)I" } : Jvm.MethodName)) ∈ lw_all := lw_g (lw_at lw_m6 98 rfl) rfl
theorem q1378 : (Jvm.Cond.methodLink "HabitRegistryLaw" (331 : Nat) ({ cls := "HabitRegistryLaw", name := "habitByStrength", desc := "(LHabitRegistry;I[J)I" } : Jvm.MethodName)) ∈ lw_all := lw_g (lw_at lw_m6 103 rfl) rfl
theorem q1379 : (Jvm.Cond.static ({ cls := "HabitRegistryLaw", name := "habitByStrength", desc := "(LHabitRegistry;I[J)I" } : Jvm.MethodName)) ∈ lw_all := lw_g (lw_at lw_m6 104 rfl) rfl
theorem q1380 : (Jvm.Cond.codeWith ({ cls := "HabitRegistryLaw", name := "habitByStrength", desc := "(LHabitRegistry;I[J)I" } : Jvm.MethodName) method_37_code (4 : Nat) (Option.some Jvm.ClassFile.FieldType.int) [((0 : Nat), (9 : Nat), (12 : Nat), (34 : Nat))]) ∈ lw_all := lw_g (lw_at lw_m6 105 rfl) rfl
theorem q1381 : (Jvm.Cond.methodLink "HabitRegistryLaw" (127 : Nat) ({ cls := "HabitRegistry", name := "habitByStrength", desc := "(I)I" } : Jvm.MethodName)) ∈ lw_all := lw_g (lw_at lw_m6 106 rfl) rfl
theorem q1398 : (Jvm.Cond.methodLink "HabitRegistryLaw" (334 : Nat) ({ cls := "HabitRegistryLaw", name := "personByStrength", desc := "(LHabitRegistry;I[J)I" } : Jvm.MethodName)) ∈ lw_all := lw_g (lw_at lw_m6 123 rfl) rfl
theorem q1399 : (Jvm.Cond.static ({ cls := "HabitRegistryLaw", name := "personByStrength", desc := "(LHabitRegistry;I[J)I" } : Jvm.MethodName)) ∈ lw_all := lw_g (lw_at lw_m6 124 rfl) rfl
theorem q1400 : (Jvm.Cond.codeWith ({ cls := "HabitRegistryLaw", name := "personByStrength", desc := "(LHabitRegistry;I[J)I" } : Jvm.MethodName) method_38_code (4 : Nat) (Option.some Jvm.ClassFile.FieldType.int) [((0 : Nat), (9 : Nat), (12 : Nat), (34 : Nat))]) ∈ lw_all := lw_g (lw_at lw_m6 125 rfl) rfl
theorem q1401 : (Jvm.Cond.methodLink "HabitRegistryLaw" (130 : Nat) ({ cls := "HabitRegistry", name := "personByStrength", desc := "(I)I" } : Jvm.MethodName)) ∈ lw_all := lw_g (lw_at lw_m6 126 rfl) rfl
theorem q1409 : (Jvm.Cond.methodLink "HabitRegistryLaw" (337 : Nat) ({ cls := "HabitRegistryLaw", name := "meanStrength", desc := "(LHabitRegistry;[D)I" } : Jvm.MethodName)) ∈ lw_all := lw_g (lw_at lw_m6 134 rfl) rfl
theorem q1410 : (Jvm.Cond.static ({ cls := "HabitRegistryLaw", name := "meanStrength", desc := "(LHabitRegistry;[D)I" } : Jvm.MethodName)) ∈ lw_all := lw_g (lw_at lw_m6 135 rfl) rfl
theorem q1411 : (Jvm.Cond.codeWith ({ cls := "HabitRegistryLaw", name := "meanStrength", desc := "(LHabitRegistry;[D)I" } : Jvm.MethodName) method_39_code (3 : Nat) (Option.some Jvm.ClassFile.FieldType.int) [((0 : Nat), (7 : Nat), (10 : Nat), (137 : Nat))]) ∈ lw_all := lw_g (lw_at lw_m6 136 rfl) rfl
theorem q1412 : (Jvm.Cond.classLink "HabitRegistryLaw" (137 : Nat) "java/lang/ArithmeticException") ∈ lw_all := lw_g (lw_at lw_m6 137 rfl) rfl
theorem q1426 : (Jvm.Cond.methodLink "HabitRegistryLaw" (133 : Nat) ({ cls := "HabitRegistry", name := "meanStrength", desc := "()D" } : Jvm.MethodName)) ∈ lw_all := lw_g (lw_at lw_m6 151 rfl) rfl
theorem q1439 : (Jvm.Cond.methodLink "HabitRegistryLaw" (341 : Nat) ({ cls := "HabitRegistryLaw", name := "livingShare", desc := "(LHabitRegistry;[D)I" } : Jvm.MethodName)) ∈ lw_all := lw_g (lw_at lw_m6 164 rfl) rfl
theorem q1440 : (Jvm.Cond.static ({ cls := "HabitRegistryLaw", name := "livingShare", desc := "(LHabitRegistry;[D)I" } : Jvm.MethodName)) ∈ lw_all := lw_g (lw_at lw_m6 165 rfl) rfl
theorem q1441 : (Jvm.Cond.codeWith ({ cls := "HabitRegistryLaw", name := "livingShare", desc := "(LHabitRegistry;[D)I" } : Jvm.MethodName) method_40_code (3 : Nat) (Option.some Jvm.ClassFile.FieldType.int) [((0 : Nat), (8 : Nat), (11 : Nat), (137 : Nat))]) ∈ lw_all := lw_g (lw_at lw_m6 166 rfl) rfl
theorem q1442 : (Jvm.Cond.methodLink "HabitRegistryLaw" (139 : Nat) ({ cls := "HabitRegistry", name := "livingShare", desc := "()F" } : Jvm.MethodName)) ∈ lw_all := lw_g (lw_at lw_m6 167 rfl) rfl
theorem q1448 : (Jvm.Cond.methodLink "HabitRegistryLaw" (349 : Nat) ({ cls := "HabitRegistryLaw", name := "writePerson", desc := "(LHabitRegistry;I[J)I" } : Jvm.MethodName)) ∈ lw_all := lw_g (lw_at lw_m6 173 rfl) rfl
theorem q1449 : (Jvm.Cond.static ({ cls := "HabitRegistryLaw", name := "writePerson", desc := "(LHabitRegistry;I[J)I" } : Jvm.MethodName)) ∈ lw_all := lw_g (lw_at lw_m6 174 rfl) rfl
theorem q1450 : (Jvm.Cond.codeWith ({ cls := "HabitRegistryLaw", name := "writePerson", desc := "(LHabitRegistry;I[J)I" } : Jvm.MethodName) method_41_code (4 : Nat) (Option.some Jvm.ClassFile.FieldType.int) [((0 : Nat), (9 : Nat), (12 : Nat), (19 : Nat))]) ∈ lw_all := lw_g (lw_at lw_m6 175 rfl) rfl
theorem q1451 : (Jvm.Cond.methodLink "HabitRegistryLaw" (143 : Nat) ({ cls := "HabitRegistry", name := "writePerson", desc := "(I)I" } : Jvm.MethodName)) ∈ lw_all := lw_g (lw_at lw_m6 176 rfl) rfl
theorem q1641 : (Jvm.Cond.methodLink "HabitRegistryLaw" (352 : Nat) ({ cls := "HabitRegistryLaw", name := "writeLine", desc := "(LHabitRegistry;I[J)I" } : Jvm.MethodName)) ∈ lw_all := lw_g (lw_at lw_m7 126 rfl) rfl
theorem q1642 : (Jvm.Cond.static ({ cls := "HabitRegistryLaw", name := "writeLine", desc := "(LHabitRegistry;I[J)I" } : Jvm.MethodName)) ∈ lw_all := lw_g (lw_at lw_m7 127 rfl) rfl
theorem q1643 : (Jvm.Cond.codeWith ({ cls := "HabitRegistryLaw", name := "writeLine", desc := "(LHabitRegistry;I[J)I" } : Jvm.MethodName) method_42_code (4 : Nat) (Option.some Jvm.ClassFile.FieldType.int) [((0 : Nat), (9 : Nat), (12 : Nat), (19 : Nat))]) ∈ lw_all := lw_g (lw_at lw_m7 128 rfl) rfl
theorem q1644 : (Jvm.Cond.methodLink "HabitRegistryLaw" (146 : Nat) ({ cls := "HabitRegistry", name := "writeLine", desc := "(I)I" } : Jvm.MethodName)) ∈ lw_all := lw_g (lw_at lw_m7 129 rfl) rfl
theorem q1648 : (Jvm.Cond.methodLink "HabitRegistryLaw" (355 : Nat) ({ cls := "HabitRegistryLaw", name := "outputAt", desc := "(LHabitRegistry;I[J)I" } : Jvm.MethodName)) ∈ lw_all := lw_g (lw_at lw_m7 133 rfl) rfl
theorem q1649 : (Jvm.Cond.static ({ cls := "HabitRegistryLaw", name := "outputAt", desc := "(LHabitRegistry;I[J)I" } : Jvm.MethodName)) ∈ lw_all := lw_g (lw_at lw_m7 134 rfl) rfl
theorem q1650 : (Jvm.Cond.codeWith ({ cls := "HabitRegistryLaw", name := "outputAt", desc := "(LHabitRegistry;I[J)I" } : Jvm.MethodName) method_43_code (4 : Nat) (Option.some Jvm.ClassFile.FieldType.int) [((0 : Nat), (9 : Nat), (12 : Nat), (19 : Nat))]) ∈ lw_all := lw_g (lw_at lw_m7 135 rfl) rfl
theorem q1651 : (Jvm.Cond.methodLink "HabitRegistryLaw" (149 : Nat) ({ cls := "HabitRegistry", name := "outputAt", desc := "(I)C" } : Jvm.MethodName)) ∈ lw_all := lw_g (lw_at lw_m7 136 rfl) rfl
theorem q1655 : (Jvm.Cond.methodLink "HabitRegistryLaw" (358 : Nat) ({ cls := "HabitRegistryLaw", name := "appendInput", desc := "(LHabitRegistry;C[J)I" } : Jvm.MethodName)) ∈ lw_all := lw_g (lw_at lw_m7 140 rfl) rfl
theorem q1656 : (Jvm.Cond.static ({ cls := "HabitRegistryLaw", name := "appendInput", desc := "(LHabitRegistry;C[J)I" } : Jvm.MethodName)) ∈ lw_all := lw_g (lw_at lw_m7 141 rfl) rfl
theorem q1657 : (Jvm.Cond.codeWith ({ cls := "HabitRegistryLaw", name := "appendInput", desc := "(LHabitRegistry;C[J)I" } : Jvm.MethodName) method_44_code (4 : Nat) (Option.some Jvm.ClassFile.FieldType.int) [((0 : Nat), (9 : Nat), (12 : Nat), (78 : Nat)), ((0 : Nat), (9 : Nat), (15 : Nat), (156 : Nat))]) ∈ lw_all := lw_g (lw_at lw_m7 142 rfl) rfl
theorem q1658 : (Jvm.Cond.classLink "HabitRegistryLaw" (156 : Nat) "java/lang/IllegalStateException") ∈ lw_all := lw_g (lw_at lw_m7 143 rfl) rfl
theorem q1659 : (Jvm.Cond.methodLink "HabitRegistryLaw" (152 : Nat) ({ cls := "HabitRegistry", name := "appendInput", desc := "(C)I" } : Jvm.MethodName)) ∈ lw_all := lw_g (lw_at lw_m7 144 rfl) rfl
theorem q1682 : (Jvm.Cond.methodLink "HabitRegistryLaw" (362 : Nat) ({ cls := "HabitRegistryLaw", name := "execute", desc := "(LHabitRegistry;[J)I" } : Jvm.MethodName)) ∈ lw_all := lw_g (lw_at lw_m7 167 rfl) rfl
theorem q1683 : (Jvm.Cond.static ({ cls := "HabitRegistryLaw", name := "execute", desc := "(LHabitRegistry;[J)I" } : Jvm.MethodName)) ∈ lw_all := lw_g (lw_at lw_m7 168 rfl) rfl
theorem q1684 : (Jvm.Cond.codeWith ({ cls := "HabitRegistryLaw", name := "execute", desc := "(LHabitRegistry;[J)I" } : Jvm.MethodName) method_45_code (3 : Nat) (Option.some Jvm.ClassFile.FieldType.int) [((0 : Nat), (8 : Nat), (11 : Nat), (78 : Nat)), ((0 : Nat), (8 : Nat), (14 : Nat), (156 : Nat)), ((0 : Nat), (8 : Nat), (17 : Nat), (13 : Nat))]) ∈ lw_all := lw_g (lw_at lw_m7 169 rfl) rfl
theorem q1685 : (Jvm.Cond.methodLink "HabitRegistryLaw" (158 : Nat) ({ cls := "HabitRegistry", name := "execute", desc := "()I" } : Jvm.MethodName)) ∈ lw_all := lw_g (lw_at lw_m7 170 rfl) rfl
theorem q1830 : (Jvm.Cond.methodLink "HabitRegistryLaw" (365 : Nat) ({ cls := "HabitRegistryLaw", name := "syntaxErrorOffset", desc := "(LHabitRegistry;[J)I" } : Jvm.MethodName)) ∈ lw_all := lw_g (lw_at lw_m8 75 rfl) rfl
theorem q1831 : (Jvm.Cond.static ({ cls := "HabitRegistryLaw", name := "syntaxErrorOffset", desc := "(LHabitRegistry;[J)I" } : Jvm.MethodName)) ∈ lw_all := lw_g (lw_at lw_m8 76 rfl) rfl
theorem q1832 : (Jvm.Cond.codeWith ({ cls := "HabitRegistryLaw", name := "syntaxErrorOffset", desc := "(LHabitRegistry;[J)I" } : Jvm.MethodName) method_46_code (3 : Nat) (Option.some Jvm.ClassFile.FieldType.int) [((0 : Nat), (8 : Nat), (11 : Nat), (34 : Nat))]) ∈ lw_all := lw_g (lw_at lw_m8 77 rfl) rfl
theorem q1833 : (Jvm.Cond.methodLink "HabitRegistryLaw" (161 : Nat) ({ cls := "HabitRegistry", name := "syntaxErrorOffset", desc := "()I" } : Jvm.MethodName)) ∈ lw_all := lw_g (lw_at lw_m8 78 rfl) rfl
theorem q1849 : (Jvm.Cond.methodLink "HabitRegistryLaw" (368 : Nat) ({ cls := "HabitRegistryLaw", name := "rejectionReason", desc := "(LHabitRegistry;[J)I" } : Jvm.MethodName)) ∈ lw_all := lw_g (lw_at lw_m8 94 rfl) rfl
theorem q1850 : (Jvm.Cond.static ({ cls := "HabitRegistryLaw", name := "rejectionReason", desc := "(LHabitRegistry;[J)I" } : Jvm.MethodName)) ∈ lw_all := lw_g (lw_at lw_m8 95 rfl) rfl
theorem q1851 : (Jvm.Cond.codeWith ({ cls := "HabitRegistryLaw", name := "rejectionReason", desc := "(LHabitRegistry;[J)I" } : Jvm.MethodName) method_47_code (3 : Nat) (Option.some Jvm.ClassFile.FieldType.int) [((0 : Nat), (8 : Nat), (11 : Nat), (34 : Nat))]) ∈ lw_all := lw_g (lw_at lw_m8 96 rfl) rfl
theorem q1852 : (Jvm.Cond.methodLink "HabitRegistryLaw" (164 : Nat) ({ cls := "HabitRegistry", name := "rejectionReason", desc := "()I" } : Jvm.MethodName)) ∈ lw_all := lw_g (lw_at lw_m8 97 rfl) rfl
theorem q1868 : (Jvm.Cond.methodLink "HabitRegistryLaw" (371 : Nat) ({ cls := "HabitRegistryLaw", name := "rejectionDetail", desc := "(LHabitRegistry;[J)I" } : Jvm.MethodName)) ∈ lw_all := lw_g (lw_at lw_m8 113 rfl) rfl
theorem q1869 : (Jvm.Cond.static ({ cls := "HabitRegistryLaw", name := "rejectionDetail", desc := "(LHabitRegistry;[J)I" } : Jvm.MethodName)) ∈ lw_all := lw_g (lw_at lw_m8 114 rfl) rfl
theorem q1870 : (Jvm.Cond.codeWith ({ cls := "HabitRegistryLaw", name := "rejectionDetail", desc := "(LHabitRegistry;[J)I" } : Jvm.MethodName) method_48_code (3 : Nat) (Option.some Jvm.ClassFile.FieldType.int) [((0 : Nat), (8 : Nat), (11 : Nat), (34 : Nat))]) ∈ lw_all := lw_g (lw_at lw_m8 115 rfl) rfl
theorem q1871 : (Jvm.Cond.methodLink "HabitRegistryLaw" (167 : Nat) ({ cls := "HabitRegistry", name := "rejectionDetail", desc := "()I" } : Jvm.MethodName)) ∈ lw_all := lw_g (lw_at lw_m8 116 rfl) rfl
theorem q1875 : (Jvm.Cond.methodLink "HabitRegistryLaw" (374 : Nat) ({ cls := "HabitRegistryLaw", name := "causeReason", desc := "(LHabitRegistry;[J)I" } : Jvm.MethodName)) ∈ lw_all := lw_g (lw_at lw_m8 120 rfl) rfl
theorem q1876 : (Jvm.Cond.static ({ cls := "HabitRegistryLaw", name := "causeReason", desc := "(LHabitRegistry;[J)I" } : Jvm.MethodName)) ∈ lw_all := lw_g (lw_at lw_m8 121 rfl) rfl
theorem q1877 : (Jvm.Cond.codeWith ({ cls := "HabitRegistryLaw", name := "causeReason", desc := "(LHabitRegistry;[J)I" } : Jvm.MethodName) method_49_code (3 : Nat) (Option.some Jvm.ClassFile.FieldType.int) [((0 : Nat), (8 : Nat), (11 : Nat), (34 : Nat))]) ∈ lw_all := lw_g (lw_at lw_m8 122 rfl) rfl
theorem q1878 : (Jvm.Cond.methodLink "HabitRegistryLaw" (170 : Nat) ({ cls := "HabitRegistry", name := "causeReason", desc := "()I" } : Jvm.MethodName)) ∈ lw_all := lw_g (lw_at lw_m8 123 rfl) rfl
theorem q1890 : (Jvm.Cond.methodLink "HabitRegistryLaw" (377 : Nat) ({ cls := "HabitRegistryLaw", name := "undo", desc := "(LHabitRegistry;[J)I" } : Jvm.MethodName)) ∈ lw_all := lw_g (lw_at lw_m8 135 rfl) rfl
theorem q1891 : (Jvm.Cond.static ({ cls := "HabitRegistryLaw", name := "undo", desc := "(LHabitRegistry;[J)I" } : Jvm.MethodName)) ∈ lw_all := lw_g (lw_at lw_m8 136 rfl) rfl
theorem q1892 : (Jvm.Cond.codeWith ({ cls := "HabitRegistryLaw", name := "undo", desc := "(LHabitRegistry;[J)I" } : Jvm.MethodName) method_50_code (3 : Nat) (Option.some Jvm.ClassFile.FieldType.int) [((0 : Nat), (8 : Nat), (11 : Nat), (156 : Nat))]) ∈ lw_all := lw_g (lw_at lw_m8 137 rfl) rfl
theorem q1893 : (Jvm.Cond.methodLink "HabitRegistryLaw" (173 : Nat) ({ cls := "HabitRegistry", name := "undo", desc := "()I" } : Jvm.MethodName)) ∈ lw_all := lw_g (lw_at lw_m8 138 rfl) rfl
theorem q1897 : (Jvm.Cond.methodLink "HabitRegistryLaw" (388 : Nat) ({ cls := "HabitRegistryLaw", name := "restoreSnapshot", desc := "(LHabitRegistry;[J)I" } : Jvm.MethodName)) ∈ lw_all := lw_g (lw_at lw_m8 142 rfl) rfl
theorem q1898 : (Jvm.Cond.static ({ cls := "HabitRegistryLaw", name := "restoreSnapshot", desc := "(LHabitRegistry;[J)I" } : Jvm.MethodName)) ∈ lw_all := lw_g (lw_at lw_m8 143 rfl) rfl
theorem q1899 : (Jvm.Cond.codeWith ({ cls := "HabitRegistryLaw", name := "restoreSnapshot", desc := "(LHabitRegistry;[J)I" } : Jvm.MethodName) method_51_code (3 : Nat) (Option.some Jvm.ClassFile.FieldType.int) [((0 : Nat), (8 : Nat), (11 : Nat), (156 : Nat))]) ∈ lw_all := lw_g (lw_at lw_m8 144 rfl) rfl
theorem q1900 : (Jvm.Cond.methodLink "HabitRegistryLaw" (176 : Nat) ({ cls := "HabitRegistry", name := "restoreSnapshot", desc := "()I" } : Jvm.MethodName)) ∈ lw_all := lw_g (lw_at lw_m8 145 rfl) rfl
theorem q1908 : (Jvm.Cond.classLink "HabitRegistryLaw" (180 : Nat) "HabitRegistryModel") ∈ lw_all := lw_g (lw_at lw_m8 153 rfl) rfl
theorem q1910 : (Jvm.Cond.methodLink "HabitRegistryLaw" (182 : Nat) ({ cls := "HabitRegistryModel", name := "<init>", desc := "()V" } : Jvm.MethodName)) ∈ lw_all := lw_g (lw_at lw_m8 155 rfl) rfl
theorem q1976 : (Jvm.Cond.methodLink "HabitRegistryLaw" (189 : Nat) ({ cls := "HabitRegistryModel", name := "thrown", desc := "()I" } : Jvm.MethodName)) ∈ lw_all := lw_g (lw_at lw_m8 221 rfl) rfl
theorem q1980 : (Jvm.Cond.methodLink "HabitRegistryLaw" (188 : Nat) ({ cls := "HabitRegistryModel", name := "addFounder", desc := "()I" } : Jvm.MethodName)) ∈ lw_all := lw_g (lw_at lw_m8 225 rfl) rfl
theorem q1999 : (Jvm.Cond.methodLink "HabitRegistryLaw" (195 : Nat) ({ cls := "HabitRegistryModel", name := "addChild", desc := "(I)I" } : Jvm.MethodName)) ∈ lw_all := lw_g (lw_at lw_m9 4 rfl) rfl
theorem q2018 : (Jvm.Cond.methodLink "HabitRegistryLaw" (198 : Nat) ({ cls := "HabitRegistryModel", name := "bury", desc := "(I)I" } : Jvm.MethodName)) ∈ lw_all := lw_g (lw_at lw_m9 23 rfl) rfl
theorem q2065 : (Jvm.Cond.methodLink "HabitRegistryLaw" (202 : Nat) ({ cls := "HabitRegistryModel", name := "peopleCount", desc := "()I" } : Jvm.MethodName)) ∈ lw_all := lw_g (lw_at lw_m9 70 rfl) rfl
theorem q2069 : (Jvm.Cond.methodLink "HabitRegistryLaw" (206 : Nat) ({ cls := "HabitRegistryModel", name := "livingCount", desc := "()I" } : Jvm.MethodName)) ∈ lw_all := lw_g (lw_at lw_m9 74 rfl) rfl
theorem q2077 : (Jvm.Cond.methodLink "HabitRegistryLaw" (209 : Nat) ({ cls := "HabitRegistryModel", name := "isAlive", desc := "(I)Z" } : Jvm.MethodName)) ∈ lw_all := lw_g (lw_at lw_m9 82 rfl) rfl
theorem q2085 : (Jvm.Cond.methodLink "HabitRegistryLaw" (212 : Nat) ({ cls := "HabitRegistryModel", name := "isFounder", desc := "(I)Z" } : Jvm.MethodName)) ∈ lw_all := lw_g (lw_at lw_m9 90 rfl) rfl
theorem q2089 : (Jvm.Cond.methodLink "HabitRegistryLaw" (215 : Nat) ({ cls := "HabitRegistryModel", name := "parentOf", desc := "(I)I" } : Jvm.MethodName)) ∈ lw_all := lw_g (lw_at lw_m9 94 rfl) rfl
theorem q2093 : (Jvm.Cond.methodLink "HabitRegistryLaw" (218 : Nat) ({ cls := "HabitRegistryModel", name := "childCount", desc := "(I)I" } : Jvm.MethodName)) ∈ lw_all := lw_g (lw_at lw_m9 98 rfl) rfl
theorem q2097 : (Jvm.Cond.methodLink "HabitRegistryLaw" (222 : Nat) ({ cls := "HabitRegistryModel", name := "childAt", desc := "(II)I" } : Jvm.MethodName)) ∈ lw_all := lw_g (lw_at lw_m9 102 rfl) rfl
theorem q2101 : (Jvm.Cond.methodLink "HabitRegistryLaw" (225 : Nat) ({ cls := "HabitRegistryModel", name := "generation", desc := "(I)I" } : Jvm.MethodName)) ∈ lw_all := lw_g (lw_at lw_m9 106 rfl) rfl
theorem q2109 : (Jvm.Cond.methodLink "HabitRegistryLaw" (228 : Nat) ({ cls := "HabitRegistryModel", name := "livingDescendants", desc := "(I)I" } : Jvm.MethodName)) ∈ lw_all := lw_g (lw_at lw_m9 114 rfl) rfl
theorem q2117 : (Jvm.Cond.methodLink "HabitRegistryLaw" (231 : Nat) ({ cls := "HabitRegistryModel", name := "isAncestor", desc := "(II)Z" } : Jvm.MethodName)) ∈ lw_all := lw_g (lw_at lw_m9 122 rfl) rfl
theorem q2125 : (Jvm.Cond.methodLink "HabitRegistryLaw" (234 : Nat) ({ cls := "HabitRegistryModel", name := "commonAncestor", desc := "(II)I" } : Jvm.MethodName)) ∈ lw_all := lw_g (lw_at lw_m9 130 rfl) rfl
theorem q2137 : (Jvm.Cond.methodLink "HabitRegistryLaw" (237 : Nat) ({ cls := "HabitRegistryModel", name := "distance", desc := "(II)I" } : Jvm.MethodName)) ∈ lw_all := lw_g (lw_at lw_m9 142 rfl) rfl
theorem q2145 : (Jvm.Cond.methodLink "HabitRegistryLaw" (240 : Nat) ({ cls := "HabitRegistryModel", name := "distanceBySearch", desc := "(II)I" } : Jvm.MethodName)) ∈ lw_all := lw_g (lw_at lw_m9 150 rfl) rfl
theorem q2149 : (Jvm.Cond.methodLink "HabitRegistryLaw" (243 : Nat) ({ cls := "HabitRegistryModel", name := "heirOf", desc := "(I)I" } : Jvm.MethodName)) ∈ lw_all := lw_g (lw_at lw_m9 154 rfl) rfl
theorem q2157 : (Jvm.Cond.methodLink "HabitRegistryLaw" (246 : Nat) ({ cls := "HabitRegistryModel", name := "heirByComparison", desc := "(I)I" } : Jvm.MethodName)) ∈ lw_all := lw_g (lw_at lw_m9 162 rfl) rfl
theorem q2161 : (Jvm.Cond.methodLink "HabitRegistryLaw" (249 : Nat) ({ cls := "HabitRegistryModel", name := "directHeirOf", desc := "(I)I" } : Jvm.MethodName)) ∈ lw_all := lw_g (lw_at lw_m9 166 rfl) rfl
theorem q2165 : (Jvm.Cond.methodLink "HabitRegistryLaw" (252 : Nat) ({ cls := "HabitRegistryModel", name := "successionPosition", desc := "(I)I" } : Jvm.MethodName)) ∈ lw_all := lw_g (lw_at lw_m9 170 rfl) rfl
theorem q2169 : (Jvm.Cond.methodLink "HabitRegistryLaw" (256 : Nat) ({ cls := "HabitRegistryModel", name := "addHabit", desc := "(ICI)I" } : Jvm.MethodName)) ∈ lw_all := lw_g (lw_at lw_m9 174 rfl) rfl
theorem q2176 : (Jvm.Cond.methodLink "HabitRegistryLaw" (259 : Nat) ({ cls := "HabitRegistryModel", name := "practise", desc := "(I)I" } : Jvm.MethodName)) ∈ lw_all := lw_g (lw_at lw_m9 181 rfl) rfl
theorem q2188 : (Jvm.Cond.methodLink "HabitRegistryLaw" (262 : Nat) ({ cls := "HabitRegistryModel", name := "neglect", desc := "(I)I" } : Jvm.MethodName)) ∈ lw_all := lw_g (lw_at lw_m9 193 rfl) rfl
theorem q2196 : (Jvm.Cond.methodLink "HabitRegistryLaw" (265 : Nat) ({ cls := "HabitRegistryModel", name := "entail", desc := "(I)I" } : Jvm.MethodName)) ∈ lw_all := lw_g (lw_at lw_m9 201 rfl) rfl
theorem q2200 : (Jvm.Cond.methodLink "HabitRegistryLaw" (268 : Nat) ({ cls := "HabitRegistryModel", name := "breakEntail", desc := "(I)I" } : Jvm.MethodName)) ∈ lw_all := lw_g (lw_at lw_m9 205 rfl) rfl
theorem q2204 : (Jvm.Cond.methodLink "HabitRegistryLaw" (271 : Nat) ({ cls := "HabitRegistryModel", name := "give", desc := "(II)I" } : Jvm.MethodName)) ∈ lw_all := lw_g (lw_at lw_m9 209 rfl) rfl
theorem q2208 : (Jvm.Cond.methodLink "HabitRegistryLaw" (275 : Nat) ({ cls := "HabitRegistryModel", name := "habitCount", desc := "()I" } : Jvm.MethodName)) ∈ lw_all := lw_g (lw_at lw_m9 213 rfl) rfl
theorem q2212 : (Jvm.Cond.methodLink "HabitRegistryLaw" (278 : Nat) ({ cls := "HabitRegistryModel", name := "kindOf", desc := "(I)C" } : Jvm.MethodName)) ∈ lw_all := lw_g (lw_at lw_m9 217 rfl) rfl
theorem q2223 : (Jvm.Cond.methodLink "HabitRegistryLaw" (281 : Nat) ({ cls := "HabitRegistryModel", name := "strengthOf", desc := "(I)I" } : Jvm.MethodName)) ∈ lw_all := lw_g (lw_at lw_m9 228 rfl) rfl
theorem q2227 : (Jvm.Cond.methodLink "HabitRegistryLaw" (284 : Nat) ({ cls := "HabitRegistryModel", name := "holderOf", desc := "(I)I" } : Jvm.MethodName)) ∈ lw_all := lw_g (lw_at lw_m9 232 rfl) rfl
theorem q2231 : (Jvm.Cond.methodLink "HabitRegistryLaw" (287 : Nat) ({ cls := "HabitRegistryModel", name := "isExtinct", desc := "(I)Z" } : Jvm.MethodName)) ∈ lw_all := lw_g (lw_at lw_m9 236 rfl) rfl
theorem q2235 : (Jvm.Cond.methodLink "HabitRegistryLaw" (290 : Nat) ({ cls := "HabitRegistryModel", name := "isEntailed", desc := "(I)Z" } : Jvm.MethodName)) ∈ lw_all := lw_g (lw_at lw_m10 0 rfl) rfl
theorem q2239 : (Jvm.Cond.methodLink "HabitRegistryLaw" (293 : Nat) ({ cls := "HabitRegistryModel", name := "isPractised", desc := "(I)Z" } : Jvm.MethodName)) ∈ lw_all := lw_g (lw_at lw_m10 4 rfl) rfl
theorem q2243 : (Jvm.Cond.methodLink "HabitRegistryLaw" (297 : Nat) ({ cls := "HabitRegistryModel", name := "habitOf", desc := "(IC)I" } : Jvm.MethodName)) ∈ lw_all := lw_g (lw_at lw_m10 8 rfl) rfl
theorem q2247 : (Jvm.Cond.methodLink "HabitRegistryLaw" (300 : Nat) ({ cls := "HabitRegistryModel", name := "habitStrength", desc := "(I)I" } : Jvm.MethodName)) ∈ lw_all := lw_g (lw_at lw_m10 12 rfl) rfl
theorem q2255 : (Jvm.Cond.methodLink "HabitRegistryLaw" (303 : Nat) ({ cls := "HabitRegistryModel", name := "passYears", desc := "(I)I" } : Jvm.MethodName)) ∈ lw_all := lw_g (lw_at lw_m10 20 rfl) rfl
theorem q2263 : (Jvm.Cond.methodLink "HabitRegistryLaw" (307 : Nat) ({ cls := "HabitRegistryModel", name := "year", desc := "()I" } : Jvm.MethodName)) ∈ lw_all := lw_g (lw_at lw_m10 28 rfl) rfl
theorem q2267 : (Jvm.Cond.methodLink "HabitRegistryLaw" (310 : Nat) ({ cls := "HabitRegistryModel", name := "yearsLeft", desc := "(I)I" } : Jvm.MethodName)) ∈ lw_all := lw_g (lw_at lw_m10 32 rfl) rfl
theorem q2271 : (Jvm.Cond.methodLink "HabitRegistryLaw" (314 : Nat) ({ cls := "HabitRegistryModel", name := "lapsedCount", desc := "()I" } : Jvm.MethodName)) ∈ lw_all := lw_g (lw_at lw_m10 36 rfl) rfl
theorem q2275 : (Jvm.Cond.methodLink "HabitRegistryLaw" (318 : Nat) ({ cls := "HabitRegistryModel", name := "mergedCount", desc := "()I" } : Jvm.MethodName)) ∈ lw_all := lw_g (lw_at lw_m10 40 rfl) rfl
theorem q2279 : (Jvm.Cond.methodLink "HabitRegistryLaw" (322 : Nat) ({ cls := "HabitRegistryModel", name := "brokenCount", desc := "()I" } : Jvm.MethodName)) ∈ lw_all := lw_g (lw_at lw_m10 44 rfl) rfl
theorem q2283 : (Jvm.Cond.methodLink "HabitRegistryLaw" (326 : Nat) ({ cls := "HabitRegistryModel", name := "totalStrength", desc := "()I" } : Jvm.MethodName)) ∈ lw_all := lw_g (lw_at lw_m10 48 rfl) rfl
theorem q2291 : (Jvm.Cond.methodLink "HabitRegistryLaw" (330 : Nat) ({ cls := "HabitRegistryModel", name := "totalStrengthByPeople", desc := "()I" } : Jvm.MethodName)) ∈ lw_all := lw_g (lw_at lw_m10 56 rfl) rfl
theorem q2295 : (Jvm.Cond.methodLink "HabitRegistryLaw" (333 : Nat) ({ cls := "HabitRegistryModel", name := "habitByStrength", desc := "(I)I" } : Jvm.MethodName)) ∈ lw_all := lw_g (lw_at lw_m10 60 rfl) rfl
theorem q2299 : (Jvm.Cond.methodLink "HabitRegistryLaw" (336 : Nat) ({ cls := "HabitRegistryModel", name := "personByStrength", desc := "(I)I" } : Jvm.MethodName)) ∈ lw_all := lw_g (lw_at lw_m10 64 rfl) rfl
theorem q2307 : (Jvm.Cond.methodLink "HabitRegistryLaw" (340 : Nat) ({ cls := "HabitRegistryModel", name := "meanStrength", desc := "()D" } : Jvm.MethodName)) ∈ lw_all := lw_g (lw_at lw_m10 72 rfl) rfl
theorem q2315 : (Jvm.Cond.methodLink "HabitRegistryLaw" (343 : Nat) ({ cls := "HabitRegistryModel", name := "livingShare", desc := "()F" } : Jvm.MethodName)) ∈ lw_all := lw_g (lw_at lw_m10 80 rfl) rfl
theorem q2319 : (Jvm.Cond.methodLink "HabitRegistryLaw" (348 : Nat) ({ cls := "HabitRegistryModel", name := "isConsistent", desc := "()Z" } : Jvm.MethodName)) ∈ lw_all := lw_g (lw_at lw_m10 84 rfl) rfl
theorem q2323 : (Jvm.Cond.methodLink "HabitRegistryLaw" (351 : Nat) ({ cls := "HabitRegistryModel", name := "writePerson", desc := "(I)I" } : Jvm.MethodName)) ∈ lw_all := lw_g (lw_at lw_m10 88 rfl) rfl
theorem q2335 : (Jvm.Cond.methodLink "HabitRegistryLaw" (354 : Nat) ({ cls := "HabitRegistryModel", name := "writeLine", desc := "(I)I" } : Jvm.MethodName)) ∈ lw_all := lw_g (lw_at lw_m10 100 rfl) rfl
theorem q2339 : (Jvm.Cond.methodLink "HabitRegistryLaw" (357 : Nat) ({ cls := "HabitRegistryModel", name := "outputAt", desc := "(I)C" } : Jvm.MethodName)) ∈ lw_all := lw_g (lw_at lw_m10 104 rfl) rfl
theorem q2343 : (Jvm.Cond.methodLink "HabitRegistryLaw" (361 : Nat) ({ cls := "HabitRegistryModel", name := "appendInput", desc := "(C)I" } : Jvm.MethodName)) ∈ lw_all := lw_g (lw_at lw_m10 108 rfl) rfl
theorem q2347 : (Jvm.Cond.methodLink "HabitRegistryLaw" (364 : Nat) ({ cls := "HabitRegistryModel", name := "execute", desc := "()I" } : Jvm.MethodName)) ∈ lw_all := lw_g (lw_at lw_m10 112 rfl) rfl
theorem q2393 : (Jvm.Cond.methodLink "HabitRegistryLaw" (367 : Nat) ({ cls := "HabitRegistryModel", name := "syntaxErrorOffset", desc := "()I" } : Jvm.MethodName)) ∈ lw_all := lw_g (lw_at lw_m10 158 rfl) rfl
theorem q2397 : (Jvm.Cond.methodLink "HabitRegistryLaw" (370 : Nat) ({ cls := "HabitRegistryModel", name := "rejectionReason", desc := "()I" } : Jvm.MethodName)) ∈ lw_all := lw_g (lw_at lw_m10 162 rfl) rfl
theorem q2401 : (Jvm.Cond.methodLink "HabitRegistryLaw" (373 : Nat) ({ cls := "HabitRegistryModel", name := "rejectionDetail", desc := "()I" } : Jvm.MethodName)) ∈ lw_all := lw_g (lw_at lw_m10 166 rfl) rfl
theorem q2405 : (Jvm.Cond.methodLink "HabitRegistryLaw" (376 : Nat) ({ cls := "HabitRegistryModel", name := "causeReason", desc := "()I" } : Jvm.MethodName)) ∈ lw_all := lw_g (lw_at lw_m10 170 rfl) rfl
theorem q2409 : (Jvm.Cond.methodLink "HabitRegistryLaw" (379 : Nat) ({ cls := "HabitRegistryModel", name := "undo", desc := "()I" } : Jvm.MethodName)) ∈ lw_all := lw_g (lw_at lw_m10 174 rfl) rfl
theorem q2413 : (Jvm.Cond.methodLink "HabitRegistryLaw" (383 : Nat) ({ cls := "HabitRegistryModel", name := "undoCount", desc := "()I" } : Jvm.MethodName)) ∈ lw_all := lw_g (lw_at lw_m10 178 rfl) rfl
theorem q2417 : (Jvm.Cond.methodLink "HabitRegistryLaw" (387 : Nat) ({ cls := "HabitRegistryModel", name := "saveSnapshot", desc := "()I" } : Jvm.MethodName)) ∈ lw_all := lw_g (lw_at lw_m10 182 rfl) rfl
theorem q2421 : (Jvm.Cond.methodLink "HabitRegistryLaw" (390 : Nat) ({ cls := "HabitRegistryModel", name := "restoreSnapshot", desc := "()I" } : Jvm.MethodName)) ∈ lw_all := lw_g (lw_at lw_m10 186 rfl) rfl
/-! HabitRegistry -/
def RX1 : String := "HabitRegistry"
def TX1 : u_T := fun k => match k with
  | 0 => ("HabitRegistry", "data", "LHabitRegistry$Data;", false)
  | 1 => ("HabitRegistry", "snapshot", "LHabitRegistry$Data;", false)
  | 2 => ("HabitRegistry", "history", "Ljava/util/ArrayList;", true)
  | 3 => ("HabitRegistry", "input", "Ljava/lang/StringBuilder;", true)
  | 4 => ("HabitRegistry", "output", "Ljava/lang/String;", false)
  | 5 => ("HabitRegistry", "syntaxError", "LHabitRegistry$Failure;", false)
  | _ => ("HabitRegistry", "rejection", "LHabitRegistry$Failure;", false)
def tyX1 : Nat → FieldType := fun k => match k with
  | 0 => .object "HabitRegistry$Data"
  | 1 => .object "HabitRegistry$Data"
  | 2 => .object "java/util/ArrayList"
  | 3 => .object "java/lang/StringBuilder"
  | 4 => .object "java/lang/String"
  | 5 => .object "HabitRegistry$Failure"
  | _ => .object "HabitRegistry$Failure"
abbrev wsX10 : List Cond := u_ws RX1 TX1 7
theorem nmX1 : ∀ a, a < 7 → ∀ b, b < 7 → a ≠ b → (TX1 a).2.1 ≠ (TX1 b).2.1 := by decide +kernel
theorem tyX1_ok : ∀ k, k < 7 → parseFieldDescriptor (TX1 k).2.2.1 = some (tyX1 k) := by decide +kernel
abbrev cX1_init : ByteArray := prog_1_method_13_code
def yX1_init : MethodName := ⟨RX1, "<init>", "()V"⟩
abbrev cX1_peopleCount : ByteArray := prog_1_method_25_code
def yX1_peopleCount : MethodName := ⟨RX1, "peopleCount", "()I"⟩
abbrev cX1_livingCount : ByteArray := prog_1_method_26_code
def yX1_livingCount : MethodName := ⟨RX1, "livingCount", "()I"⟩
abbrev cX1_asInt : ByteArray := prog_1_method_5_code
def yX1_asInt : MethodName := ⟨RX1, "asInt", "(Z)I"⟩
abbrev cX1_habitCount : ByteArray := prog_1_method_48_code
def yX1_habitCount : MethodName := ⟨RX1, "habitCount", "()I"⟩
abbrev cX1_year : ByteArray := prog_1_method_58_code
def yX1_year : MethodName := ⟨RX1, "year", "()I"⟩
abbrev cX1_lapsedCount : ByteArray := prog_1_method_60_code
def yX1_lapsedCount : MethodName := ⟨RX1, "lapsedCount", "()I"⟩
abbrev cX1_mergedCount : ByteArray := prog_1_method_61_code
def yX1_mergedCount : MethodName := ⟨RX1, "mergedCount", "()I"⟩
abbrev cX1_brokenCount : ByteArray := prog_1_method_62_code
def yX1_brokenCount : MethodName := ⟨RX1, "brokenCount", "()I"⟩
abbrev cX1_totalStrength : ByteArray := prog_1_method_63_code
def yX1_totalStrength : MethodName := ⟨RX1, "totalStrength", "()I"⟩
abbrev cX1_totalStrengthByPeople : ByteArray := prog_1_method_64_code
def yX1_totalStrengthByPeople : MethodName := ⟨RX1, "totalStrengthByPeople", "()I"⟩
abbrev cX1_isConsistent : ByteArray := prog_1_method_69_code
def yX1_isConsistent : MethodName := ⟨RX1, "isConsistent", "()Z"⟩
abbrev cX1_undoCount : ByteArray := prog_1_method_81_code
def yX1_undoCount : MethodName := ⟨RX1, "undoCount", "()I"⟩
abbrev cX1_saveSnapshot : ByteArray := prog_1_method_82_code
def yX1_saveSnapshot : MethodName := ⟨RX1, "saveSnapshot", "()I"⟩
abbrev cX1_addFounder : ByteArray := prog_1_method_22_code
def yX1_addFounder : MethodName := ⟨RX1, "addFounder", "()I"⟩
abbrev cX1_change : ByteArray := prog_1_method_20_code
def yX1_change : MethodName := ⟨RX1, "change", "(CIIC)I"⟩
abbrev cX1_isBetween : ByteArray := prog_1_method_1_code
def yX1_isBetween : MethodName := ⟨RX1, "isBetween", "(III)Z"⟩
abbrev cX1_isStrength : ByteArray := prog_1_method_3_code
def yX1_isStrength : MethodName := ⟨RX1, "isStrength", "(I)Z"⟩
abbrev cX1_areYears : ByteArray := prog_1_method_4_code
def yX1_areYears : MethodName := ⟨RX1, "areYears", "(I)Z"⟩
abbrev cX1_rejectIf : ByteArray := prog_1_method_11_code
def yX1_rejectIf : MethodName := ⟨RX1, "rejectIf", "(ZII)V"⟩
abbrev cX1_commit : ByteArray := prog_1_method_14_code
def yX1_commit : MethodName := ⟨RX1, "commit", "(LHabitRegistry$Data;I)I"⟩
abbrev cX1_rejected : ByteArray := prog_1_method_15_code
def yX1_rejected : MethodName := ⟨RX1, "rejected", "(LHabitRegistry$Rejection;)Ljava/lang/UnsupportedOperationException;"⟩
abbrev cX1_addChild : ByteArray := prog_1_method_23_code
def yX1_addChild : MethodName := ⟨RX1, "addChild", "(I)I"⟩
abbrev cX1_requireIndex : ByteArray := prog_1_method_6_code
def yX1_requireIndex : MethodName := ⟨RX1, "requireIndex", "(Z)V"⟩
abbrev cX1_bury : ByteArray := prog_1_method_24_code
def yX1_bury : MethodName := ⟨RX1, "bury", "(I)I"⟩
abbrev cX1_isAlive : ByteArray := prog_1_method_27_code
def yX1_isAlive : MethodName := ⟨RX1, "isAlive", "(I)Z"⟩
abbrev cX1_requirePerson : ByteArray := prog_1_method_16_code
def yX1_requirePerson : MethodName := ⟨RX1, "requirePerson", "(I)LHabitRegistry$Person;"⟩
abbrev cX1_isFounder : ByteArray := prog_1_method_28_code
def yX1_isFounder : MethodName := ⟨RX1, "isFounder", "(I)Z"⟩
abbrev cX1_parentOf : ByteArray := prog_1_method_29_code
def yX1_parentOf : MethodName := ⟨RX1, "parentOf", "(I)I"⟩
abbrev cX1_requireFound : ByteArray := prog_1_method_18_code
def yX1_requireFound : MethodName := ⟨RX1, "requireFound", "(LHabitRegistry$Person;)I"⟩
abbrev cX1_requireElement : ByteArray := prog_1_method_9_code
def yX1_requireElement : MethodName := ⟨RX1, "requireElement", "(Z)V"⟩
abbrev cX1_childCount : ByteArray := prog_1_method_30_code
def yX1_childCount : MethodName := ⟨RX1, "childCount", "(I)I"⟩
abbrev cX1_childAt : ByteArray := prog_1_method_31_code
def yX1_childAt : MethodName := ⟨RX1, "childAt", "(II)I"⟩
abbrev cX1_generation : ByteArray := prog_1_method_32_code
def yX1_generation : MethodName := ⟨RX1, "generation", "(I)I"⟩
abbrev cX1_livingDescendants : ByteArray := prog_1_method_33_code
def yX1_livingDescendants : MethodName := ⟨RX1, "livingDescendants", "(I)I"⟩
abbrev cX1_isAncestor : ByteArray := prog_1_method_34_code
def yX1_isAncestor : MethodName := ⟨RX1, "isAncestor", "(II)Z"⟩
abbrev cX1_commonAncestor : ByteArray := prog_1_method_35_code
def yX1_commonAncestor : MethodName := ⟨RX1, "commonAncestor", "(II)I"⟩
abbrev cX1_distance : ByteArray := prog_1_method_36_code
def yX1_distance : MethodName := ⟨RX1, "distance", "(II)I"⟩
abbrev cX1_requireDistance : ByteArray := prog_1_method_19_code
def yX1_requireDistance : MethodName := ⟨RX1, "requireDistance", "(I)I"⟩
abbrev cX1_distanceBySearch : ByteArray := prog_1_method_37_code
def yX1_distanceBySearch : MethodName := ⟨RX1, "distanceBySearch", "(II)I"⟩
abbrev cX1_heirOf : ByteArray := prog_1_method_38_code
def yX1_heirOf : MethodName := ⟨RX1, "heirOf", "(I)I"⟩
abbrev cX1_heirByComparison : ByteArray := prog_1_method_39_code
def yX1_heirByComparison : MethodName := ⟨RX1, "heirByComparison", "(I)I"⟩
abbrev cX1_directHeirOf : ByteArray := prog_1_method_40_code
def yX1_directHeirOf : MethodName := ⟨RX1, "directHeirOf", "(I)I"⟩
abbrev cX1_successionPosition : ByteArray := prog_1_method_41_code
def yX1_successionPosition : MethodName := ⟨RX1, "successionPosition", "(I)I"⟩
abbrev cX1_addHabit : ByteArray := prog_1_method_42_code
def yX1_addHabit : MethodName := ⟨RX1, "addHabit", "(ICI)I"⟩
abbrev cX1_isKind : ByteArray := prog_1_method_2_code
def yX1_isKind : MethodName := ⟨RX1, "isKind", "(C)Z"⟩
abbrev cX1_requireArgument : ByteArray := prog_1_method_7_code
def yX1_requireArgument : MethodName := ⟨RX1, "requireArgument", "(Z)V"⟩
abbrev cX1_practise : ByteArray := prog_1_method_43_code
def yX1_practise : MethodName := ⟨RX1, "practise", "(I)I"⟩
abbrev cX1_neglect : ByteArray := prog_1_method_44_code
def yX1_neglect : MethodName := ⟨RX1, "neglect", "(I)I"⟩
abbrev cX1_entail : ByteArray := prog_1_method_45_code
def yX1_entail : MethodName := ⟨RX1, "entail", "(I)I"⟩
abbrev cX1_breakEntail : ByteArray := prog_1_method_46_code
def yX1_breakEntail : MethodName := ⟨RX1, "breakEntail", "(I)I"⟩
abbrev cX1_give : ByteArray := prog_1_method_47_code
def yX1_give : MethodName := ⟨RX1, "give", "(II)I"⟩
abbrev cX1_kindOf : ByteArray := prog_1_method_49_code
def yX1_kindOf : MethodName := ⟨RX1, "kindOf", "(I)C"⟩
abbrev cX1_requireHabit : ByteArray := prog_1_method_17_code
def yX1_requireHabit : MethodName := ⟨RX1, "requireHabit", "(I)LHabitRegistry$Habit;"⟩
abbrev cX1_strengthOf : ByteArray := prog_1_method_50_code
def yX1_strengthOf : MethodName := ⟨RX1, "strengthOf", "(I)I"⟩
abbrev cX1_holderOf : ByteArray := prog_1_method_51_code
def yX1_holderOf : MethodName := ⟨RX1, "holderOf", "(I)I"⟩
abbrev cX1_isExtinct : ByteArray := prog_1_method_52_code
def yX1_isExtinct : MethodName := ⟨RX1, "isExtinct", "(I)Z"⟩
abbrev cX1_isEntailed : ByteArray := prog_1_method_53_code
def yX1_isEntailed : MethodName := ⟨RX1, "isEntailed", "(I)Z"⟩
abbrev cX1_isPractised : ByteArray := prog_1_method_54_code
def yX1_isPractised : MethodName := ⟨RX1, "isPractised", "(I)Z"⟩
abbrev cX1_habitOf : ByteArray := prog_1_method_55_code
def yX1_habitOf : MethodName := ⟨RX1, "habitOf", "(IC)I"⟩
abbrev cX1_habitStrength : ByteArray := prog_1_method_56_code
def yX1_habitStrength : MethodName := ⟨RX1, "habitStrength", "(I)I"⟩
abbrev cX1_passYears : ByteArray := prog_1_method_57_code
def yX1_passYears : MethodName := ⟨RX1, "passYears", "(I)I"⟩
abbrev cX1_yearsLeft : ByteArray := prog_1_method_59_code
def yX1_yearsLeft : MethodName := ⟨RX1, "yearsLeft", "(I)I"⟩
abbrev cX1_habitByStrength : ByteArray := prog_1_method_65_code
def yX1_habitByStrength : MethodName := ⟨RX1, "habitByStrength", "(I)I"⟩
abbrev cX1_personByStrength : ByteArray := prog_1_method_66_code
def yX1_personByStrength : MethodName := ⟨RX1, "personByStrength", "(I)I"⟩
abbrev cX1_meanStrength : ByteArray := prog_1_method_67_code
def yX1_meanStrength : MethodName := ⟨RX1, "meanStrength", "()D"⟩
abbrev cX1_requireCount : ByteArray := prog_1_method_10_code
def yX1_requireCount : MethodName := ⟨RX1, "requireCount", "(Z)V"⟩
abbrev cX1_livingShare : ByteArray := prog_1_method_68_code
def yX1_livingShare : MethodName := ⟨RX1, "livingShare", "()F"⟩
abbrev cX1_writePerson : ByteArray := prog_1_method_70_code
def yX1_writePerson : MethodName := ⟨RX1, "writePerson", "(I)I"⟩
abbrev cX1_write : ByteArray := prog_1_method_21_code
def yX1_write : MethodName := ⟨RX1, "write", "(Ljava/lang/StringBuilder;)I"⟩
abbrev cX1_writeLine : ByteArray := prog_1_method_71_code
def yX1_writeLine : MethodName := ⟨RX1, "writeLine", "(I)I"⟩
abbrev cX1_outputAt : ByteArray := prog_1_method_72_code
def yX1_outputAt : MethodName := ⟨RX1, "outputAt", "(I)C"⟩
abbrev cX1_appendInput : ByteArray := prog_1_method_73_code
def yX1_appendInput : MethodName := ⟨RX1, "appendInput", "(C)I"⟩
abbrev cX1_requireState : ByteArray := prog_1_method_8_code
def yX1_requireState : MethodName := ⟨RX1, "requireState", "(Z)V"⟩
abbrev cX1_execute : ByteArray := prog_1_method_75_code
def yX1_execute : MethodName := ⟨RX1, "execute", "()I"⟩
abbrev cX1_executed : ByteArray := prog_1_method_74_code
def yX1_executed : MethodName := ⟨RX1, "executed", "(LHabitRegistry$Data;)I"⟩
abbrev cX1_run : ByteArray := prog_1_method_12_code
def yX1_run : MethodName := ⟨RX1, "run", "(Ljava/util/ArrayList;LHabitRegistry$Data;)I"⟩
abbrev cX1_syntaxErrorOffset : ByteArray := prog_1_method_76_code
def yX1_syntaxErrorOffset : MethodName := ⟨RX1, "syntaxErrorOffset", "()I"⟩
abbrev cX1_rejectionReason : ByteArray := prog_1_method_77_code
def yX1_rejectionReason : MethodName := ⟨RX1, "rejectionReason", "()I"⟩
abbrev cX1_rejectionDetail : ByteArray := prog_1_method_78_code
def yX1_rejectionDetail : MethodName := ⟨RX1, "rejectionDetail", "()I"⟩
abbrev cX1_causeReason : ByteArray := prog_1_method_79_code
def yX1_causeReason : MethodName := ⟨RX1, "causeReason", "()I"⟩
abbrev cX1_undo : ByteArray := prog_1_method_80_code
def yX1_undo : MethodName := ⟨RX1, "undo", "()I"⟩
abbrev cX1_restoreSnapshot : ByteArray := prog_1_method_83_code
def yX1_restoreSnapshot : MethodName := ⟨RX1, "restoreSnapshot", "()I"⟩
theorem q76 : (Jvm.Cond.initialized "HabitRegistry") ∈ lw_all := lw_g (lw_at lw_m1 1 rfl) rfl
theorem q117 : (Jvm.Cond.instantiable "HabitRegistry" (7 : Nat)) ∈ lw_all := lw_g (lw_at lw_m1 42 rfl) rfl
theorem q119 : (Jvm.Cond.instanceMethod ({ cls := "HabitRegistry", name := "<init>", desc := "()V" } : Jvm.MethodName)) ∈ lw_all := lw_g (lw_at lw_m1 44 rfl) rfl
theorem q120 : (Jvm.Cond.code ({ cls := "HabitRegistry", name := "<init>", desc := "()V" } : Jvm.MethodName) prog_1_method_13_code (1 : Nat) (Option.none : Option Jvm.ClassFile.FieldType)) ∈ lw_all := lw_g (lw_at lw_m1 45 rfl) rfl
theorem q121 : (Jvm.Cond.methodLink "HabitRegistry" (63 : Nat) ({ cls := "java/lang/Object", name := "<init>", desc := "()V" } : Jvm.MethodName)) ∈ lw_all := lw_g (lw_at lw_m1 46 rfl) rfl
theorem q124 : (Jvm.Cond.classLink "HabitRegistry" (66 : Nat) "HabitRegistry$Data") ∈ lw_all := lw_g (lw_at lw_m1 49 rfl) rfl
theorem q126 : (Jvm.Cond.methodLink "HabitRegistry" (68 : Nat) ({ cls := "HabitRegistry$Data", name := "<init>", desc := "()V" } : Jvm.MethodName)) ∈ lw_all := lw_g (lw_at lw_m1 51 rfl) rfl
theorem q314 : (Jvm.Cond.fieldLinkNest "HabitRegistry" (118 : Nat) "HabitRegistry$Data" "people" "Ljava/util/ArrayList;" "HabitRegistry") ∈ lw_tbl := lw_at lw_m1 239 rfl
theorem q316 : (Jvm.Cond.fieldLinkNest "HabitRegistry" (129 : Nat) "HabitRegistry$Data" "habits" "Ljava/util/ArrayList;" "HabitRegistry") ∈ lw_tbl := lw_at lw_m2 1 rfl
theorem q318 : (Jvm.Cond.fieldLinkNest "HabitRegistry" (272 : Nat) "HabitRegistry$Data" "year" "I" "HabitRegistry") ∈ lw_tbl := lw_at lw_m2 3 rfl
theorem q320 : (Jvm.Cond.fieldLinkNest "HabitRegistry" (279 : Nat) "HabitRegistry$Data" "lapsed" "I" "HabitRegistry") ∈ lw_tbl := lw_at lw_m2 5 rfl
theorem q322 : (Jvm.Cond.fieldLinkNest "HabitRegistry" (282 : Nat) "HabitRegistry$Data" "merged" "I" "HabitRegistry") ∈ lw_tbl := lw_at lw_m2 7 rfl
theorem q324 : (Jvm.Cond.fieldLinkNest "HabitRegistry" (285 : Nat) "HabitRegistry$Data" "broken" "I" "HabitRegistry") ∈ lw_tbl := lw_at lw_m2 9 rfl
theorem q326 : (Jvm.Cond.fieldLinkNest "HabitRegistry" (288 : Nat) "HabitRegistry$Data" "present" "LHabitRegistry$Test;" "HabitRegistry") ∈ lw_tbl := lw_at lw_m2 11 rfl
theorem q328 : (Jvm.Cond.fieldLinkNest "HabitRegistry" (292 : Nat) "HabitRegistry$Data" "strength" "LHabitRegistry$Value;" "HabitRegistry") ∈ lw_tbl := lw_at lw_m2 13 rfl
theorem q330 : (Jvm.Cond.fieldLinkNest "HabitRegistry" (308 : Nat) "HabitRegistry$Data" "one" "LHabitRegistry$Value;" "HabitRegistry") ∈ lw_tbl := lw_at lw_m2 15 rfl
theorem q353 : (Jvm.Cond.classLink "HabitRegistry" (39 : Nat) "java/util/ArrayList") ∈ lw_all := lw_g (lw_at lw_m2 38 rfl) rfl
theorem q354 : (Jvm.Cond.methodLink "HabitRegistry" (73 : Nat) ({ cls := "java/util/ArrayList", name := "<init>", desc := "()V" } : Jvm.MethodName)) ∈ lw_all := lw_g (lw_at lw_m2 39 rfl) rfl
theorem q355 : (Jvm.Cond.classLink "HabitRegistry" (78 : Nat) "java/lang/StringBuilder") ∈ lw_all := lw_g (lw_at lw_m2 40 rfl) rfl
theorem q357 : (Jvm.Cond.methodLink "HabitRegistry" (80 : Nat) ({ cls := "java/lang/StringBuilder", name := "<init>", desc := "()V" } : Jvm.MethodName)) ∈ lw_all := lw_g (lw_at lw_m2 42 rfl) rfl
theorem q388 : (Jvm.Cond.stringRef "HabitRegistry" (85 : Nat) "") ∈ lw_tbl := lw_at lw_m2 73 rfl
theorem q389 : (Jvm.Cond.fieldLink "HabitRegistry" (69 : Nat) "HabitRegistry" "data" "LHabitRegistry$Data;") ∈ lw_all := lw_g (lw_at lw_m2 74 rfl) rfl
theorem q390 : (Jvm.Cond.fieldLink "HabitRegistry" (387 : Nat) "HabitRegistry" "snapshot" "LHabitRegistry$Data;") ∈ lw_all := lw_g (lw_at lw_m2 75 rfl) rfl
theorem q391 : (Jvm.Cond.fieldLink "HabitRegistry" (74 : Nat) "HabitRegistry" "history" "Ljava/util/ArrayList;") ∈ lw_all := lw_g (lw_at lw_m2 76 rfl) rfl
theorem q392 : (Jvm.Cond.fieldLink "HabitRegistry" (81 : Nat) "HabitRegistry" "input" "Ljava/lang/StringBuilder;") ∈ lw_all := lw_g (lw_at lw_m2 77 rfl) rfl
theorem q393 : (Jvm.Cond.fieldLink "HabitRegistry" (87 : Nat) "HabitRegistry" "output" "Ljava/lang/String;") ∈ lw_all := lw_g (lw_at lw_m2 78 rfl) rfl
theorem q394 : (Jvm.Cond.fieldLink "HabitRegistry" (373 : Nat) "HabitRegistry" "syntaxError" "LHabitRegistry$Failure;") ∈ lw_all := lw_g (lw_at lw_m2 79 rfl) rfl
theorem q395 : (Jvm.Cond.fieldLink "HabitRegistry" (103 : Nat) "HabitRegistry" "rejection" "LHabitRegistry$Failure;") ∈ lw_all := lw_g (lw_at lw_m2 80 rfl) rfl
theorem q396 : (Jvm.Cond.lays "HabitRegistry" "HabitRegistry" "data" "LHabitRegistry$Data;") ∈ lw_all := lw_g (lw_at lw_m2 81 rfl) rfl
theorem q397 : (Jvm.Cond.soleField "HabitRegistry" "data") ∈ lw_all := lw_g (lw_at lw_m2 82 rfl) rfl
theorem q398 : (Jvm.Cond.lays "HabitRegistry" "HabitRegistry" "snapshot" "LHabitRegistry$Data;") ∈ lw_all := lw_g (lw_at lw_m2 83 rfl) rfl
theorem q399 : (Jvm.Cond.soleField "HabitRegistry" "snapshot") ∈ lw_all := lw_g (lw_at lw_m2 84 rfl) rfl
theorem q400 : (Jvm.Cond.laysFinal "HabitRegistry" "HabitRegistry" "history" "Ljava/util/ArrayList;") ∈ lw_all := lw_g (lw_at lw_m2 85 rfl) rfl
theorem q401 : (Jvm.Cond.soleField "HabitRegistry" "history") ∈ lw_all := lw_g (lw_at lw_m2 86 rfl) rfl
theorem q402 : (Jvm.Cond.laysFinal "HabitRegistry" "HabitRegistry" "input" "Ljava/lang/StringBuilder;") ∈ lw_all := lw_g (lw_at lw_m2 87 rfl) rfl
theorem q403 : (Jvm.Cond.soleField "HabitRegistry" "input") ∈ lw_all := lw_g (lw_at lw_m2 88 rfl) rfl
theorem q404 : (Jvm.Cond.lays "HabitRegistry" "HabitRegistry" "output" "Ljava/lang/String;") ∈ lw_all := lw_g (lw_at lw_m2 89 rfl) rfl
theorem q405 : (Jvm.Cond.soleField "HabitRegistry" "output") ∈ lw_all := lw_g (lw_at lw_m2 90 rfl) rfl
theorem q406 : (Jvm.Cond.lays "HabitRegistry" "HabitRegistry" "syntaxError" "LHabitRegistry$Failure;") ∈ lw_all := lw_g (lw_at lw_m2 91 rfl) rfl
theorem q407 : (Jvm.Cond.soleField "HabitRegistry" "syntaxError") ∈ lw_all := lw_g (lw_at lw_m2 92 rfl) rfl
theorem q408 : (Jvm.Cond.lays "HabitRegistry" "HabitRegistry" "rejection" "LHabitRegistry$Failure;") ∈ lw_all := lw_g (lw_at lw_m2 93 rfl) rfl
theorem q409 : (Jvm.Cond.soleField "HabitRegistry" "rejection") ∈ lw_all := lw_g (lw_at lw_m2 94 rfl) rfl
theorem q410 : (Jvm.Cond.superclass "HabitRegistry" "java/lang/Object") ∈ lw_all := lw_g (lw_at lw_m2 95 rfl) rfl
theorem q412 : (Jvm.Cond.instanceMethod ({ cls := "HabitRegistry", name := "peopleCount", desc := "()I" } : Jvm.MethodName)) ∈ lw_all := lw_g (lw_at lw_m2 97 rfl) rfl
theorem q413 : (Jvm.Cond.selects "HabitRegistry" ({ cls := "HabitRegistry", name := "peopleCount", desc := "()I" } : Jvm.MethodName) ({ cls := "HabitRegistry", name := "peopleCount", desc := "()I" } : Jvm.MethodName)) ∈ lw_all := lw_g (lw_at lw_m2 98 rfl) rfl
theorem q414 : (Jvm.Cond.code ({ cls := "HabitRegistry", name := "peopleCount", desc := "()I" } : Jvm.MethodName) prog_1_method_25_code (1 : Nat) (Option.some Jvm.ClassFile.FieldType.int)) ∈ lw_all := lw_g (lw_at lw_m2 99 rfl) rfl
theorem q415 : (Jvm.Cond.methodLink "HabitRegistry" (91 : Nat) ({ cls := "java/util/ArrayList", name := "size", desc := "()I" } : Jvm.MethodName)) ∈ lw_all := lw_g (lw_at lw_m2 100 rfl) rfl
theorem q420 : (Jvm.Cond.instanceMethod ({ cls := "HabitRegistry", name := "livingCount", desc := "()I" } : Jvm.MethodName)) ∈ lw_all := lw_g (lw_at lw_m2 105 rfl) rfl
theorem q421 : (Jvm.Cond.selects "HabitRegistry" ({ cls := "HabitRegistry", name := "livingCount", desc := "()I" } : Jvm.MethodName) ({ cls := "HabitRegistry", name := "livingCount", desc := "()I" } : Jvm.MethodName)) ∈ lw_all := lw_g (lw_at lw_m2 106 rfl) rfl
theorem q422 : (Jvm.Cond.code ({ cls := "HabitRegistry", name := "livingCount", desc := "()I" } : Jvm.MethodName) prog_1_method_26_code (1 : Nat) (Option.some Jvm.ClassFile.FieldType.int)) ∈ lw_all := lw_g (lw_at lw_m2 107 rfl) rfl
theorem q423 : (Jvm.Cond.methodLink "HabitRegistry" (169 : Nat) ({ cls := "HabitRegistry$Data", name := "living", desc := "()I" } : Jvm.MethodName)) ∈ lw_all := lw_g (lw_at lw_m2 108 rfl) rfl
theorem q429 : (Jvm.Cond.static ({ cls := "HabitRegistry", name := "asInt", desc := "(Z)I" } : Jvm.MethodName)) ∈ lw_all := lw_g (lw_at lw_m2 114 rfl) rfl
theorem q430 : (Jvm.Cond.code ({ cls := "HabitRegistry", name := "asInt", desc := "(Z)I" } : Jvm.MethodName) prog_1_method_5_code (1 : Nat) (Option.some Jvm.ClassFile.FieldType.int)) ∈ lw_all := lw_g (lw_at lw_m2 115 rfl) rfl
theorem q432 : (Jvm.Cond.instanceMethod ({ cls := "HabitRegistry", name := "habitCount", desc := "()I" } : Jvm.MethodName)) ∈ lw_all := lw_g (lw_at lw_m2 117 rfl) rfl
theorem q433 : (Jvm.Cond.selects "HabitRegistry" ({ cls := "HabitRegistry", name := "habitCount", desc := "()I" } : Jvm.MethodName) ({ cls := "HabitRegistry", name := "habitCount", desc := "()I" } : Jvm.MethodName)) ∈ lw_all := lw_g (lw_at lw_m2 118 rfl) rfl
theorem q434 : (Jvm.Cond.code ({ cls := "HabitRegistry", name := "habitCount", desc := "()I" } : Jvm.MethodName) prog_1_method_48_code (1 : Nat) (Option.some Jvm.ClassFile.FieldType.int)) ∈ lw_all := lw_g (lw_at lw_m2 119 rfl) rfl
theorem q436 : (Jvm.Cond.instanceMethod ({ cls := "HabitRegistry", name := "year", desc := "()I" } : Jvm.MethodName)) ∈ lw_all := lw_g (lw_at lw_m2 121 rfl) rfl
theorem q437 : (Jvm.Cond.selects "HabitRegistry" ({ cls := "HabitRegistry", name := "year", desc := "()I" } : Jvm.MethodName) ({ cls := "HabitRegistry", name := "year", desc := "()I" } : Jvm.MethodName)) ∈ lw_all := lw_g (lw_at lw_m2 122 rfl) rfl
theorem q438 : (Jvm.Cond.code ({ cls := "HabitRegistry", name := "year", desc := "()I" } : Jvm.MethodName) prog_1_method_58_code (1 : Nat) (Option.some Jvm.ClassFile.FieldType.int)) ∈ lw_all := lw_g (lw_at lw_m2 123 rfl) rfl
theorem q440 : (Jvm.Cond.instanceMethod ({ cls := "HabitRegistry", name := "lapsedCount", desc := "()I" } : Jvm.MethodName)) ∈ lw_all := lw_g (lw_at lw_m2 125 rfl) rfl
theorem q441 : (Jvm.Cond.selects "HabitRegistry" ({ cls := "HabitRegistry", name := "lapsedCount", desc := "()I" } : Jvm.MethodName) ({ cls := "HabitRegistry", name := "lapsedCount", desc := "()I" } : Jvm.MethodName)) ∈ lw_all := lw_g (lw_at lw_m2 126 rfl) rfl
theorem q442 : (Jvm.Cond.code ({ cls := "HabitRegistry", name := "lapsedCount", desc := "()I" } : Jvm.MethodName) prog_1_method_60_code (1 : Nat) (Option.some Jvm.ClassFile.FieldType.int)) ∈ lw_all := lw_g (lw_at lw_m2 127 rfl) rfl
theorem q444 : (Jvm.Cond.instanceMethod ({ cls := "HabitRegistry", name := "mergedCount", desc := "()I" } : Jvm.MethodName)) ∈ lw_all := lw_g (lw_at lw_m2 129 rfl) rfl
theorem q445 : (Jvm.Cond.selects "HabitRegistry" ({ cls := "HabitRegistry", name := "mergedCount", desc := "()I" } : Jvm.MethodName) ({ cls := "HabitRegistry", name := "mergedCount", desc := "()I" } : Jvm.MethodName)) ∈ lw_all := lw_g (lw_at lw_m2 130 rfl) rfl
theorem q446 : (Jvm.Cond.code ({ cls := "HabitRegistry", name := "mergedCount", desc := "()I" } : Jvm.MethodName) prog_1_method_61_code (1 : Nat) (Option.some Jvm.ClassFile.FieldType.int)) ∈ lw_all := lw_g (lw_at lw_m2 131 rfl) rfl
theorem q448 : (Jvm.Cond.instanceMethod ({ cls := "HabitRegistry", name := "brokenCount", desc := "()I" } : Jvm.MethodName)) ∈ lw_all := lw_g (lw_at lw_m2 133 rfl) rfl
theorem q449 : (Jvm.Cond.selects "HabitRegistry" ({ cls := "HabitRegistry", name := "brokenCount", desc := "()I" } : Jvm.MethodName) ({ cls := "HabitRegistry", name := "brokenCount", desc := "()I" } : Jvm.MethodName)) ∈ lw_all := lw_g (lw_at lw_m2 134 rfl) rfl
theorem q450 : (Jvm.Cond.code ({ cls := "HabitRegistry", name := "brokenCount", desc := "()I" } : Jvm.MethodName) prog_1_method_62_code (1 : Nat) (Option.some Jvm.ClassFile.FieldType.int)) ∈ lw_all := lw_g (lw_at lw_m2 135 rfl) rfl
theorem q452 : (Jvm.Cond.instanceMethod ({ cls := "HabitRegistry", name := "totalStrength", desc := "()I" } : Jvm.MethodName)) ∈ lw_all := lw_g (lw_at lw_m2 137 rfl) rfl
theorem q453 : (Jvm.Cond.selects "HabitRegistry" ({ cls := "HabitRegistry", name := "totalStrength", desc := "()I" } : Jvm.MethodName) ({ cls := "HabitRegistry", name := "totalStrength", desc := "()I" } : Jvm.MethodName)) ∈ lw_all := lw_g (lw_at lw_m2 138 rfl) rfl
theorem q454 : (Jvm.Cond.code ({ cls := "HabitRegistry", name := "totalStrength", desc := "()I" } : Jvm.MethodName) prog_1_method_63_code (1 : Nat) (Option.some Jvm.ClassFile.FieldType.int)) ∈ lw_all := lw_g (lw_at lw_m2 139 rfl) rfl
theorem q455 : (Jvm.Cond.methodLink "HabitRegistry" (295 : Nat) ({ cls := "HabitRegistry$Data", name := "sum", desc := "(LHabitRegistry$Test;LHabitRegistry$Value;)I" } : Jvm.MethodName)) ∈ lw_all := lw_g (lw_at lw_m2 140 rfl) rfl
theorem q457 : (Jvm.Cond.instanceMethod ({ cls := "HabitRegistry", name := "totalStrengthByPeople", desc := "()I" } : Jvm.MethodName)) ∈ lw_all := lw_g (lw_at lw_m2 142 rfl) rfl
theorem q458 : (Jvm.Cond.selects "HabitRegistry" ({ cls := "HabitRegistry", name := "totalStrengthByPeople", desc := "()I" } : Jvm.MethodName) ({ cls := "HabitRegistry", name := "totalStrengthByPeople", desc := "()I" } : Jvm.MethodName)) ∈ lw_all := lw_g (lw_at lw_m2 143 rfl) rfl
theorem q459 : (Jvm.Cond.code ({ cls := "HabitRegistry", name := "totalStrengthByPeople", desc := "()I" } : Jvm.MethodName) prog_1_method_64_code (1 : Nat) (Option.some Jvm.ClassFile.FieldType.int)) ∈ lw_all := lw_g (lw_at lw_m2 144 rfl) rfl
theorem q460 : (Jvm.Cond.methodLink "HabitRegistry" (299 : Nat) ({ cls := "HabitRegistry$Data", name := "totalByPeople", desc := "()I" } : Jvm.MethodName)) ∈ lw_all := lw_g (lw_at lw_m2 145 rfl) rfl
theorem q465 : (Jvm.Cond.instanceMethod ({ cls := "HabitRegistry", name := "isConsistent", desc := "()Z" } : Jvm.MethodName)) ∈ lw_all := lw_g (lw_at lw_m2 150 rfl) rfl
theorem q466 : (Jvm.Cond.selects "HabitRegistry" ({ cls := "HabitRegistry", name := "isConsistent", desc := "()Z" } : Jvm.MethodName) ({ cls := "HabitRegistry", name := "isConsistent", desc := "()Z" } : Jvm.MethodName)) ∈ lw_all := lw_g (lw_at lw_m2 151 rfl) rfl
theorem q467 : (Jvm.Cond.code ({ cls := "HabitRegistry", name := "isConsistent", desc := "()Z" } : Jvm.MethodName) prog_1_method_69_code (1 : Nat) (Option.some Jvm.ClassFile.FieldType.boolean)) ∈ lw_all := lw_g (lw_at lw_m2 152 rfl) rfl
theorem q468 : (Jvm.Cond.methodLink "HabitRegistry" (323 : Nat) ({ cls := "HabitRegistry$Data", name := "isConsistent", desc := "()Z" } : Jvm.MethodName)) ∈ lw_all := lw_g (lw_at lw_m2 153 rfl) rfl
theorem q607 : (Jvm.Cond.instanceMethod ({ cls := "HabitRegistry", name := "undoCount", desc := "()I" } : Jvm.MethodName)) ∈ lw_all := lw_g (lw_at lw_m3 52 rfl) rfl
theorem q608 : (Jvm.Cond.selects "HabitRegistry" ({ cls := "HabitRegistry", name := "undoCount", desc := "()I" } : Jvm.MethodName) ({ cls := "HabitRegistry", name := "undoCount", desc := "()I" } : Jvm.MethodName)) ∈ lw_all := lw_g (lw_at lw_m3 53 rfl) rfl
theorem q609 : (Jvm.Cond.code ({ cls := "HabitRegistry", name := "undoCount", desc := "()I" } : Jvm.MethodName) prog_1_method_81_code (1 : Nat) (Option.some Jvm.ClassFile.FieldType.int)) ∈ lw_all := lw_g (lw_at lw_m3 54 rfl) rfl
theorem q611 : (Jvm.Cond.instanceMethod ({ cls := "HabitRegistry", name := "saveSnapshot", desc := "()I" } : Jvm.MethodName)) ∈ lw_all := lw_g (lw_at lw_m3 56 rfl) rfl
theorem q612 : (Jvm.Cond.selects "HabitRegistry" ({ cls := "HabitRegistry", name := "saveSnapshot", desc := "()I" } : Jvm.MethodName) ({ cls := "HabitRegistry", name := "saveSnapshot", desc := "()I" } : Jvm.MethodName)) ∈ lw_all := lw_g (lw_at lw_m3 57 rfl) rfl
theorem q613 : (Jvm.Cond.code ({ cls := "HabitRegistry", name := "saveSnapshot", desc := "()I" } : Jvm.MethodName) prog_1_method_82_code (1 : Nat) (Option.some Jvm.ClassFile.FieldType.int)) ∈ lw_all := lw_g (lw_at lw_m3 58 rfl) rfl
theorem q614 : (Jvm.Cond.methodLink "HabitRegistry" (141 : Nat) ({ cls := "HabitRegistry$Data", name := "copy", desc := "()LHabitRegistry$Data;" } : Jvm.MethodName)) ∈ lw_all := lw_g (lw_at lw_m3 59 rfl) rfl
theorem q633 : (Jvm.Cond.fieldLinkNest "HabitRegistry" (137 : Nat) "HabitRegistry$Person" "index" "I" "HabitRegistry") ∈ lw_tbl := lw_at lw_m3 78 rfl
theorem q636 : (Jvm.Cond.fieldLinkNest "HabitRegistry" (180 : Nat) "HabitRegistry$Person" "parent" "LHabitRegistry$Person;" "HabitRegistry") ∈ lw_tbl := lw_at lw_m3 81 rfl
theorem q639 : (Jvm.Cond.fieldLinkNest "HabitRegistry" (188 : Nat) "HabitRegistry$Person" "children" "Ljava/util/ArrayList;" "HabitRegistry") ∈ lw_tbl := lw_at lw_m3 84 rfl
theorem q642 : (Jvm.Cond.fieldLinkNest "HabitRegistry" (176 : Nat) "HabitRegistry$Person" "alive" "Z" "HabitRegistry") ∈ lw_tbl := lw_at lw_m3 87 rfl
theorem q684 : (Jvm.Cond.selects "HabitRegistry" ({ cls := "java/lang/Object", name := "getClass", desc := "()Ljava/lang/Class;" } : Jvm.MethodName) ({ cls := "java/lang/Object", name := "getClass", desc := "()Ljava/lang/Class;" } : Jvm.MethodName)) ∈ lw_all := lw_g (lw_at lw_m3 129 rfl) rfl
theorem q728 : (Jvm.Cond.fieldLinkNest "HabitRegistry" (265 : Nat) "HabitRegistry$Habit" "index" "I" "HabitRegistry") ∈ lw_tbl := lw_at lw_m3 173 rfl
theorem q731 : (Jvm.Cond.fieldLinkNest "HabitRegistry" (242 : Nat) "HabitRegistry$Habit" "kind" "C" "HabitRegistry") ∈ lw_tbl := lw_at lw_m3 176 rfl
theorem q734 : (Jvm.Cond.fieldLinkNest "HabitRegistry" (246 : Nat) "HabitRegistry$Habit" "strength" "I" "HabitRegistry") ∈ lw_tbl := lw_at lw_m3 179 rfl
theorem q737 : (Jvm.Cond.fieldLinkNest "HabitRegistry" (255 : Nat) "HabitRegistry$Habit" "entailed" "Z" "HabitRegistry") ∈ lw_tbl := lw_at lw_m3 182 rfl
theorem q740 : (Jvm.Cond.fieldLinkNest "HabitRegistry" (258 : Nat) "HabitRegistry$Habit" "practised" "Z" "HabitRegistry") ∈ lw_tbl := lw_at lw_m3 185 rfl
theorem q743 : (Jvm.Cond.fieldLinkNest "HabitRegistry" (249 : Nat) "HabitRegistry$Habit" "holder" "LHabitRegistry$Person;" "HabitRegistry") ∈ lw_tbl := lw_at lw_m3 188 rfl
theorem q762 : (Jvm.Cond.instanceMethod ({ cls := "HabitRegistry", name := "addFounder", desc := "()I" } : Jvm.MethodName)) ∈ lw_all := lw_g (lw_at lw_m3 207 rfl) rfl
theorem q763 : (Jvm.Cond.selects "HabitRegistry" ({ cls := "HabitRegistry", name := "addFounder", desc := "()I" } : Jvm.MethodName) ({ cls := "HabitRegistry", name := "addFounder", desc := "()I" } : Jvm.MethodName)) ∈ lw_all := lw_g (lw_at lw_m3 208 rfl) rfl
theorem q764 : (Jvm.Cond.code ({ cls := "HabitRegistry", name := "addFounder", desc := "()I" } : Jvm.MethodName) prog_1_method_22_code (1 : Nat) (Option.some Jvm.ClassFile.FieldType.int)) ∈ lw_all := lw_g (lw_at lw_m3 209 rfl) rfl
theorem q765 : (Jvm.Cond.methodLink "HabitRegistry" (165 : Nat) ({ cls := "HabitRegistry", name := "change", desc := "(CIIC)I" } : Jvm.MethodName)) ∈ lw_all := lw_g (lw_at lw_m3 210 rfl) rfl
theorem q766 : (Jvm.Cond.privateMethod ({ cls := "HabitRegistry", name := "change", desc := "(CIIC)I" } : Jvm.MethodName)) ∈ lw_tbl := lw_at lw_m3 211 rfl
theorem q767 : (Jvm.Cond.instanceMethod ({ cls := "HabitRegistry", name := "change", desc := "(CIIC)I" } : Jvm.MethodName)) ∈ lw_all := lw_g (lw_at lw_m3 212 rfl) rfl
theorem q768 : (Jvm.Cond.codeWith ({ cls := "HabitRegistry", name := "change", desc := "(CIIC)I" } : Jvm.MethodName) prog_1_method_20_code (7 : Nat) (Option.some Jvm.ClassFile.FieldType.int) [((9 : Nat), (36 : Nat), (37 : Nat), (33 : Nat)), ((9 : Nat), (36 : Nat), (46 : Nat), (156 : Nat))]) ∈ lw_all := lw_g (lw_at lw_m3 213 rfl) rfl
theorem q769 : (Jvm.Cond.classLink "HabitRegistry" (33 : Nat) "HabitRegistry$Rejection") ∈ lw_all := lw_g (lw_at lw_m3 214 rfl) rfl
theorem q770 : (Jvm.Cond.classLink "HabitRegistry" (156 : Nat) "HabitRegistry$BadCommand") ∈ lw_all := lw_g (lw_at lw_m3 215 rfl) rfl
theorem q771 : (Jvm.Cond.classLink "HabitRegistry" (54 : Nat) "HabitRegistry$Command") ∈ lw_all := lw_g (lw_at lw_m3 216 rfl) rfl
theorem q773 : (Jvm.Cond.methodLink "HabitRegistry" (145 : Nat) ({ cls := "HabitRegistry$Command", name := "<init>", desc := "(CIIC)V" } : Jvm.MethodName)) ∈ lw_all := lw_g (lw_at lw_m3 218 rfl) rfl
theorem q790 : (Jvm.Cond.methodLink "HabitRegistry" (56 : Nat) ({ cls := "HabitRegistry$Command", name := "run", desc := "(LHabitRegistry$Data;)I" } : Jvm.MethodName)) ∈ lw_all := lw_g (lw_at lw_m3 235 rfl) rfl
theorem q803 : (Jvm.Cond.static ({ cls := "HabitRegistry", name := "isBetween", desc := "(III)Z" } : Jvm.MethodName)) ∈ lw_all := lw_g (lw_at lw_m4 8 rfl) rfl
theorem q804 : (Jvm.Cond.code ({ cls := "HabitRegistry", name := "isBetween", desc := "(III)Z" } : Jvm.MethodName) prog_1_method_1_code (3 : Nat) (Option.some Jvm.ClassFile.FieldType.boolean)) ∈ lw_all := lw_g (lw_at lw_m4 9 rfl) rfl
theorem q806 : (Jvm.Cond.static ({ cls := "HabitRegistry", name := "isStrength", desc := "(I)Z" } : Jvm.MethodName)) ∈ lw_all := lw_g (lw_at lw_m4 11 rfl) rfl
theorem q807 : (Jvm.Cond.code ({ cls := "HabitRegistry", name := "isStrength", desc := "(I)Z" } : Jvm.MethodName) prog_1_method_3_code (1 : Nat) (Option.some Jvm.ClassFile.FieldType.boolean)) ∈ lw_all := lw_g (lw_at lw_m4 12 rfl) rfl
theorem q808 : (Jvm.Cond.methodLink "HabitRegistry" (11 : Nat) ({ cls := "HabitRegistry", name := "isBetween", desc := "(III)Z" } : Jvm.MethodName)) ∈ lw_all := lw_g (lw_at lw_m4 13 rfl) rfl
theorem q814 : (Jvm.Cond.static ({ cls := "HabitRegistry", name := "areYears", desc := "(I)Z" } : Jvm.MethodName)) ∈ lw_all := lw_g (lw_at lw_m4 19 rfl) rfl
theorem q815 : (Jvm.Cond.code ({ cls := "HabitRegistry", name := "areYears", desc := "(I)Z" } : Jvm.MethodName) prog_1_method_4_code (1 : Nat) (Option.some Jvm.ClassFile.FieldType.boolean)) ∈ lw_all := lw_g (lw_at lw_m4 20 rfl) rfl
theorem q846 : (Jvm.Cond.static ({ cls := "HabitRegistry", name := "rejectIf", desc := "(ZII)V" } : Jvm.MethodName)) ∈ lw_all := lw_g (lw_at lw_m4 51 rfl) rfl
theorem q847 : (Jvm.Cond.code ({ cls := "HabitRegistry", name := "rejectIf", desc := "(ZII)V" } : Jvm.MethodName) prog_1_method_11_code (3 : Nat) (Option.none : Option Jvm.ClassFile.FieldType)) ∈ lw_all := lw_g (lw_at lw_m4 52 rfl) rfl
theorem q856 : (Jvm.Cond.methodLink "HabitRegistry" (35 : Nat) ({ cls := "HabitRegistry$Rejection", name := "<init>", desc := "(II)V" } : Jvm.MethodName)) ∈ lw_all := lw_g (lw_at lw_m4 61 rfl) rfl
theorem q939 : (Jvm.Cond.methodLink "HabitRegistry" (148 : Nat) ({ cls := "HabitRegistry", name := "commit", desc := "(LHabitRegistry$Data;I)I" } : Jvm.MethodName)) ∈ lw_all := lw_g (lw_at lw_m4 144 rfl) rfl
theorem q940 : (Jvm.Cond.privateMethod ({ cls := "HabitRegistry", name := "commit", desc := "(LHabitRegistry$Data;I)I" } : Jvm.MethodName)) ∈ lw_tbl := lw_at lw_m4 145 rfl
theorem q941 : (Jvm.Cond.instanceMethod ({ cls := "HabitRegistry", name := "commit", desc := "(LHabitRegistry$Data;I)I" } : Jvm.MethodName)) ∈ lw_all := lw_g (lw_at lw_m4 146 rfl) rfl
theorem q942 : (Jvm.Cond.code ({ cls := "HabitRegistry", name := "commit", desc := "(LHabitRegistry$Data;I)I" } : Jvm.MethodName) prog_1_method_14_code (3 : Nat) (Option.some Jvm.ClassFile.FieldType.int)) ∈ lw_all := lw_g (lw_at lw_m4 147 rfl) rfl
theorem q943 : (Jvm.Cond.methodLink "HabitRegistry" (95 : Nat) ({ cls := "java/util/ArrayList", name := "remove", desc := "(I)Ljava/lang/Object;" } : Jvm.MethodName)) ∈ lw_all := lw_g (lw_at lw_m4 148 rfl) rfl
theorem q952 : (Jvm.Cond.methodLink "HabitRegistry" (99 : Nat) ({ cls := "java/util/ArrayList", name := "add", desc := "(Ljava/lang/Object;)Z" } : Jvm.MethodName)) ∈ lw_all := lw_g (lw_at lw_m4 157 rfl) rfl
theorem q953 : (Jvm.Cond.methodLink "HabitRegistry" (152 : Nat) ({ cls := "HabitRegistry", name := "rejected", desc := "(LHabitRegistry$Rejection;)Ljava/lang/UnsupportedOperationException;" } : Jvm.MethodName)) ∈ lw_all := lw_g (lw_at lw_m4 158 rfl) rfl
theorem q954 : (Jvm.Cond.privateMethod ({ cls := "HabitRegistry", name := "rejected", desc := "(LHabitRegistry$Rejection;)Ljava/lang/UnsupportedOperationException;" } : Jvm.MethodName)) ∈ lw_tbl := lw_at lw_m4 159 rfl
theorem q955 : (Jvm.Cond.instanceMethod ({ cls := "HabitRegistry", name := "rejected", desc := "(LHabitRegistry$Rejection;)Ljava/lang/UnsupportedOperationException;" } : Jvm.MethodName)) ∈ lw_all := lw_g (lw_at lw_m4 160 rfl) rfl
theorem q956 : (Jvm.Cond.code ({ cls := "HabitRegistry", name := "rejected", desc := "(LHabitRegistry$Rejection;)Ljava/lang/UnsupportedOperationException;" } : Jvm.MethodName) prog_1_method_15_code (2 : Nat) (Option.some (Jvm.ClassFile.FieldType.object "java/lang/UnsupportedOperationException"))) ∈ lw_all := lw_g (lw_at lw_m4 161 rfl) rfl
theorem q957 : (Jvm.Cond.classLink "HabitRegistry" (107 : Nat) "java/lang/UnsupportedOperationException") ∈ lw_all := lw_g (lw_at lw_m4 162 rfl) rfl
theorem q966 : (Jvm.Cond.methodLink "HabitRegistry" (109 : Nat) ({ cls := "java/lang/UnsupportedOperationException", name := "<init>", desc := "()V" } : Jvm.MethodName)) ∈ lw_all := lw_g (lw_at lw_m4 171 rfl) rfl
theorem q972 : (Jvm.Cond.classLink "HabitRegistry" (21 : Nat) "java/lang/IllegalArgumentException") ∈ lw_all := lw_g (lw_at lw_m4 177 rfl) rfl
theorem q981 : (Jvm.Cond.methodLink "HabitRegistry" (23 : Nat) ({ cls := "java/lang/IllegalArgumentException", name := "<init>", desc := "()V" } : Jvm.MethodName)) ∈ lw_all := lw_g (lw_at lw_m4 186 rfl) rfl
theorem q1023 : (Jvm.Cond.instanceMethod ({ cls := "HabitRegistry", name := "addChild", desc := "(I)I" } : Jvm.MethodName)) ∈ lw_all := lw_g (lw_at lw_m4 228 rfl) rfl
theorem q1024 : (Jvm.Cond.selects "HabitRegistry" ({ cls := "HabitRegistry", name := "addChild", desc := "(I)I" } : Jvm.MethodName) ({ cls := "HabitRegistry", name := "addChild", desc := "(I)I" } : Jvm.MethodName)) ∈ lw_all := lw_g (lw_at lw_m4 229 rfl) rfl
theorem q1025 : (Jvm.Cond.code ({ cls := "HabitRegistry", name := "addChild", desc := "(I)I" } : Jvm.MethodName) prog_1_method_23_code (2 : Nat) (Option.some Jvm.ClassFile.FieldType.int)) ∈ lw_all := lw_g (lw_at lw_m4 230 rfl) rfl
theorem q1026 : (Jvm.Cond.methodLink "HabitRegistry" (110 : Nat) ({ cls := "HabitRegistry$Data", name := "hasPerson", desc := "(I)Z" } : Jvm.MethodName)) ∈ lw_all := lw_g (lw_at lw_m4 231 rfl) rfl
theorem q1027 : (Jvm.Cond.methodLink "HabitRegistry" (114 : Nat) ({ cls := "HabitRegistry", name := "requireIndex", desc := "(Z)V" } : Jvm.MethodName)) ∈ lw_all := lw_g (lw_at lw_m4 232 rfl) rfl
theorem q1028 : (Jvm.Cond.static ({ cls := "HabitRegistry", name := "requireIndex", desc := "(Z)V" } : Jvm.MethodName)) ∈ lw_all := lw_g (lw_at lw_m4 233 rfl) rfl
theorem q1029 : (Jvm.Cond.code ({ cls := "HabitRegistry", name := "requireIndex", desc := "(Z)V" } : Jvm.MethodName) prog_1_method_6_code (1 : Nat) (Option.none : Option Jvm.ClassFile.FieldType)) ∈ lw_all := lw_g (lw_at lw_m4 234 rfl) rfl
theorem q1030 : (Jvm.Cond.classLink "HabitRegistry" (15 : Nat) "java/lang/IndexOutOfBoundsException") ∈ lw_all := lw_g (lw_at lw_m4 235 rfl) rfl
theorem q1039 : (Jvm.Cond.methodLink "HabitRegistry" (17 : Nat) ({ cls := "java/lang/IndexOutOfBoundsException", name := "<init>", desc := "()V" } : Jvm.MethodName)) ∈ lw_all := lw_g (lw_at lw_m5 4 rfl) rfl
theorem q1049 : (Jvm.Cond.instanceMethod ({ cls := "HabitRegistry", name := "bury", desc := "(I)I" } : Jvm.MethodName)) ∈ lw_all := lw_g (lw_at lw_m5 14 rfl) rfl
theorem q1050 : (Jvm.Cond.selects "HabitRegistry" ({ cls := "HabitRegistry", name := "bury", desc := "(I)I" } : Jvm.MethodName) ({ cls := "HabitRegistry", name := "bury", desc := "(I)I" } : Jvm.MethodName)) ∈ lw_all := lw_g (lw_at lw_m5 15 rfl) rfl
theorem q1051 : (Jvm.Cond.code ({ cls := "HabitRegistry", name := "bury", desc := "(I)I" } : Jvm.MethodName) prog_1_method_24_code (2 : Nat) (Option.some Jvm.ClassFile.FieldType.int)) ∈ lw_all := lw_g (lw_at lw_m5 16 rfl) rfl
theorem q1056 : (Jvm.Cond.instanceMethod ({ cls := "HabitRegistry", name := "isAlive", desc := "(I)Z" } : Jvm.MethodName)) ∈ lw_all := lw_g (lw_at lw_m5 21 rfl) rfl
theorem q1057 : (Jvm.Cond.selects "HabitRegistry" ({ cls := "HabitRegistry", name := "isAlive", desc := "(I)Z" } : Jvm.MethodName) ({ cls := "HabitRegistry", name := "isAlive", desc := "(I)Z" } : Jvm.MethodName)) ∈ lw_all := lw_g (lw_at lw_m5 22 rfl) rfl
theorem q1058 : (Jvm.Cond.code ({ cls := "HabitRegistry", name := "isAlive", desc := "(I)Z" } : Jvm.MethodName) prog_1_method_27_code (2 : Nat) (Option.some Jvm.ClassFile.FieldType.boolean)) ∈ lw_all := lw_g (lw_at lw_m5 23 rfl) rfl
theorem q1059 : (Jvm.Cond.methodLink "HabitRegistry" (172 : Nat) ({ cls := "HabitRegistry", name := "requirePerson", desc := "(I)LHabitRegistry$Person;" } : Jvm.MethodName)) ∈ lw_all := lw_g (lw_at lw_m5 24 rfl) rfl
theorem q1060 : (Jvm.Cond.privateMethod ({ cls := "HabitRegistry", name := "requirePerson", desc := "(I)LHabitRegistry$Person;" } : Jvm.MethodName)) ∈ lw_tbl := lw_at lw_m5 25 rfl
theorem q1061 : (Jvm.Cond.instanceMethod ({ cls := "HabitRegistry", name := "requirePerson", desc := "(I)LHabitRegistry$Person;" } : Jvm.MethodName)) ∈ lw_all := lw_g (lw_at lw_m5 26 rfl) rfl
theorem q1062 : (Jvm.Cond.code ({ cls := "HabitRegistry", name := "requirePerson", desc := "(I)LHabitRegistry$Person;" } : Jvm.MethodName) prog_1_method_16_code (2 : Nat) (Option.some (Jvm.ClassFile.FieldType.object "HabitRegistry$Person"))) ∈ lw_all := lw_g (lw_at lw_m5 27 rfl) rfl
theorem q1063 : (Jvm.Cond.methodLink "HabitRegistry" (121 : Nat) ({ cls := "java/util/ArrayList", name := "get", desc := "(I)Ljava/lang/Object;" } : Jvm.MethodName)) ∈ lw_all := lw_g (lw_at lw_m5 28 rfl) rfl
theorem q1064 : (Jvm.Cond.classLink "HabitRegistry" (124 : Nat) "HabitRegistry$Person") ∈ lw_all := lw_g (lw_at lw_m5 29 rfl) rfl
theorem q1069 : (Jvm.Cond.instanceMethod ({ cls := "HabitRegistry", name := "isFounder", desc := "(I)Z" } : Jvm.MethodName)) ∈ lw_all := lw_g (lw_at lw_m5 34 rfl) rfl
theorem q1070 : (Jvm.Cond.selects "HabitRegistry" ({ cls := "HabitRegistry", name := "isFounder", desc := "(I)Z" } : Jvm.MethodName) ({ cls := "HabitRegistry", name := "isFounder", desc := "(I)Z" } : Jvm.MethodName)) ∈ lw_all := lw_g (lw_at lw_m5 35 rfl) rfl
theorem q1071 : (Jvm.Cond.code ({ cls := "HabitRegistry", name := "isFounder", desc := "(I)Z" } : Jvm.MethodName) prog_1_method_28_code (2 : Nat) (Option.some Jvm.ClassFile.FieldType.boolean)) ∈ lw_all := lw_g (lw_at lw_m5 36 rfl) rfl
theorem q1077 : (Jvm.Cond.instanceMethod ({ cls := "HabitRegistry", name := "parentOf", desc := "(I)I" } : Jvm.MethodName)) ∈ lw_all := lw_g (lw_at lw_m5 42 rfl) rfl
theorem q1078 : (Jvm.Cond.selects "HabitRegistry" ({ cls := "HabitRegistry", name := "parentOf", desc := "(I)I" } : Jvm.MethodName) ({ cls := "HabitRegistry", name := "parentOf", desc := "(I)I" } : Jvm.MethodName)) ∈ lw_all := lw_g (lw_at lw_m5 43 rfl) rfl
theorem q1079 : (Jvm.Cond.code ({ cls := "HabitRegistry", name := "parentOf", desc := "(I)I" } : Jvm.MethodName) prog_1_method_29_code (2 : Nat) (Option.some Jvm.ClassFile.FieldType.int)) ∈ lw_all := lw_g (lw_at lw_m5 44 rfl) rfl
theorem q1080 : (Jvm.Cond.methodLink "HabitRegistry" (184 : Nat) ({ cls := "HabitRegistry", name := "requireFound", desc := "(LHabitRegistry$Person;)I" } : Jvm.MethodName)) ∈ lw_all := lw_g (lw_at lw_m5 45 rfl) rfl
theorem q1081 : (Jvm.Cond.static ({ cls := "HabitRegistry", name := "requireFound", desc := "(LHabitRegistry$Person;)I" } : Jvm.MethodName)) ∈ lw_all := lw_g (lw_at lw_m5 46 rfl) rfl
theorem q1082 : (Jvm.Cond.code ({ cls := "HabitRegistry", name := "requireFound", desc := "(LHabitRegistry$Person;)I" } : Jvm.MethodName) prog_1_method_18_code (1 : Nat) (Option.some Jvm.ClassFile.FieldType.int)) ∈ lw_all := lw_g (lw_at lw_m5 47 rfl) rfl
theorem q1083 : (Jvm.Cond.methodLink "HabitRegistry" (134 : Nat) ({ cls := "HabitRegistry", name := "requireElement", desc := "(Z)V" } : Jvm.MethodName)) ∈ lw_all := lw_g (lw_at lw_m5 48 rfl) rfl
theorem q1084 : (Jvm.Cond.static ({ cls := "HabitRegistry", name := "requireElement", desc := "(Z)V" } : Jvm.MethodName)) ∈ lw_all := lw_g (lw_at lw_m5 49 rfl) rfl
theorem q1085 : (Jvm.Cond.code ({ cls := "HabitRegistry", name := "requireElement", desc := "(Z)V" } : Jvm.MethodName) prog_1_method_9_code (1 : Nat) (Option.none : Option Jvm.ClassFile.FieldType)) ∈ lw_all := lw_g (lw_at lw_m5 50 rfl) rfl
theorem q1086 : (Jvm.Cond.classLink "HabitRegistry" (27 : Nat) "java/util/NoSuchElementException") ∈ lw_all := lw_g (lw_at lw_m5 51 rfl) rfl
theorem q1087 : (Jvm.Cond.methodLink "HabitRegistry" (29 : Nat) ({ cls := "java/util/NoSuchElementException", name := "<init>", desc := "()V" } : Jvm.MethodName)) ∈ lw_all := lw_g (lw_at lw_m5 52 rfl) rfl
theorem q1092 : (Jvm.Cond.instanceMethod ({ cls := "HabitRegistry", name := "childCount", desc := "(I)I" } : Jvm.MethodName)) ∈ lw_all := lw_g (lw_at lw_m5 57 rfl) rfl
theorem q1093 : (Jvm.Cond.selects "HabitRegistry" ({ cls := "HabitRegistry", name := "childCount", desc := "(I)I" } : Jvm.MethodName) ({ cls := "HabitRegistry", name := "childCount", desc := "(I)I" } : Jvm.MethodName)) ∈ lw_all := lw_g (lw_at lw_m5 58 rfl) rfl
theorem q1094 : (Jvm.Cond.code ({ cls := "HabitRegistry", name := "childCount", desc := "(I)I" } : Jvm.MethodName) prog_1_method_30_code (2 : Nat) (Option.some Jvm.ClassFile.FieldType.int)) ∈ lw_all := lw_g (lw_at lw_m5 59 rfl) rfl
theorem q1099 : (Jvm.Cond.instanceMethod ({ cls := "HabitRegistry", name := "childAt", desc := "(II)I" } : Jvm.MethodName)) ∈ lw_all := lw_g (lw_at lw_m5 64 rfl) rfl
theorem q1100 : (Jvm.Cond.selects "HabitRegistry" ({ cls := "HabitRegistry", name := "childAt", desc := "(II)I" } : Jvm.MethodName) ({ cls := "HabitRegistry", name := "childAt", desc := "(II)I" } : Jvm.MethodName)) ∈ lw_all := lw_g (lw_at lw_m5 65 rfl) rfl
theorem q1101 : (Jvm.Cond.code ({ cls := "HabitRegistry", name := "childAt", desc := "(II)I" } : Jvm.MethodName) prog_1_method_31_code (4 : Nat) (Option.some Jvm.ClassFile.FieldType.int)) ∈ lw_all := lw_g (lw_at lw_m5 66 rfl) rfl
theorem q1106 : (Jvm.Cond.instanceMethod ({ cls := "HabitRegistry", name := "generation", desc := "(I)I" } : Jvm.MethodName)) ∈ lw_all := lw_g (lw_at lw_m5 71 rfl) rfl
theorem q1107 : (Jvm.Cond.selects "HabitRegistry" ({ cls := "HabitRegistry", name := "generation", desc := "(I)I" } : Jvm.MethodName) ({ cls := "HabitRegistry", name := "generation", desc := "(I)I" } : Jvm.MethodName)) ∈ lw_all := lw_g (lw_at lw_m5 72 rfl) rfl
theorem q1108 : (Jvm.Cond.code ({ cls := "HabitRegistry", name := "generation", desc := "(I)I" } : Jvm.MethodName) prog_1_method_32_code (2 : Nat) (Option.some Jvm.ClassFile.FieldType.int)) ∈ lw_all := lw_g (lw_at lw_m5 73 rfl) rfl
theorem q1109 : (Jvm.Cond.methodLink "HabitRegistry" (191 : Nat) ({ cls := "HabitRegistry$Person", name := "generation", desc := "()I" } : Jvm.MethodName)) ∈ lw_all := lw_g (lw_at lw_m5 74 rfl) rfl
theorem q1114 : (Jvm.Cond.instanceMethod ({ cls := "HabitRegistry", name := "livingDescendants", desc := "(I)I" } : Jvm.MethodName)) ∈ lw_all := lw_g (lw_at lw_m5 79 rfl) rfl
theorem q1115 : (Jvm.Cond.selects "HabitRegistry" ({ cls := "HabitRegistry", name := "livingDescendants", desc := "(I)I" } : Jvm.MethodName) ({ cls := "HabitRegistry", name := "livingDescendants", desc := "(I)I" } : Jvm.MethodName)) ∈ lw_all := lw_g (lw_at lw_m5 80 rfl) rfl
theorem q1116 : (Jvm.Cond.code ({ cls := "HabitRegistry", name := "livingDescendants", desc := "(I)I" } : Jvm.MethodName) prog_1_method_33_code (2 : Nat) (Option.some Jvm.ClassFile.FieldType.int)) ∈ lw_all := lw_g (lw_at lw_m5 81 rfl) rfl
theorem q1117 : (Jvm.Cond.methodLink "HabitRegistry" (194 : Nat) ({ cls := "HabitRegistry$Data", name := "livingDescendants", desc := "(LHabitRegistry$Person;)I" } : Jvm.MethodName)) ∈ lw_all := lw_g (lw_at lw_m5 82 rfl) rfl
theorem q1125 : (Jvm.Cond.instanceMethod ({ cls := "HabitRegistry", name := "isAncestor", desc := "(II)Z" } : Jvm.MethodName)) ∈ lw_all := lw_g (lw_at lw_m5 90 rfl) rfl
theorem q1126 : (Jvm.Cond.selects "HabitRegistry" ({ cls := "HabitRegistry", name := "isAncestor", desc := "(II)Z" } : Jvm.MethodName) ({ cls := "HabitRegistry", name := "isAncestor", desc := "(II)Z" } : Jvm.MethodName)) ∈ lw_all := lw_g (lw_at lw_m5 91 rfl) rfl
theorem q1127 : (Jvm.Cond.code ({ cls := "HabitRegistry", name := "isAncestor", desc := "(II)Z" } : Jvm.MethodName) prog_1_method_34_code (3 : Nat) (Option.some Jvm.ClassFile.FieldType.boolean)) ∈ lw_all := lw_g (lw_at lw_m5 92 rfl) rfl
theorem q1128 : (Jvm.Cond.methodLink "HabitRegistry" (197 : Nat) ({ cls := "HabitRegistry$Person", name := "isAncestorOf", desc := "(LHabitRegistry$Person;)Z" } : Jvm.MethodName)) ∈ lw_all := lw_g (lw_at lw_m5 93 rfl) rfl
theorem q1133 : (Jvm.Cond.instanceMethod ({ cls := "HabitRegistry", name := "commonAncestor", desc := "(II)I" } : Jvm.MethodName)) ∈ lw_all := lw_g (lw_at lw_m5 98 rfl) rfl
theorem q1134 : (Jvm.Cond.selects "HabitRegistry" ({ cls := "HabitRegistry", name := "commonAncestor", desc := "(II)I" } : Jvm.MethodName) ({ cls := "HabitRegistry", name := "commonAncestor", desc := "(II)I" } : Jvm.MethodName)) ∈ lw_all := lw_g (lw_at lw_m5 99 rfl) rfl
theorem q1135 : (Jvm.Cond.code ({ cls := "HabitRegistry", name := "commonAncestor", desc := "(II)I" } : Jvm.MethodName) prog_1_method_35_code (3 : Nat) (Option.some Jvm.ClassFile.FieldType.int)) ∈ lw_all := lw_g (lw_at lw_m5 100 rfl) rfl
theorem q1136 : (Jvm.Cond.methodLink "HabitRegistry" (201 : Nat) ({ cls := "HabitRegistry$Data", name := "commonAncestor", desc := "(LHabitRegistry$Person;LHabitRegistry$Person;)LHabitRegistry$Person;" } : Jvm.MethodName)) ∈ lw_all := lw_g (lw_at lw_m5 101 rfl) rfl
theorem q1141 : (Jvm.Cond.instanceMethod ({ cls := "HabitRegistry", name := "distance", desc := "(II)I" } : Jvm.MethodName)) ∈ lw_all := lw_g (lw_at lw_m5 106 rfl) rfl
theorem q1142 : (Jvm.Cond.selects "HabitRegistry" ({ cls := "HabitRegistry", name := "distance", desc := "(II)I" } : Jvm.MethodName) ({ cls := "HabitRegistry", name := "distance", desc := "(II)I" } : Jvm.MethodName)) ∈ lw_all := lw_g (lw_at lw_m5 107 rfl) rfl
theorem q1143 : (Jvm.Cond.code ({ cls := "HabitRegistry", name := "distance", desc := "(II)I" } : Jvm.MethodName) prog_1_method_36_code (3 : Nat) (Option.some Jvm.ClassFile.FieldType.int)) ∈ lw_all := lw_g (lw_at lw_m5 108 rfl) rfl
theorem q1144 : (Jvm.Cond.methodLink "HabitRegistry" (205 : Nat) ({ cls := "HabitRegistry$Data", name := "distance", desc := "(LHabitRegistry$Person;LHabitRegistry$Person;)I" } : Jvm.MethodName)) ∈ lw_all := lw_g (lw_at lw_m5 109 rfl) rfl
theorem q1145 : (Jvm.Cond.methodLink "HabitRegistry" (209 : Nat) ({ cls := "HabitRegistry", name := "requireDistance", desc := "(I)I" } : Jvm.MethodName)) ∈ lw_all := lw_g (lw_at lw_m5 110 rfl) rfl
theorem q1146 : (Jvm.Cond.static ({ cls := "HabitRegistry", name := "requireDistance", desc := "(I)I" } : Jvm.MethodName)) ∈ lw_all := lw_g (lw_at lw_m5 111 rfl) rfl
theorem q1147 : (Jvm.Cond.code ({ cls := "HabitRegistry", name := "requireDistance", desc := "(I)I" } : Jvm.MethodName) prog_1_method_19_code (1 : Nat) (Option.some Jvm.ClassFile.FieldType.int)) ∈ lw_all := lw_g (lw_at lw_m5 112 rfl) rfl
theorem q1152 : (Jvm.Cond.instanceMethod ({ cls := "HabitRegistry", name := "distanceBySearch", desc := "(II)I" } : Jvm.MethodName)) ∈ lw_all := lw_g (lw_at lw_m5 117 rfl) rfl
theorem q1153 : (Jvm.Cond.selects "HabitRegistry" ({ cls := "HabitRegistry", name := "distanceBySearch", desc := "(II)I" } : Jvm.MethodName) ({ cls := "HabitRegistry", name := "distanceBySearch", desc := "(II)I" } : Jvm.MethodName)) ∈ lw_all := lw_g (lw_at lw_m5 118 rfl) rfl
theorem q1154 : (Jvm.Cond.code ({ cls := "HabitRegistry", name := "distanceBySearch", desc := "(II)I" } : Jvm.MethodName) prog_1_method_37_code (3 : Nat) (Option.some Jvm.ClassFile.FieldType.int)) ∈ lw_all := lw_g (lw_at lw_m5 119 rfl) rfl
theorem q1155 : (Jvm.Cond.methodLink "HabitRegistry" (212 : Nat) ({ cls := "HabitRegistry$Data", name := "distanceBySearch", desc := "(LHabitRegistry$Person;LHabitRegistry$Person;)I" } : Jvm.MethodName)) ∈ lw_all := lw_g (lw_at lw_m5 120 rfl) rfl
theorem q1160 : (Jvm.Cond.instanceMethod ({ cls := "HabitRegistry", name := "heirOf", desc := "(I)I" } : Jvm.MethodName)) ∈ lw_all := lw_g (lw_at lw_m5 125 rfl) rfl
theorem q1161 : (Jvm.Cond.selects "HabitRegistry" ({ cls := "HabitRegistry", name := "heirOf", desc := "(I)I" } : Jvm.MethodName) ({ cls := "HabitRegistry", name := "heirOf", desc := "(I)I" } : Jvm.MethodName)) ∈ lw_all := lw_g (lw_at lw_m5 126 rfl) rfl
theorem q1162 : (Jvm.Cond.code ({ cls := "HabitRegistry", name := "heirOf", desc := "(I)I" } : Jvm.MethodName) prog_1_method_38_code (2 : Nat) (Option.some Jvm.ClassFile.FieldType.int)) ∈ lw_all := lw_g (lw_at lw_m5 127 rfl) rfl
theorem q1163 : (Jvm.Cond.methodLink "HabitRegistry" (215 : Nat) ({ cls := "HabitRegistry$Data", name := "heir", desc := "(LHabitRegistry$Person;)LHabitRegistry$Person;" } : Jvm.MethodName)) ∈ lw_all := lw_g (lw_at lw_m5 128 rfl) rfl
theorem q1168 : (Jvm.Cond.instanceMethod ({ cls := "HabitRegistry", name := "heirByComparison", desc := "(I)I" } : Jvm.MethodName)) ∈ lw_all := lw_g (lw_at lw_m5 133 rfl) rfl
theorem q1169 : (Jvm.Cond.selects "HabitRegistry" ({ cls := "HabitRegistry", name := "heirByComparison", desc := "(I)I" } : Jvm.MethodName) ({ cls := "HabitRegistry", name := "heirByComparison", desc := "(I)I" } : Jvm.MethodName)) ∈ lw_all := lw_g (lw_at lw_m5 134 rfl) rfl
theorem q1170 : (Jvm.Cond.code ({ cls := "HabitRegistry", name := "heirByComparison", desc := "(I)I" } : Jvm.MethodName) prog_1_method_39_code (2 : Nat) (Option.some Jvm.ClassFile.FieldType.int)) ∈ lw_all := lw_g (lw_at lw_m5 135 rfl) rfl
theorem q1171 : (Jvm.Cond.methodLink "HabitRegistry" (219 : Nat) ({ cls := "HabitRegistry$Data", name := "heirByComparison", desc := "(LHabitRegistry$Person;)LHabitRegistry$Person;" } : Jvm.MethodName)) ∈ lw_all := lw_g (lw_at lw_m5 136 rfl) rfl
theorem q1176 : (Jvm.Cond.instanceMethod ({ cls := "HabitRegistry", name := "directHeirOf", desc := "(I)I" } : Jvm.MethodName)) ∈ lw_all := lw_g (lw_at lw_m5 141 rfl) rfl
theorem q1177 : (Jvm.Cond.selects "HabitRegistry" ({ cls := "HabitRegistry", name := "directHeirOf", desc := "(I)I" } : Jvm.MethodName) ({ cls := "HabitRegistry", name := "directHeirOf", desc := "(I)I" } : Jvm.MethodName)) ∈ lw_all := lw_g (lw_at lw_m5 142 rfl) rfl
theorem q1178 : (Jvm.Cond.code ({ cls := "HabitRegistry", name := "directHeirOf", desc := "(I)I" } : Jvm.MethodName) prog_1_method_40_code (2 : Nat) (Option.some Jvm.ClassFile.FieldType.int)) ∈ lw_all := lw_g (lw_at lw_m5 143 rfl) rfl
theorem q1179 : (Jvm.Cond.methodLink "HabitRegistry" (222 : Nat) ({ cls := "HabitRegistry$Data", name := "directHeir", desc := "(LHabitRegistry$Person;)LHabitRegistry$Person;" } : Jvm.MethodName)) ∈ lw_all := lw_g (lw_at lw_m5 144 rfl) rfl
theorem q1184 : (Jvm.Cond.instanceMethod ({ cls := "HabitRegistry", name := "successionPosition", desc := "(I)I" } : Jvm.MethodName)) ∈ lw_all := lw_g (lw_at lw_m5 149 rfl) rfl
theorem q1185 : (Jvm.Cond.selects "HabitRegistry" ({ cls := "HabitRegistry", name := "successionPosition", desc := "(I)I" } : Jvm.MethodName) ({ cls := "HabitRegistry", name := "successionPosition", desc := "(I)I" } : Jvm.MethodName)) ∈ lw_all := lw_g (lw_at lw_m5 150 rfl) rfl
theorem q1186 : (Jvm.Cond.code ({ cls := "HabitRegistry", name := "successionPosition", desc := "(I)I" } : Jvm.MethodName) prog_1_method_41_code (2 : Nat) (Option.some Jvm.ClassFile.FieldType.int)) ∈ lw_all := lw_g (lw_at lw_m5 151 rfl) rfl
theorem q1187 : (Jvm.Cond.methodLink "HabitRegistry" (225 : Nat) ({ cls := "HabitRegistry$Data", name := "successionPosition", desc := "(LHabitRegistry$Person;)I" } : Jvm.MethodName)) ∈ lw_all := lw_g (lw_at lw_m5 152 rfl) rfl
theorem q1196 : (Jvm.Cond.instanceMethod ({ cls := "HabitRegistry", name := "addHabit", desc := "(ICI)I" } : Jvm.MethodName)) ∈ lw_all := lw_g (lw_at lw_m5 161 rfl) rfl
theorem q1197 : (Jvm.Cond.selects "HabitRegistry" ({ cls := "HabitRegistry", name := "addHabit", desc := "(ICI)I" } : Jvm.MethodName) ({ cls := "HabitRegistry", name := "addHabit", desc := "(ICI)I" } : Jvm.MethodName)) ∈ lw_all := lw_g (lw_at lw_m5 162 rfl) rfl
theorem q1198 : (Jvm.Cond.code ({ cls := "HabitRegistry", name := "addHabit", desc := "(ICI)I" } : Jvm.MethodName) prog_1_method_42_code (4 : Nat) (Option.some Jvm.ClassFile.FieldType.int)) ∈ lw_all := lw_g (lw_at lw_m5 163 rfl) rfl
theorem q1199 : (Jvm.Cond.methodLink "HabitRegistry" (228 : Nat) ({ cls := "HabitRegistry", name := "isKind", desc := "(C)Z" } : Jvm.MethodName)) ∈ lw_all := lw_g (lw_at lw_m5 164 rfl) rfl
theorem q1200 : (Jvm.Cond.static ({ cls := "HabitRegistry", name := "isKind", desc := "(C)Z" } : Jvm.MethodName)) ∈ lw_all := lw_g (lw_at lw_m5 165 rfl) rfl
theorem q1201 : (Jvm.Cond.code ({ cls := "HabitRegistry", name := "isKind", desc := "(C)Z" } : Jvm.MethodName) prog_1_method_2_code (1 : Nat) (Option.some Jvm.ClassFile.FieldType.boolean)) ∈ lw_all := lw_g (lw_at lw_m5 166 rfl) rfl
theorem q1202 : (Jvm.Cond.stringRef "HabitRegistry" (3 : Nat) "dsh") ∈ lw_tbl := lw_at lw_m5 167 rfl
theorem q1203 : (Jvm.Cond.methodLink "HabitRegistry" (5 : Nat) ({ cls := "java/lang/String", name := "indexOf", desc := "(I)I" } : Jvm.MethodName)) ∈ lw_all := lw_g (lw_at lw_m5 168 rfl) rfl
theorem q1258 : (Jvm.Cond.methodLink "HabitRegistry" (232 : Nat) ({ cls := "HabitRegistry", name := "isStrength", desc := "(I)Z" } : Jvm.MethodName)) ∈ lw_all := lw_g (lw_at lw_m5 223 rfl) rfl
theorem q1259 : (Jvm.Cond.methodLink "HabitRegistry" (235 : Nat) ({ cls := "HabitRegistry", name := "requireArgument", desc := "(Z)V" } : Jvm.MethodName)) ∈ lw_all := lw_g (lw_at lw_m5 224 rfl) rfl
theorem q1260 : (Jvm.Cond.static ({ cls := "HabitRegistry", name := "requireArgument", desc := "(Z)V" } : Jvm.MethodName)) ∈ lw_all := lw_g (lw_at lw_m5 225 rfl) rfl
theorem q1261 : (Jvm.Cond.code ({ cls := "HabitRegistry", name := "requireArgument", desc := "(Z)V" } : Jvm.MethodName) prog_1_method_7_code (1 : Nat) (Option.none : Option Jvm.ClassFile.FieldType)) ∈ lw_all := lw_g (lw_at lw_m5 226 rfl) rfl
theorem q1266 : (Jvm.Cond.instanceMethod ({ cls := "HabitRegistry", name := "practise", desc := "(I)I" } : Jvm.MethodName)) ∈ lw_all := lw_g (lw_at lw_m5 231 rfl) rfl
theorem q1267 : (Jvm.Cond.selects "HabitRegistry" ({ cls := "HabitRegistry", name := "practise", desc := "(I)I" } : Jvm.MethodName) ({ cls := "HabitRegistry", name := "practise", desc := "(I)I" } : Jvm.MethodName)) ∈ lw_all := lw_g (lw_at lw_m5 232 rfl) rfl
theorem q1268 : (Jvm.Cond.code ({ cls := "HabitRegistry", name := "practise", desc := "(I)I" } : Jvm.MethodName) prog_1_method_43_code (2 : Nat) (Option.some Jvm.ClassFile.FieldType.int)) ∈ lw_all := lw_g (lw_at lw_m5 233 rfl) rfl
theorem q1269 : (Jvm.Cond.methodLink "HabitRegistry" (126 : Nat) ({ cls := "HabitRegistry$Data", name := "hasHabit", desc := "(I)Z" } : Jvm.MethodName)) ∈ lw_all := lw_g (lw_at lw_m5 234 rfl) rfl
theorem q1274 : (Jvm.Cond.instanceMethod ({ cls := "HabitRegistry", name := "neglect", desc := "(I)I" } : Jvm.MethodName)) ∈ lw_all := lw_g (lw_at lw_m5 239 rfl) rfl
theorem q1275 : (Jvm.Cond.selects "HabitRegistry" ({ cls := "HabitRegistry", name := "neglect", desc := "(I)I" } : Jvm.MethodName) ({ cls := "HabitRegistry", name := "neglect", desc := "(I)I" } : Jvm.MethodName)) ∈ lw_all := lw_g (lw_at lw_m6 0 rfl) rfl
theorem q1276 : (Jvm.Cond.code ({ cls := "HabitRegistry", name := "neglect", desc := "(I)I" } : Jvm.MethodName) prog_1_method_44_code (2 : Nat) (Option.some Jvm.ClassFile.FieldType.int)) ∈ lw_all := lw_g (lw_at lw_m6 1 rfl) rfl
theorem q1281 : (Jvm.Cond.instanceMethod ({ cls := "HabitRegistry", name := "entail", desc := "(I)I" } : Jvm.MethodName)) ∈ lw_all := lw_g (lw_at lw_m6 6 rfl) rfl
theorem q1282 : (Jvm.Cond.selects "HabitRegistry" ({ cls := "HabitRegistry", name := "entail", desc := "(I)I" } : Jvm.MethodName) ({ cls := "HabitRegistry", name := "entail", desc := "(I)I" } : Jvm.MethodName)) ∈ lw_all := lw_g (lw_at lw_m6 7 rfl) rfl
theorem q1283 : (Jvm.Cond.code ({ cls := "HabitRegistry", name := "entail", desc := "(I)I" } : Jvm.MethodName) prog_1_method_45_code (2 : Nat) (Option.some Jvm.ClassFile.FieldType.int)) ∈ lw_all := lw_g (lw_at lw_m6 8 rfl) rfl
theorem q1288 : (Jvm.Cond.instanceMethod ({ cls := "HabitRegistry", name := "breakEntail", desc := "(I)I" } : Jvm.MethodName)) ∈ lw_all := lw_g (lw_at lw_m6 13 rfl) rfl
theorem q1289 : (Jvm.Cond.selects "HabitRegistry" ({ cls := "HabitRegistry", name := "breakEntail", desc := "(I)I" } : Jvm.MethodName) ({ cls := "HabitRegistry", name := "breakEntail", desc := "(I)I" } : Jvm.MethodName)) ∈ lw_all := lw_g (lw_at lw_m6 14 rfl) rfl
theorem q1290 : (Jvm.Cond.code ({ cls := "HabitRegistry", name := "breakEntail", desc := "(I)I" } : Jvm.MethodName) prog_1_method_46_code (2 : Nat) (Option.some Jvm.ClassFile.FieldType.int)) ∈ lw_all := lw_g (lw_at lw_m6 15 rfl) rfl
theorem q1295 : (Jvm.Cond.instanceMethod ({ cls := "HabitRegistry", name := "give", desc := "(II)I" } : Jvm.MethodName)) ∈ lw_all := lw_g (lw_at lw_m6 20 rfl) rfl
theorem q1296 : (Jvm.Cond.selects "HabitRegistry" ({ cls := "HabitRegistry", name := "give", desc := "(II)I" } : Jvm.MethodName) ({ cls := "HabitRegistry", name := "give", desc := "(II)I" } : Jvm.MethodName)) ∈ lw_all := lw_g (lw_at lw_m6 21 rfl) rfl
theorem q1297 : (Jvm.Cond.code ({ cls := "HabitRegistry", name := "give", desc := "(II)I" } : Jvm.MethodName) prog_1_method_47_code (3 : Nat) (Option.some Jvm.ClassFile.FieldType.int)) ∈ lw_all := lw_g (lw_at lw_m6 22 rfl) rfl
theorem q1302 : (Jvm.Cond.instanceMethod ({ cls := "HabitRegistry", name := "kindOf", desc := "(I)C" } : Jvm.MethodName)) ∈ lw_all := lw_g (lw_at lw_m6 27 rfl) rfl
theorem q1303 : (Jvm.Cond.selects "HabitRegistry" ({ cls := "HabitRegistry", name := "kindOf", desc := "(I)C" } : Jvm.MethodName) ({ cls := "HabitRegistry", name := "kindOf", desc := "(I)C" } : Jvm.MethodName)) ∈ lw_all := lw_g (lw_at lw_m6 28 rfl) rfl
theorem q1304 : (Jvm.Cond.code ({ cls := "HabitRegistry", name := "kindOf", desc := "(I)C" } : Jvm.MethodName) prog_1_method_49_code (2 : Nat) (Option.some Jvm.ClassFile.FieldType.char)) ∈ lw_all := lw_g (lw_at lw_m6 29 rfl) rfl
theorem q1305 : (Jvm.Cond.methodLink "HabitRegistry" (238 : Nat) ({ cls := "HabitRegistry", name := "requireHabit", desc := "(I)LHabitRegistry$Habit;" } : Jvm.MethodName)) ∈ lw_all := lw_g (lw_at lw_m6 30 rfl) rfl
theorem q1306 : (Jvm.Cond.privateMethod ({ cls := "HabitRegistry", name := "requireHabit", desc := "(I)LHabitRegistry$Habit;" } : Jvm.MethodName)) ∈ lw_tbl := lw_at lw_m6 31 rfl
theorem q1307 : (Jvm.Cond.instanceMethod ({ cls := "HabitRegistry", name := "requireHabit", desc := "(I)LHabitRegistry$Habit;" } : Jvm.MethodName)) ∈ lw_all := lw_g (lw_at lw_m6 32 rfl) rfl
theorem q1308 : (Jvm.Cond.code ({ cls := "HabitRegistry", name := "requireHabit", desc := "(I)LHabitRegistry$Habit;" } : Jvm.MethodName) prog_1_method_17_code (2 : Nat) (Option.some (Jvm.ClassFile.FieldType.object "HabitRegistry$Habit"))) ∈ lw_all := lw_g (lw_at lw_m6 33 rfl) rfl
theorem q1309 : (Jvm.Cond.classLink "HabitRegistry" (132 : Nat) "HabitRegistry$Habit") ∈ lw_all := lw_g (lw_at lw_m6 34 rfl) rfl
theorem q1314 : (Jvm.Cond.instanceMethod ({ cls := "HabitRegistry", name := "strengthOf", desc := "(I)I" } : Jvm.MethodName)) ∈ lw_all := lw_g (lw_at lw_m6 39 rfl) rfl
theorem q1315 : (Jvm.Cond.selects "HabitRegistry" ({ cls := "HabitRegistry", name := "strengthOf", desc := "(I)I" } : Jvm.MethodName) ({ cls := "HabitRegistry", name := "strengthOf", desc := "(I)I" } : Jvm.MethodName)) ∈ lw_all := lw_g (lw_at lw_m6 40 rfl) rfl
theorem q1316 : (Jvm.Cond.code ({ cls := "HabitRegistry", name := "strengthOf", desc := "(I)I" } : Jvm.MethodName) prog_1_method_50_code (2 : Nat) (Option.some Jvm.ClassFile.FieldType.int)) ∈ lw_all := lw_g (lw_at lw_m6 41 rfl) rfl
theorem q1321 : (Jvm.Cond.instanceMethod ({ cls := "HabitRegistry", name := "holderOf", desc := "(I)I" } : Jvm.MethodName)) ∈ lw_all := lw_g (lw_at lw_m6 46 rfl) rfl
theorem q1322 : (Jvm.Cond.selects "HabitRegistry" ({ cls := "HabitRegistry", name := "holderOf", desc := "(I)I" } : Jvm.MethodName) ({ cls := "HabitRegistry", name := "holderOf", desc := "(I)I" } : Jvm.MethodName)) ∈ lw_all := lw_g (lw_at lw_m6 47 rfl) rfl
theorem q1323 : (Jvm.Cond.code ({ cls := "HabitRegistry", name := "holderOf", desc := "(I)I" } : Jvm.MethodName) prog_1_method_51_code (2 : Nat) (Option.some Jvm.ClassFile.FieldType.int)) ∈ lw_all := lw_g (lw_at lw_m6 48 rfl) rfl
theorem q1328 : (Jvm.Cond.instanceMethod ({ cls := "HabitRegistry", name := "isExtinct", desc := "(I)Z" } : Jvm.MethodName)) ∈ lw_all := lw_g (lw_at lw_m6 53 rfl) rfl
theorem q1329 : (Jvm.Cond.selects "HabitRegistry" ({ cls := "HabitRegistry", name := "isExtinct", desc := "(I)Z" } : Jvm.MethodName) ({ cls := "HabitRegistry", name := "isExtinct", desc := "(I)Z" } : Jvm.MethodName)) ∈ lw_all := lw_g (lw_at lw_m6 54 rfl) rfl
theorem q1330 : (Jvm.Cond.code ({ cls := "HabitRegistry", name := "isExtinct", desc := "(I)Z" } : Jvm.MethodName) prog_1_method_52_code (2 : Nat) (Option.some Jvm.ClassFile.FieldType.boolean)) ∈ lw_all := lw_g (lw_at lw_m6 55 rfl) rfl
theorem q1331 : (Jvm.Cond.methodLink "HabitRegistry" (252 : Nat) ({ cls := "HabitRegistry$Habit", name := "isExtinct", desc := "()Z" } : Jvm.MethodName)) ∈ lw_all := lw_g (lw_at lw_m6 56 rfl) rfl
theorem q1336 : (Jvm.Cond.instanceMethod ({ cls := "HabitRegistry", name := "isEntailed", desc := "(I)Z" } : Jvm.MethodName)) ∈ lw_all := lw_g (lw_at lw_m6 61 rfl) rfl
theorem q1337 : (Jvm.Cond.selects "HabitRegistry" ({ cls := "HabitRegistry", name := "isEntailed", desc := "(I)Z" } : Jvm.MethodName) ({ cls := "HabitRegistry", name := "isEntailed", desc := "(I)Z" } : Jvm.MethodName)) ∈ lw_all := lw_g (lw_at lw_m6 62 rfl) rfl
theorem q1338 : (Jvm.Cond.code ({ cls := "HabitRegistry", name := "isEntailed", desc := "(I)Z" } : Jvm.MethodName) prog_1_method_53_code (2 : Nat) (Option.some Jvm.ClassFile.FieldType.boolean)) ∈ lw_all := lw_g (lw_at lw_m6 63 rfl) rfl
theorem q1343 : (Jvm.Cond.instanceMethod ({ cls := "HabitRegistry", name := "isPractised", desc := "(I)Z" } : Jvm.MethodName)) ∈ lw_all := lw_g (lw_at lw_m6 68 rfl) rfl
theorem q1344 : (Jvm.Cond.selects "HabitRegistry" ({ cls := "HabitRegistry", name := "isPractised", desc := "(I)Z" } : Jvm.MethodName) ({ cls := "HabitRegistry", name := "isPractised", desc := "(I)Z" } : Jvm.MethodName)) ∈ lw_all := lw_g (lw_at lw_m6 69 rfl) rfl
theorem q1345 : (Jvm.Cond.code ({ cls := "HabitRegistry", name := "isPractised", desc := "(I)Z" } : Jvm.MethodName) prog_1_method_54_code (2 : Nat) (Option.some Jvm.ClassFile.FieldType.boolean)) ∈ lw_all := lw_g (lw_at lw_m6 70 rfl) rfl
theorem q1350 : (Jvm.Cond.instanceMethod ({ cls := "HabitRegistry", name := "habitOf", desc := "(IC)I" } : Jvm.MethodName)) ∈ lw_all := lw_g (lw_at lw_m6 75 rfl) rfl
theorem q1351 : (Jvm.Cond.selects "HabitRegistry" ({ cls := "HabitRegistry", name := "habitOf", desc := "(IC)I" } : Jvm.MethodName) ({ cls := "HabitRegistry", name := "habitOf", desc := "(IC)I" } : Jvm.MethodName)) ∈ lw_all := lw_g (lw_at lw_m6 76 rfl) rfl
theorem q1352 : (Jvm.Cond.code ({ cls := "HabitRegistry", name := "habitOf", desc := "(IC)I" } : Jvm.MethodName) prog_1_method_55_code (5 : Nat) (Option.some Jvm.ClassFile.FieldType.int)) ∈ lw_all := lw_g (lw_at lw_m6 77 rfl) rfl
theorem q1353 : (Jvm.Cond.methodLink "HabitRegistry" (261 : Nat) ({ cls := "HabitRegistry$Data", name := "habitOf", desc := "(LHabitRegistry$Person;C)LHabitRegistry$Habit;" } : Jvm.MethodName)) ∈ lw_all := lw_g (lw_at lw_m6 78 rfl) rfl
theorem q1358 : (Jvm.Cond.instanceMethod ({ cls := "HabitRegistry", name := "habitStrength", desc := "(I)I" } : Jvm.MethodName)) ∈ lw_all := lw_g (lw_at lw_m6 83 rfl) rfl
theorem q1359 : (Jvm.Cond.selects "HabitRegistry" ({ cls := "HabitRegistry", name := "habitStrength", desc := "(I)I" } : Jvm.MethodName) ({ cls := "HabitRegistry", name := "habitStrength", desc := "(I)I" } : Jvm.MethodName)) ∈ lw_all := lw_g (lw_at lw_m6 84 rfl) rfl
theorem q1360 : (Jvm.Cond.code ({ cls := "HabitRegistry", name := "habitStrength", desc := "(I)I" } : Jvm.MethodName) prog_1_method_56_code (2 : Nat) (Option.some Jvm.ClassFile.FieldType.int)) ∈ lw_all := lw_g (lw_at lw_m6 85 rfl) rfl
theorem q1361 : (Jvm.Cond.methodLink "HabitRegistry" (266 : Nat) ({ cls := "HabitRegistry$Data", name := "strengthOf", desc := "(LHabitRegistry$Person;)I" } : Jvm.MethodName)) ∈ lw_all := lw_g (lw_at lw_m6 86 rfl) rfl
theorem q1366 : (Jvm.Cond.instanceMethod ({ cls := "HabitRegistry", name := "passYears", desc := "(I)I" } : Jvm.MethodName)) ∈ lw_all := lw_g (lw_at lw_m6 91 rfl) rfl
theorem q1367 : (Jvm.Cond.selects "HabitRegistry" ({ cls := "HabitRegistry", name := "passYears", desc := "(I)I" } : Jvm.MethodName) ({ cls := "HabitRegistry", name := "passYears", desc := "(I)I" } : Jvm.MethodName)) ∈ lw_all := lw_g (lw_at lw_m6 92 rfl) rfl
theorem q1368 : (Jvm.Cond.code ({ cls := "HabitRegistry", name := "passYears", desc := "(I)I" } : Jvm.MethodName) prog_1_method_57_code (2 : Nat) (Option.some Jvm.ClassFile.FieldType.int)) ∈ lw_all := lw_g (lw_at lw_m6 93 rfl) rfl
theorem q1369 : (Jvm.Cond.methodLink "HabitRegistry" (269 : Nat) ({ cls := "HabitRegistry", name := "areYears", desc := "(I)Z" } : Jvm.MethodName)) ∈ lw_all := lw_g (lw_at lw_m6 94 rfl) rfl
theorem q1374 : (Jvm.Cond.instanceMethod ({ cls := "HabitRegistry", name := "yearsLeft", desc := "(I)I" } : Jvm.MethodName)) ∈ lw_all := lw_g (lw_at lw_m6 99 rfl) rfl
theorem q1375 : (Jvm.Cond.selects "HabitRegistry" ({ cls := "HabitRegistry", name := "yearsLeft", desc := "(I)I" } : Jvm.MethodName) ({ cls := "HabitRegistry", name := "yearsLeft", desc := "(I)I" } : Jvm.MethodName)) ∈ lw_all := lw_g (lw_at lw_m6 100 rfl) rfl
theorem q1376 : (Jvm.Cond.code ({ cls := "HabitRegistry", name := "yearsLeft", desc := "(I)I" } : Jvm.MethodName) prog_1_method_59_code (3 : Nat) (Option.some Jvm.ClassFile.FieldType.int)) ∈ lw_all := lw_g (lw_at lw_m6 101 rfl) rfl
theorem q1377 : (Jvm.Cond.methodLink "HabitRegistry" (275 : Nat) ({ cls := "HabitRegistry", name := "asInt", desc := "(Z)I" } : Jvm.MethodName)) ∈ lw_all := lw_g (lw_at lw_m6 102 rfl) rfl
theorem q1382 : (Jvm.Cond.instanceMethod ({ cls := "HabitRegistry", name := "habitByStrength", desc := "(I)I" } : Jvm.MethodName)) ∈ lw_all := lw_g (lw_at lw_m6 107 rfl) rfl
theorem q1383 : (Jvm.Cond.selects "HabitRegistry" ({ cls := "HabitRegistry", name := "habitByStrength", desc := "(I)I" } : Jvm.MethodName) ({ cls := "HabitRegistry", name := "habitByStrength", desc := "(I)I" } : Jvm.MethodName)) ∈ lw_all := lw_g (lw_at lw_m6 108 rfl) rfl
theorem q1384 : (Jvm.Cond.code ({ cls := "HabitRegistry", name := "habitByStrength", desc := "(I)I" } : Jvm.MethodName) prog_1_method_65_code (3 : Nat) (Option.some Jvm.ClassFile.FieldType.int)) ∈ lw_all := lw_g (lw_at lw_m6 109 rfl) rfl
theorem q1385 : (Jvm.Cond.methodLink "HabitRegistry" (302 : Nat) ({ cls := "HabitRegistry$Data", name := "habitAt", desc := "(I)LHabitRegistry$Habit;" } : Jvm.MethodName)) ∈ lw_all := lw_g (lw_at lw_m6 110 rfl) rfl
theorem q1402 : (Jvm.Cond.instanceMethod ({ cls := "HabitRegistry", name := "personByStrength", desc := "(I)I" } : Jvm.MethodName)) ∈ lw_all := lw_g (lw_at lw_m6 127 rfl) rfl
theorem q1403 : (Jvm.Cond.selects "HabitRegistry" ({ cls := "HabitRegistry", name := "personByStrength", desc := "(I)I" } : Jvm.MethodName) ({ cls := "HabitRegistry", name := "personByStrength", desc := "(I)I" } : Jvm.MethodName)) ∈ lw_all := lw_g (lw_at lw_m6 128 rfl) rfl
theorem q1404 : (Jvm.Cond.code ({ cls := "HabitRegistry", name := "personByStrength", desc := "(I)I" } : Jvm.MethodName) prog_1_method_66_code (2 : Nat) (Option.some Jvm.ClassFile.FieldType.int)) ∈ lw_all := lw_g (lw_at lw_m6 129 rfl) rfl
theorem q1405 : (Jvm.Cond.methodLink "HabitRegistry" (305 : Nat) ({ cls := "HabitRegistry$Data", name := "personAt", desc := "(I)LHabitRegistry$Person;" } : Jvm.MethodName)) ∈ lw_all := lw_g (lw_at lw_m6 130 rfl) rfl
theorem q1427 : (Jvm.Cond.instanceMethod ({ cls := "HabitRegistry", name := "meanStrength", desc := "()D" } : Jvm.MethodName)) ∈ lw_all := lw_g (lw_at lw_m6 152 rfl) rfl
theorem q1428 : (Jvm.Cond.selects "HabitRegistry" ({ cls := "HabitRegistry", name := "meanStrength", desc := "()D" } : Jvm.MethodName) ({ cls := "HabitRegistry", name := "meanStrength", desc := "()D" } : Jvm.MethodName)) ∈ lw_all := lw_g (lw_at lw_m6 153 rfl) rfl
theorem q1429 : (Jvm.Cond.code ({ cls := "HabitRegistry", name := "meanStrength", desc := "()D" } : Jvm.MethodName) prog_1_method_67_code (2 : Nat) (Option.some Jvm.ClassFile.FieldType.double)) ∈ lw_all := lw_g (lw_at lw_m6 154 rfl) rfl
theorem q1430 : (Jvm.Cond.methodLink "HabitRegistry" (311 : Nat) ({ cls := "HabitRegistry", name := "requireCount", desc := "(Z)V" } : Jvm.MethodName)) ∈ lw_all := lw_g (lw_at lw_m6 155 rfl) rfl
theorem q1431 : (Jvm.Cond.static ({ cls := "HabitRegistry", name := "requireCount", desc := "(Z)V" } : Jvm.MethodName)) ∈ lw_all := lw_g (lw_at lw_m6 156 rfl) rfl
theorem q1432 : (Jvm.Cond.code ({ cls := "HabitRegistry", name := "requireCount", desc := "(Z)V" } : Jvm.MethodName) prog_1_method_10_code (1 : Nat) (Option.none : Option Jvm.ClassFile.FieldType)) ∈ lw_all := lw_g (lw_at lw_m6 157 rfl) rfl
theorem q1433 : (Jvm.Cond.classLink "HabitRegistry" (30 : Nat) "java/lang/ArithmeticException") ∈ lw_all := lw_g (lw_at lw_m6 158 rfl) rfl
theorem q1434 : (Jvm.Cond.methodLink "HabitRegistry" (32 : Nat) ({ cls := "java/lang/ArithmeticException", name := "<init>", desc := "()V" } : Jvm.MethodName)) ∈ lw_all := lw_g (lw_at lw_m6 159 rfl) rfl
theorem q1438 : (Jvm.Cond.methodLink "HabitRegistry" (314 : Nat) ({ cls := "HabitRegistry", name := "totalStrength", desc := "()I" } : Jvm.MethodName)) ∈ lw_all := lw_g (lw_at lw_m6 163 rfl) rfl
theorem q1443 : (Jvm.Cond.instanceMethod ({ cls := "HabitRegistry", name := "livingShare", desc := "()F" } : Jvm.MethodName)) ∈ lw_all := lw_g (lw_at lw_m6 168 rfl) rfl
theorem q1444 : (Jvm.Cond.selects "HabitRegistry" ({ cls := "HabitRegistry", name := "livingShare", desc := "()F" } : Jvm.MethodName) ({ cls := "HabitRegistry", name := "livingShare", desc := "()F" } : Jvm.MethodName)) ∈ lw_all := lw_g (lw_at lw_m6 169 rfl) rfl
theorem q1445 : (Jvm.Cond.code ({ cls := "HabitRegistry", name := "livingShare", desc := "()F" } : Jvm.MethodName) prog_1_method_68_code (1 : Nat) (Option.some Jvm.ClassFile.FieldType.float)) ∈ lw_all := lw_g (lw_at lw_m6 170 rfl) rfl
theorem q1446 : (Jvm.Cond.methodLink "HabitRegistry" (317 : Nat) ({ cls := "HabitRegistry", name := "peopleCount", desc := "()I" } : Jvm.MethodName)) ∈ lw_all := lw_g (lw_at lw_m6 171 rfl) rfl
theorem q1447 : (Jvm.Cond.methodLink "HabitRegistry" (320 : Nat) ({ cls := "HabitRegistry", name := "livingCount", desc := "()I" } : Jvm.MethodName)) ∈ lw_all := lw_g (lw_at lw_m6 172 rfl) rfl
theorem q1452 : (Jvm.Cond.instanceMethod ({ cls := "HabitRegistry", name := "writePerson", desc := "(I)I" } : Jvm.MethodName)) ∈ lw_all := lw_g (lw_at lw_m6 177 rfl) rfl
theorem q1453 : (Jvm.Cond.selects "HabitRegistry" ({ cls := "HabitRegistry", name := "writePerson", desc := "(I)I" } : Jvm.MethodName) ({ cls := "HabitRegistry", name := "writePerson", desc := "(I)I" } : Jvm.MethodName)) ∈ lw_all := lw_g (lw_at lw_m6 178 rfl) rfl
theorem q1454 : (Jvm.Cond.code ({ cls := "HabitRegistry", name := "writePerson", desc := "(I)I" } : Jvm.MethodName) prog_1_method_70_code (6 : Nat) (Option.some Jvm.ClassFile.FieldType.int)) ∈ lw_all := lw_g (lw_at lw_m6 179 rfl) rfl
theorem q1455 : (Jvm.Cond.methodLink "HabitRegistry" (326 : Nat) ({ cls := "java/lang/StringBuilder", name := "append", desc := "(I)Ljava/lang/StringBuilder;" } : Jvm.MethodName)) ∈ lw_all := lw_g (lw_at lw_m6 180 rfl) rfl
theorem q1508 : (Jvm.Cond.stringRef "HabitRegistry" (330 : Nat) "+") ∈ lw_tbl := lw_at lw_m6 233 rfl
theorem q1509 : (Jvm.Cond.methodLink "HabitRegistry" (332 : Nat) ({ cls := "java/lang/StringBuilder", name := "append", desc := "(Ljava/lang/String;)Ljava/lang/StringBuilder;" } : Jvm.MethodName)) ∈ lw_all := lw_g (lw_at lw_m6 234 rfl) rfl
theorem q1558 : (Jvm.Cond.methodLink "HabitRegistry" (335 : Nat) ({ cls := "java/lang/StringBuilder", name := "append", desc := "(C)Ljava/lang/StringBuilder;" } : Jvm.MethodName)) ∈ lw_all := lw_g (lw_at lw_m7 43 rfl) rfl
theorem q1571 : (Jvm.Cond.methodLink "HabitRegistry" (162 : Nat) ({ cls := "java/lang/String", name := "length", desc := "()I" } : Jvm.MethodName)) ∈ lw_all := lw_g (lw_at lw_m7 56 rfl) rfl
theorem q1572 : (Jvm.Cond.methodLink "HabitRegistry" (338 : Nat) ({ cls := "java/lang/String", name := "charAt", desc := "(I)C" } : Jvm.MethodName)) ∈ lw_all := lw_g (lw_at lw_m7 57 rfl) rfl
theorem q1573 : (Jvm.Cond.stringRef "HabitRegistry" (342 : Nat) "!") ∈ lw_tbl := lw_at lw_m7 58 rfl
theorem q1574 : (Jvm.Cond.methodLink "HabitRegistry" (344 : Nat) ({ cls := "HabitRegistry", name := "write", desc := "(Ljava/lang/StringBuilder;)I" } : Jvm.MethodName)) ∈ lw_all := lw_g (lw_at lw_m7 59 rfl) rfl
theorem q1575 : (Jvm.Cond.privateMethod ({ cls := "HabitRegistry", name := "write", desc := "(Ljava/lang/StringBuilder;)I" } : Jvm.MethodName)) ∈ lw_tbl := lw_at lw_m7 60 rfl
theorem q1576 : (Jvm.Cond.instanceMethod ({ cls := "HabitRegistry", name := "write", desc := "(Ljava/lang/StringBuilder;)I" } : Jvm.MethodName)) ∈ lw_all := lw_g (lw_at lw_m7 61 rfl) rfl
theorem q1577 : (Jvm.Cond.code ({ cls := "HabitRegistry", name := "write", desc := "(Ljava/lang/StringBuilder;)I" } : Jvm.MethodName) prog_1_method_21_code (2 : Nat) (Option.some Jvm.ClassFile.FieldType.int)) ∈ lw_all := lw_g (lw_at lw_m7 62 rfl) rfl
theorem q1578 : (Jvm.Cond.methodLink "HabitRegistry" (158 : Nat) ({ cls := "java/lang/StringBuilder", name := "toString", desc := "()Ljava/lang/String;" } : Jvm.MethodName)) ∈ lw_all := lw_g (lw_at lw_m7 63 rfl) rfl
theorem q1645 : (Jvm.Cond.instanceMethod ({ cls := "HabitRegistry", name := "writeLine", desc := "(I)I" } : Jvm.MethodName)) ∈ lw_all := lw_g (lw_at lw_m7 130 rfl) rfl
theorem q1646 : (Jvm.Cond.selects "HabitRegistry" ({ cls := "HabitRegistry", name := "writeLine", desc := "(I)I" } : Jvm.MethodName) ({ cls := "HabitRegistry", name := "writeLine", desc := "(I)I" } : Jvm.MethodName)) ∈ lw_all := lw_g (lw_at lw_m7 131 rfl) rfl
theorem q1647 : (Jvm.Cond.code ({ cls := "HabitRegistry", name := "writeLine", desc := "(I)I" } : Jvm.MethodName) prog_1_method_71_code (5 : Nat) (Option.some Jvm.ClassFile.FieldType.int)) ∈ lw_all := lw_g (lw_at lw_m7 132 rfl) rfl
theorem q1652 : (Jvm.Cond.instanceMethod ({ cls := "HabitRegistry", name := "outputAt", desc := "(I)C" } : Jvm.MethodName)) ∈ lw_all := lw_g (lw_at lw_m7 137 rfl) rfl
theorem q1653 : (Jvm.Cond.selects "HabitRegistry" ({ cls := "HabitRegistry", name := "outputAt", desc := "(I)C" } : Jvm.MethodName) ({ cls := "HabitRegistry", name := "outputAt", desc := "(I)C" } : Jvm.MethodName)) ∈ lw_all := lw_g (lw_at lw_m7 138 rfl) rfl
theorem q1654 : (Jvm.Cond.code ({ cls := "HabitRegistry", name := "outputAt", desc := "(I)C" } : Jvm.MethodName) prog_1_method_72_code (2 : Nat) (Option.some Jvm.ClassFile.FieldType.char)) ∈ lw_all := lw_g (lw_at lw_m7 139 rfl) rfl
theorem q1660 : (Jvm.Cond.instanceMethod ({ cls := "HabitRegistry", name := "appendInput", desc := "(C)I" } : Jvm.MethodName)) ∈ lw_all := lw_g (lw_at lw_m7 145 rfl) rfl
theorem q1661 : (Jvm.Cond.selects "HabitRegistry" ({ cls := "HabitRegistry", name := "appendInput", desc := "(C)I" } : Jvm.MethodName) ({ cls := "HabitRegistry", name := "appendInput", desc := "(C)I" } : Jvm.MethodName)) ∈ lw_all := lw_g (lw_at lw_m7 146 rfl) rfl
theorem q1662 : (Jvm.Cond.code ({ cls := "HabitRegistry", name := "appendInput", desc := "(C)I" } : Jvm.MethodName) prog_1_method_73_code (2 : Nat) (Option.some Jvm.ClassFile.FieldType.int)) ∈ lw_all := lw_g (lw_at lw_m7 147 rfl) rfl
theorem q1663 : (Jvm.Cond.methodLink "HabitRegistry" (348 : Nat) ({ cls := "java/lang/StringBuilder", name := "length", desc := "()I" } : Jvm.MethodName)) ∈ lw_all := lw_g (lw_at lw_m7 148 rfl) rfl
theorem q1664 : (Jvm.Cond.methodLink "HabitRegistry" (349 : Nat) ({ cls := "HabitRegistry", name := "requireState", desc := "(Z)V" } : Jvm.MethodName)) ∈ lw_all := lw_g (lw_at lw_m7 149 rfl) rfl
theorem q1665 : (Jvm.Cond.static ({ cls := "HabitRegistry", name := "requireState", desc := "(Z)V" } : Jvm.MethodName)) ∈ lw_all := lw_g (lw_at lw_m7 150 rfl) rfl
theorem q1666 : (Jvm.Cond.code ({ cls := "HabitRegistry", name := "requireState", desc := "(Z)V" } : Jvm.MethodName) prog_1_method_8_code (1 : Nat) (Option.none : Option Jvm.ClassFile.FieldType)) ∈ lw_all := lw_g (lw_at lw_m7 151 rfl) rfl
theorem q1667 : (Jvm.Cond.classLink "HabitRegistry" (24 : Nat) "java/lang/IllegalStateException") ∈ lw_all := lw_g (lw_at lw_m7 152 rfl) rfl
theorem q1676 : (Jvm.Cond.methodLink "HabitRegistry" (26 : Nat) ({ cls := "java/lang/IllegalStateException", name := "<init>", desc := "()V" } : Jvm.MethodName)) ∈ lw_all := lw_g (lw_at lw_m7 161 rfl) rfl
theorem q1686 : (Jvm.Cond.instanceMethod ({ cls := "HabitRegistry", name := "execute", desc := "()I" } : Jvm.MethodName)) ∈ lw_all := lw_g (lw_at lw_m7 171 rfl) rfl
theorem q1687 : (Jvm.Cond.selects "HabitRegistry" ({ cls := "HabitRegistry", name := "execute", desc := "()I" } : Jvm.MethodName) ({ cls := "HabitRegistry", name := "execute", desc := "()I" } : Jvm.MethodName)) ∈ lw_all := lw_g (lw_at lw_m7 172 rfl) rfl
theorem q1688 : (Jvm.Cond.codeWith ({ cls := "HabitRegistry", name := "execute", desc := "()I" } : Jvm.MethodName) prog_1_method_75_code (4 : Nat) (Option.some Jvm.ClassFile.FieldType.int) [((8 : Nat), (20 : Nat), (21 : Nat), (371 : Nat)), ((8 : Nat), (20 : Nat), (21 : Nat), (156 : Nat)), ((8 : Nat), (20 : Nat), (63 : Nat), (33 : Nat))]) ∈ lw_all := lw_g (lw_at lw_m7 173 rfl) rfl
theorem q1689 : (Jvm.Cond.classLink "HabitRegistry" (371 : Nat) "HabitRegistry$SyntaxError") ∈ lw_all := lw_g (lw_at lw_m7 174 rfl) rfl
theorem q1690 : (Jvm.Cond.methodLink "HabitRegistry" (368 : Nat) ({ cls := "HabitRegistry", name := "executed", desc := "(LHabitRegistry$Data;)I" } : Jvm.MethodName)) ∈ lw_all := lw_g (lw_at lw_m7 175 rfl) rfl
theorem q1691 : (Jvm.Cond.privateMethod ({ cls := "HabitRegistry", name := "executed", desc := "(LHabitRegistry$Data;)I" } : Jvm.MethodName)) ∈ lw_tbl := lw_at lw_m7 176 rfl
theorem q1692 : (Jvm.Cond.instanceMethod ({ cls := "HabitRegistry", name := "executed", desc := "(LHabitRegistry$Data;)I" } : Jvm.MethodName)) ∈ lw_all := lw_g (lw_at lw_m7 177 rfl) rfl
theorem q1693 : (Jvm.Cond.codeWith ({ cls := "HabitRegistry", name := "executed", desc := "(LHabitRegistry$Data;)I" } : Jvm.MethodName) prog_1_method_74_code (4 : Nat) (Option.some Jvm.ClassFile.FieldType.int) [((0 : Nat), (22 : Nat), (32 : Nat), (0 : Nat))]) ∈ lw_all := lw_g (lw_at lw_m7 178 rfl) rfl
theorem q1694 : (Jvm.Cond.classLink "HabitRegistry" (352 : Nat) "HabitRegistry$Parser") ∈ lw_all := lw_g (lw_at lw_m7 179 rfl) rfl
theorem q1696 : (Jvm.Cond.methodLink "HabitRegistry" (354 : Nat) ({ cls := "HabitRegistry$Parser", name := "<init>", desc := "(Ljava/lang/String;)V" } : Jvm.MethodName)) ∈ lw_all := lw_g (lw_at lw_m7 181 rfl) rfl
theorem q1712 : (Jvm.Cond.methodLink "HabitRegistry" (357 : Nat) ({ cls := "HabitRegistry$Parser", name := "parse", desc := "()Ljava/util/ArrayList;" } : Jvm.MethodName)) ∈ lw_all := lw_g (lw_at lw_m7 197 rfl) rfl
theorem q1769 : (Jvm.Cond.methodLink "HabitRegistry" (361 : Nat) ({ cls := "HabitRegistry", name := "run", desc := "(Ljava/util/ArrayList;LHabitRegistry$Data;)I" } : Jvm.MethodName)) ∈ lw_all := lw_g (lw_at lw_m8 14 rfl) rfl
theorem q1770 : (Jvm.Cond.static ({ cls := "HabitRegistry", name := "run", desc := "(Ljava/util/ArrayList;LHabitRegistry$Data;)I" } : Jvm.MethodName)) ∈ lw_all := lw_g (lw_at lw_m8 15 rfl) rfl
theorem q1771 : (Jvm.Cond.codeWith ({ cls := "HabitRegistry", name := "run", desc := "(Ljava/util/ArrayList;LHabitRegistry$Data;)I" } : Jvm.MethodName) prog_1_method_12_code (6 : Nat) (Option.some Jvm.ClassFile.FieldType.int) [((27 : Nat), (35 : Nat), (38 : Nat), (33 : Nat))]) ∈ lw_all := lw_g (lw_at lw_m8 16 rfl) rfl
theorem q1772 : (Jvm.Cond.methodLink "HabitRegistry" (38 : Nat) ({ cls := "java/util/ArrayList", name := "iterator", desc := "()Ljava/util/Iterator;" } : Jvm.MethodName)) ∈ lw_all := lw_g (lw_at lw_m8 17 rfl) rfl
theorem q1773 : (Jvm.Cond.interfaceEntry "HabitRegistry" (44 : Nat)) ∈ lw_tbl := lw_at lw_m8 18 rfl
theorem q1774 : (Jvm.Cond.methodLink "HabitRegistry" (44 : Nat) ({ cls := "java/util/Iterator", name := "hasNext", desc := "()Z" } : Jvm.MethodName)) ∈ lw_all := lw_g (lw_at lw_m8 19 rfl) rfl
theorem q1775 : (Jvm.Cond.interfaceEntry "HabitRegistry" (50 : Nat)) ∈ lw_tbl := lw_at lw_m8 20 rfl
theorem q1776 : (Jvm.Cond.methodLink "HabitRegistry" (50 : Nat) ({ cls := "java/util/Iterator", name := "next", desc := "()Ljava/lang/Object;" } : Jvm.MethodName)) ∈ lw_all := lw_g (lw_at lw_m8 21 rfl) rfl
theorem q1777 : (Jvm.Cond.methodLink "HabitRegistry" (60 : Nat) ({ cls := "HabitRegistry$Rejection", name := "<init>", desc := "(IILHabitRegistry$Failure;)V" } : Jvm.MethodName)) ∈ lw_all := lw_g (lw_at lw_m8 22 rfl) rfl
theorem q1778 : (Jvm.Cond.methodLink "HabitRegistry" (364 : Nat) ({ cls := "java/lang/StringBuilder", name := "setLength", desc := "(I)V" } : Jvm.MethodName)) ∈ lw_all := lw_g (lw_at lw_m8 23 rfl) rfl
theorem q1834 : (Jvm.Cond.instanceMethod ({ cls := "HabitRegistry", name := "syntaxErrorOffset", desc := "()I" } : Jvm.MethodName)) ∈ lw_all := lw_g (lw_at lw_m8 79 rfl) rfl
theorem q1835 : (Jvm.Cond.selects "HabitRegistry" ({ cls := "HabitRegistry", name := "syntaxErrorOffset", desc := "()I" } : Jvm.MethodName) ({ cls := "HabitRegistry", name := "syntaxErrorOffset", desc := "()I" } : Jvm.MethodName)) ∈ lw_all := lw_g (lw_at lw_m8 80 rfl) rfl
theorem q1836 : (Jvm.Cond.code ({ cls := "HabitRegistry", name := "syntaxErrorOffset", desc := "()I" } : Jvm.MethodName) prog_1_method_76_code (1 : Nat) (Option.some Jvm.ClassFile.FieldType.int)) ∈ lw_all := lw_g (lw_at lw_m8 81 rfl) rfl
theorem q1837 : (Jvm.Cond.methodLink "HabitRegistry" (376 : Nat) ({ cls := "HabitRegistry$Failure", name := "detail", desc := "()I" } : Jvm.MethodName)) ∈ lw_all := lw_g (lw_at lw_m8 82 rfl) rfl
theorem q1853 : (Jvm.Cond.instanceMethod ({ cls := "HabitRegistry", name := "rejectionReason", desc := "()I" } : Jvm.MethodName)) ∈ lw_all := lw_g (lw_at lw_m8 98 rfl) rfl
theorem q1854 : (Jvm.Cond.selects "HabitRegistry" ({ cls := "HabitRegistry", name := "rejectionReason", desc := "()I" } : Jvm.MethodName) ({ cls := "HabitRegistry", name := "rejectionReason", desc := "()I" } : Jvm.MethodName)) ∈ lw_all := lw_g (lw_at lw_m8 99 rfl) rfl
theorem q1855 : (Jvm.Cond.code ({ cls := "HabitRegistry", name := "rejectionReason", desc := "()I" } : Jvm.MethodName) prog_1_method_77_code (1 : Nat) (Option.some Jvm.ClassFile.FieldType.int)) ∈ lw_all := lw_g (lw_at lw_m8 100 rfl) rfl
theorem q1856 : (Jvm.Cond.methodLink "HabitRegistry" (381 : Nat) ({ cls := "HabitRegistry$Failure", name := "reason", desc := "()I" } : Jvm.MethodName)) ∈ lw_all := lw_g (lw_at lw_m8 101 rfl) rfl
theorem q1872 : (Jvm.Cond.instanceMethod ({ cls := "HabitRegistry", name := "rejectionDetail", desc := "()I" } : Jvm.MethodName)) ∈ lw_all := lw_g (lw_at lw_m8 117 rfl) rfl
theorem q1873 : (Jvm.Cond.selects "HabitRegistry" ({ cls := "HabitRegistry", name := "rejectionDetail", desc := "()I" } : Jvm.MethodName) ({ cls := "HabitRegistry", name := "rejectionDetail", desc := "()I" } : Jvm.MethodName)) ∈ lw_all := lw_g (lw_at lw_m8 118 rfl) rfl
theorem q1874 : (Jvm.Cond.code ({ cls := "HabitRegistry", name := "rejectionDetail", desc := "()I" } : Jvm.MethodName) prog_1_method_78_code (1 : Nat) (Option.some Jvm.ClassFile.FieldType.int)) ∈ lw_all := lw_g (lw_at lw_m8 119 rfl) rfl
theorem q1879 : (Jvm.Cond.instanceMethod ({ cls := "HabitRegistry", name := "causeReason", desc := "()I" } : Jvm.MethodName)) ∈ lw_all := lw_g (lw_at lw_m8 124 rfl) rfl
theorem q1880 : (Jvm.Cond.selects "HabitRegistry" ({ cls := "HabitRegistry", name := "causeReason", desc := "()I" } : Jvm.MethodName) ({ cls := "HabitRegistry", name := "causeReason", desc := "()I" } : Jvm.MethodName)) ∈ lw_all := lw_g (lw_at lw_m8 125 rfl) rfl
theorem q1881 : (Jvm.Cond.code ({ cls := "HabitRegistry", name := "causeReason", desc := "()I" } : Jvm.MethodName) prog_1_method_79_code (1 : Nat) (Option.some Jvm.ClassFile.FieldType.int)) ∈ lw_all := lw_g (lw_at lw_m8 126 rfl) rfl
theorem q1882 : (Jvm.Cond.methodLink "HabitRegistry" (384 : Nat) ({ cls := "HabitRegistry$Failure", name := "originReason", desc := "()I" } : Jvm.MethodName)) ∈ lw_all := lw_g (lw_at lw_m8 127 rfl) rfl
theorem q1894 : (Jvm.Cond.instanceMethod ({ cls := "HabitRegistry", name := "undo", desc := "()I" } : Jvm.MethodName)) ∈ lw_all := lw_g (lw_at lw_m8 139 rfl) rfl
theorem q1895 : (Jvm.Cond.selects "HabitRegistry" ({ cls := "HabitRegistry", name := "undo", desc := "()I" } : Jvm.MethodName) ({ cls := "HabitRegistry", name := "undo", desc := "()I" } : Jvm.MethodName)) ∈ lw_all := lw_g (lw_at lw_m8 140 rfl) rfl
theorem q1896 : (Jvm.Cond.code ({ cls := "HabitRegistry", name := "undo", desc := "()I" } : Jvm.MethodName) prog_1_method_80_code (1 : Nat) (Option.some Jvm.ClassFile.FieldType.int)) ∈ lw_all := lw_g (lw_at lw_m8 141 rfl) rfl
theorem q1901 : (Jvm.Cond.instanceMethod ({ cls := "HabitRegistry", name := "restoreSnapshot", desc := "()I" } : Jvm.MethodName)) ∈ lw_all := lw_g (lw_at lw_m8 146 rfl) rfl
theorem q1902 : (Jvm.Cond.selects "HabitRegistry" ({ cls := "HabitRegistry", name := "restoreSnapshot", desc := "()I" } : Jvm.MethodName) ({ cls := "HabitRegistry", name := "restoreSnapshot", desc := "()I" } : Jvm.MethodName)) ∈ lw_all := lw_g (lw_at lw_m8 147 rfl) rfl
theorem q1903 : (Jvm.Cond.code ({ cls := "HabitRegistry", name := "restoreSnapshot", desc := "()I" } : Jvm.MethodName) prog_1_method_83_code (1 : Nat) (Option.some Jvm.ClassFile.FieldType.int)) ∈ lw_all := lw_g (lw_at lw_m8 148 rfl) rfl
theorem q1904 : (Jvm.Cond.methodLink "HabitRegistry" (390 : Nat) ({ cls := "java/util/ArrayList", name := "clear", desc := "()V" } : Jvm.MethodName)) ∈ lw_all := lw_g (lw_at lw_m8 149 rfl) rfl
theorem q2442 : (Jvm.Cond.castable "HabitRegistry" "java/lang/Object") ∈ lw_tbl := lw_at lw_m10 207 rfl
theorem in_X1 : ∀ w ∈ wsX10, w ∈ lw_all := lw_in wsX10 [396, 398, 400, 402, 404, 406, 408] (by decide +kernel) (by decide +kernel)
/-! HabitRegistry$Parser -/
def RX10 : String := "HabitRegistry$Parser"
def TX10 : u_T := fun k => match k with
  | 0 => ("HabitRegistry$Parser", "text", "Ljava/lang/String;", true)
  | 1 => ("HabitRegistry$Parser", "commands", "Ljava/util/ArrayList;", true)
  | _ => ("HabitRegistry$Parser", "offset", "I", false)
def tyX10 : Nat → FieldType := fun k => match k with
  | 0 => .object "java/lang/String"
  | 1 => .object "java/util/ArrayList"
  | _ => .int
abbrev wsX100 : List Cond := u_ws RX10 TX10 3
theorem nmX10 : ∀ a, a < 3 → ∀ b, b < 3 → a ≠ b → (TX10 a).2.1 ≠ (TX10 b).2.1 := by decide +kernel
theorem tyX10_ok : ∀ k, k < 3 → parseFieldDescriptor (TX10 k).2.2.1 = some (tyX10 k) := by decide +kernel
abbrev cX10_init : ByteArray := prog_8_method_1_code
def yX10_init : MethodName := ⟨RX10, "<init>", "(Ljava/lang/String;)V"⟩
abbrev cX10_parse : ByteArray := prog_8_method_8_code
def yX10_parse : MethodName := ⟨RX10, "parse", "()Ljava/util/ArrayList;"⟩
abbrev cX10_command : ByteArray := prog_8_method_7_code
def yX10_command : MethodName := ⟨RX10, "command", "()LHabitRegistry$Command;"⟩
abbrev cX10_letter : ByteArray := prog_8_method_4_code
def yX10_letter : MethodName := ⟨RX10, "letter", "(Ljava/lang/String;)C"⟩
abbrev cX10_current : ByteArray := prog_8_method_2_code
def yX10_current : MethodName := ⟨RX10, "current", "()C"⟩
abbrev cX10_number : ByteArray := prog_8_method_6_code
def yX10_number : MethodName := ⟨RX10, "number", "()I"⟩
abbrev cX10_digit : ByteArray := prog_8_method_5_code
def yX10_digit : MethodName := ⟨RX10, "digit", "()I"⟩
abbrev cX10_expect : ByteArray := prog_8_method_3_code
def yX10_expect : MethodName := ⟨RX10, "expect", "(C)V"⟩
theorem q113 : (Jvm.Cond.initialized "HabitRegistry$Parser") ∈ lw_all := lw_g (lw_at lw_m1 38 rfl) rfl
theorem q689 : (Jvm.Cond.selects "HabitRegistry$Parser" ({ cls := "java/lang/Object", name := "getClass", desc := "()Ljava/lang/Class;" } : Jvm.MethodName) ({ cls := "java/lang/Object", name := "getClass", desc := "()Ljava/lang/Class;" } : Jvm.MethodName)) ∈ lw_all := lw_g (lw_at lw_m3 134 rfl) rfl
theorem q1695 : (Jvm.Cond.instantiable "HabitRegistry$Parser" (3 : Nat)) ∈ lw_all := lw_g (lw_at lw_m7 180 rfl) rfl
theorem q1697 : (Jvm.Cond.instanceMethod ({ cls := "HabitRegistry$Parser", name := "<init>", desc := "(Ljava/lang/String;)V" } : Jvm.MethodName)) ∈ lw_all := lw_g (lw_at lw_m7 182 rfl) rfl
theorem q1698 : (Jvm.Cond.code ({ cls := "HabitRegistry$Parser", name := "<init>", desc := "(Ljava/lang/String;)V" } : Jvm.MethodName) prog_8_method_1_code (2 : Nat) (Option.none : Option Jvm.ClassFile.FieldType)) ∈ lw_all := lw_g (lw_at lw_m7 183 rfl) rfl
theorem q1699 : (Jvm.Cond.methodLink "HabitRegistry$Parser" (3 : Nat) ({ cls := "java/lang/Object", name := "<init>", desc := "()V" } : Jvm.MethodName)) ∈ lw_all := lw_g (lw_at lw_m7 184 rfl) rfl
theorem q1700 : (Jvm.Cond.classLink "HabitRegistry$Parser" (9 : Nat) "java/util/ArrayList") ∈ lw_all := lw_g (lw_at lw_m7 185 rfl) rfl
theorem q1701 : (Jvm.Cond.methodLink "HabitRegistry$Parser" (11 : Nat) ({ cls := "java/util/ArrayList", name := "<init>", desc := "()V" } : Jvm.MethodName)) ∈ lw_all := lw_g (lw_at lw_m7 186 rfl) rfl
theorem q1702 : (Jvm.Cond.fieldLink "HabitRegistry$Parser" (18 : Nat) "HabitRegistry$Parser" "text" "Ljava/lang/String;") ∈ lw_all := lw_g (lw_at lw_m7 187 rfl) rfl
theorem q1703 : (Jvm.Cond.fieldLink "HabitRegistry$Parser" (12 : Nat) "HabitRegistry$Parser" "commands" "Ljava/util/ArrayList;") ∈ lw_all := lw_g (lw_at lw_m7 188 rfl) rfl
theorem q1704 : (Jvm.Cond.fieldLink "HabitRegistry$Parser" (22 : Nat) "HabitRegistry$Parser" "offset" "I") ∈ lw_all := lw_g (lw_at lw_m7 189 rfl) rfl
theorem q1705 : (Jvm.Cond.laysFinal "HabitRegistry$Parser" "HabitRegistry$Parser" "text" "Ljava/lang/String;") ∈ lw_all := lw_g (lw_at lw_m7 190 rfl) rfl
theorem q1706 : (Jvm.Cond.soleField "HabitRegistry$Parser" "text") ∈ lw_all := lw_g (lw_at lw_m7 191 rfl) rfl
theorem q1707 : (Jvm.Cond.laysFinal "HabitRegistry$Parser" "HabitRegistry$Parser" "commands" "Ljava/util/ArrayList;") ∈ lw_all := lw_g (lw_at lw_m7 192 rfl) rfl
theorem q1708 : (Jvm.Cond.soleField "HabitRegistry$Parser" "commands") ∈ lw_all := lw_g (lw_at lw_m7 193 rfl) rfl
theorem q1709 : (Jvm.Cond.lays "HabitRegistry$Parser" "HabitRegistry$Parser" "offset" "I") ∈ lw_all := lw_g (lw_at lw_m7 194 rfl) rfl
theorem q1710 : (Jvm.Cond.soleField "HabitRegistry$Parser" "offset") ∈ lw_all := lw_g (lw_at lw_m7 195 rfl) rfl
theorem q1711 : (Jvm.Cond.superclass "HabitRegistry$Parser" "java/lang/Object") ∈ lw_all := lw_g (lw_at lw_m7 196 rfl) rfl
theorem q1713 : (Jvm.Cond.instanceMethod ({ cls := "HabitRegistry$Parser", name := "parse", desc := "()Ljava/util/ArrayList;" } : Jvm.MethodName)) ∈ lw_all := lw_g (lw_at lw_m7 198 rfl) rfl
theorem q1714 : (Jvm.Cond.selects "HabitRegistry$Parser" ({ cls := "HabitRegistry$Parser", name := "parse", desc := "()Ljava/util/ArrayList;" } : Jvm.MethodName) ({ cls := "HabitRegistry$Parser", name := "parse", desc := "()Ljava/util/ArrayList;" } : Jvm.MethodName)) ∈ lw_all := lw_g (lw_at lw_m7 199 rfl) rfl
theorem q1715 : (Jvm.Cond.code ({ cls := "HabitRegistry$Parser", name := "parse", desc := "()Ljava/util/ArrayList;" } : Jvm.MethodName) prog_8_method_8_code (1 : Nat) (Option.some (Jvm.ClassFile.FieldType.object "java/util/ArrayList"))) ∈ lw_all := lw_g (lw_at lw_m7 200 rfl) rfl
theorem q1716 : (Jvm.Cond.methodLink "HabitRegistry$Parser" (78 : Nat) ({ cls := "HabitRegistry$Parser", name := "command", desc := "()LHabitRegistry$Command;" } : Jvm.MethodName)) ∈ lw_all := lw_g (lw_at lw_m7 201 rfl) rfl
theorem q1717 : (Jvm.Cond.privateMethod ({ cls := "HabitRegistry$Parser", name := "command", desc := "()LHabitRegistry$Command;" } : Jvm.MethodName)) ∈ lw_tbl := lw_at lw_m7 202 rfl
theorem q1718 : (Jvm.Cond.instanceMethod ({ cls := "HabitRegistry$Parser", name := "command", desc := "()LHabitRegistry$Command;" } : Jvm.MethodName)) ∈ lw_all := lw_g (lw_at lw_m7 203 rfl) rfl
theorem q1719 : (Jvm.Cond.code ({ cls := "HabitRegistry$Parser", name := "command", desc := "()LHabitRegistry$Command;" } : Jvm.MethodName) prog_8_method_7_code (4 : Nat) (Option.some (Jvm.ClassFile.FieldType.object "HabitRegistry$Command"))) ∈ lw_all := lw_g (lw_at lw_m7 204 rfl) rfl
theorem q1720 : (Jvm.Cond.stringRef "HabitRegistry$Parser" (62 : Nat) "fcbapnekgy") ∈ lw_tbl := lw_at lw_m7 205 rfl
theorem q1721 : (Jvm.Cond.methodLink "HabitRegistry$Parser" (51 : Nat) ({ cls := "HabitRegistry$Parser", name := "letter", desc := "(Ljava/lang/String;)C" } : Jvm.MethodName)) ∈ lw_all := lw_g (lw_at lw_m7 206 rfl) rfl
theorem q1722 : (Jvm.Cond.privateMethod ({ cls := "HabitRegistry$Parser", name := "letter", desc := "(Ljava/lang/String;)C" } : Jvm.MethodName)) ∈ lw_tbl := lw_at lw_m7 207 rfl
theorem q1723 : (Jvm.Cond.instanceMethod ({ cls := "HabitRegistry$Parser", name := "letter", desc := "(Ljava/lang/String;)C" } : Jvm.MethodName)) ∈ lw_all := lw_g (lw_at lw_m7 208 rfl) rfl
theorem q1724 : (Jvm.Cond.code ({ cls := "HabitRegistry$Parser", name := "letter", desc := "(Ljava/lang/String;)C" } : Jvm.MethodName) prog_8_method_4_code (3 : Nat) (Option.some Jvm.ClassFile.FieldType.char)) ∈ lw_all := lw_g (lw_at lw_m7 209 rfl) rfl
theorem q1725 : (Jvm.Cond.methodLink "HabitRegistry$Parser" (36 : Nat) ({ cls := "HabitRegistry$Parser", name := "current", desc := "()C" } : Jvm.MethodName)) ∈ lw_all := lw_g (lw_at lw_m7 210 rfl) rfl
theorem q1726 : (Jvm.Cond.privateMethod ({ cls := "HabitRegistry$Parser", name := "current", desc := "()C" } : Jvm.MethodName)) ∈ lw_tbl := lw_at lw_m7 211 rfl
theorem q1727 : (Jvm.Cond.instanceMethod ({ cls := "HabitRegistry$Parser", name := "current", desc := "()C" } : Jvm.MethodName)) ∈ lw_all := lw_g (lw_at lw_m7 212 rfl) rfl
theorem q1728 : (Jvm.Cond.code ({ cls := "HabitRegistry$Parser", name := "current", desc := "()C" } : Jvm.MethodName) prog_8_method_2_code (1 : Nat) (Option.some Jvm.ClassFile.FieldType.char)) ∈ lw_all := lw_g (lw_at lw_m7 213 rfl) rfl
theorem q1729 : (Jvm.Cond.methodLink "HabitRegistry$Parser" (26 : Nat) ({ cls := "java/lang/String", name := "length", desc := "()I" } : Jvm.MethodName)) ∈ lw_all := lw_g (lw_at lw_m7 214 rfl) rfl
theorem q1730 : (Jvm.Cond.methodLink "HabitRegistry$Parser" (32 : Nat) ({ cls := "java/lang/String", name := "charAt", desc := "(I)C" } : Jvm.MethodName)) ∈ lw_all := lw_g (lw_at lw_m7 215 rfl) rfl
theorem q1731 : (Jvm.Cond.methodLink "HabitRegistry$Parser" (45 : Nat) ({ cls := "java/lang/String", name := "indexOf", desc := "(I)I" } : Jvm.MethodName)) ∈ lw_all := lw_g (lw_at lw_m7 216 rfl) rfl
theorem q1732 : (Jvm.Cond.classLink "HabitRegistry$Parser" (40 : Nat) "HabitRegistry$SyntaxError") ∈ lw_all := lw_g (lw_at lw_m7 217 rfl) rfl
theorem q1741 : (Jvm.Cond.methodLink "HabitRegistry$Parser" (42 : Nat) ({ cls := "HabitRegistry$SyntaxError", name := "<init>", desc := "(I)V" } : Jvm.MethodName)) ∈ lw_all := lw_g (lw_at lw_m7 226 rfl) rfl
theorem q1751 : (Jvm.Cond.classLink "HabitRegistry$Parser" (64 : Nat) "HabitRegistry$Command") ∈ lw_all := lw_g (lw_at lw_m7 236 rfl) rfl
theorem q1752 : (Jvm.Cond.methodLink "HabitRegistry$Parser" (66 : Nat) ({ cls := "HabitRegistry$Command", name := "<init>", desc := "(CIIC)V" } : Jvm.MethodName)) ∈ lw_all := lw_g (lw_at lw_m7 237 rfl) rfl
theorem q1753 : (Jvm.Cond.methodLink "HabitRegistry$Parser" (69 : Nat) ({ cls := "HabitRegistry$Parser", name := "number", desc := "()I" } : Jvm.MethodName)) ∈ lw_all := lw_g (lw_at lw_m7 238 rfl) rfl
theorem q1754 : (Jvm.Cond.privateMethod ({ cls := "HabitRegistry$Parser", name := "number", desc := "()I" } : Jvm.MethodName)) ∈ lw_tbl := lw_at lw_m7 239 rfl
theorem q1755 : (Jvm.Cond.instanceMethod ({ cls := "HabitRegistry$Parser", name := "number", desc := "()I" } : Jvm.MethodName)) ∈ lw_all := lw_g (lw_at lw_m8 0 rfl) rfl
theorem q1756 : (Jvm.Cond.code ({ cls := "HabitRegistry$Parser", name := "number", desc := "()I" } : Jvm.MethodName) prog_8_method_6_code (2 : Nat) (Option.some Jvm.ClassFile.FieldType.int)) ∈ lw_all := lw_g (lw_at lw_m8 1 rfl) rfl
theorem q1757 : (Jvm.Cond.methodLink "HabitRegistry$Parser" (55 : Nat) ({ cls := "HabitRegistry$Parser", name := "digit", desc := "()I" } : Jvm.MethodName)) ∈ lw_all := lw_g (lw_at lw_m8 2 rfl) rfl
theorem q1758 : (Jvm.Cond.privateMethod ({ cls := "HabitRegistry$Parser", name := "digit", desc := "()I" } : Jvm.MethodName)) ∈ lw_tbl := lw_at lw_m8 3 rfl
theorem q1759 : (Jvm.Cond.instanceMethod ({ cls := "HabitRegistry$Parser", name := "digit", desc := "()I" } : Jvm.MethodName)) ∈ lw_all := lw_g (lw_at lw_m8 4 rfl) rfl
theorem q1760 : (Jvm.Cond.code ({ cls := "HabitRegistry$Parser", name := "digit", desc := "()I" } : Jvm.MethodName) prog_8_method_5_code (1 : Nat) (Option.some Jvm.ClassFile.FieldType.int)) ∈ lw_all := lw_g (lw_at lw_m8 5 rfl) rfl
theorem q1761 : (Jvm.Cond.stringRef "HabitRegistry$Parser" (49 : Nat) "0123456789") ∈ lw_tbl := lw_at lw_m8 6 rfl
theorem q1762 : (Jvm.Cond.methodLinkNest "HabitRegistry$Parser" (58 : Nat) ({ cls := "HabitRegistry", name := "isBetween", desc := "(III)Z" } : Jvm.MethodName) "HabitRegistry") ∈ lw_tbl := lw_at lw_m8 7 rfl
theorem q1763 : (Jvm.Cond.stringRef "HabitRegistry$Parser" (72 : Nat) "dsh") ∈ lw_tbl := lw_at lw_m8 8 rfl
theorem q1764 : (Jvm.Cond.methodLink "HabitRegistry$Parser" (74 : Nat) ({ cls := "HabitRegistry$Parser", name := "expect", desc := "(C)V" } : Jvm.MethodName)) ∈ lw_all := lw_g (lw_at lw_m8 9 rfl) rfl
theorem q1765 : (Jvm.Cond.privateMethod ({ cls := "HabitRegistry$Parser", name := "expect", desc := "(C)V" } : Jvm.MethodName)) ∈ lw_tbl := lw_at lw_m8 10 rfl
theorem q1766 : (Jvm.Cond.instanceMethod ({ cls := "HabitRegistry$Parser", name := "expect", desc := "(C)V" } : Jvm.MethodName)) ∈ lw_all := lw_g (lw_at lw_m8 11 rfl) rfl
theorem q1767 : (Jvm.Cond.code ({ cls := "HabitRegistry$Parser", name := "expect", desc := "(C)V" } : Jvm.MethodName) prog_8_method_3_code (2 : Nat) (Option.none : Option Jvm.ClassFile.FieldType)) ∈ lw_all := lw_g (lw_at lw_m8 12 rfl) rfl
theorem q1768 : (Jvm.Cond.methodLink "HabitRegistry$Parser" (82 : Nat) ({ cls := "java/util/ArrayList", name := "add", desc := "(Ljava/lang/Object;)Z" } : Jvm.MethodName)) ∈ lw_all := lw_g (lw_at lw_m8 13 rfl) rfl
theorem q2461 : (Jvm.Cond.castable "HabitRegistry$Parser" "java/lang/Object") ∈ lw_tbl := lw_at lw_m10 226 rfl
theorem in_X10 : ∀ w ∈ wsX100, w ∈ lw_all := lw_in wsX100 [1705, 1707, 1709] (by decide +kernel) (by decide +kernel)
/-! HabitRegistry$SyntaxError -/
def RX11 : String := "HabitRegistry$SyntaxError"
def TX11 : u_T := fun k => match k with
  | 0 => ("HabitRegistry$Failure", "origin", "LHabitRegistry$Failure;", true)
  | 1 => ("java/lang/Throwable", "cause", "Ljava/lang/Throwable;", false)
  | 2 => ("java/lang/Throwable", "stackTrace", "[Ljava/lang/StackTraceElement;", false)
  | 3 => ("java/lang/Throwable", "suppressedExceptions", "Ljava/util/List;", false)
  | 4 => ("java/lang/Throwable", "detailMessage", "Ljava/lang/String;", false)
  | 5 => ("java/lang/Throwable", "backtrace", "Ljava/lang/Object;", false)
  | 6 => ("java/lang/Throwable", "depth", "I", false)
  | _ => ("HabitRegistry$SyntaxError", "offset", "I", true)
def tyX11 : Nat → FieldType := fun k => match k with
  | 0 => .object "HabitRegistry$Failure"
  | 1 => .object "java/lang/Throwable"
  | 2 => .array (.object "java/lang/StackTraceElement")
  | 3 => .object "java/util/List"
  | 4 => .object "java/lang/String"
  | 5 => .object "java/lang/Object"
  | 6 => .int
  | _ => .int
abbrev wsX110 : List Cond := u_ws RX11 TX11 8
theorem nmX11 : ∀ a, a < 8 → ∀ b, b < 8 → a ≠ b → (TX11 a).2.1 ≠ (TX11 b).2.1 := by decide +kernel
theorem tyX11_ok : ∀ k, k < 8 → parseFieldDescriptor (TX11 k).2.2.1 = some (tyX11 k) := by decide +kernel
abbrev cX11_init : ByteArray := prog_11_method_1_code
def yX11_init : MethodName := ⟨RX11, "<init>", "(I)V"⟩
abbrev cX11_detail : ByteArray := prog_11_method_3_code
def yX11_detail : MethodName := ⟨RX11, "detail", "()I"⟩
abbrev cX11_reason : ByteArray := prog_11_method_2_code
def yX11_reason : MethodName := ⟨RX11, "reason", "()I"⟩
theorem q114 : (Jvm.Cond.initialized "HabitRegistry$SyntaxError") ∈ lw_all := lw_g (lw_at lw_m1 39 rfl) rfl
theorem q263 : (Jvm.Cond.selects "HabitRegistry$SyntaxError" ({ cls := "java/lang/Throwable", name := "fillInStackTrace", desc := "()Ljava/lang/Throwable;" } : Jvm.MethodName) ({ cls := "java/lang/Throwable", name := "fillInStackTrace", desc := "()Ljava/lang/Throwable;" } : Jvm.MethodName)) ∈ lw_all := lw_g (lw_at lw_m1 188 rfl) rfl
theorem q692 : (Jvm.Cond.selects "HabitRegistry$SyntaxError" ({ cls := "java/lang/Object", name := "getClass", desc := "()Ljava/lang/Class;" } : Jvm.MethodName) ({ cls := "java/lang/Object", name := "getClass", desc := "()Ljava/lang/Class;" } : Jvm.MethodName)) ∈ lw_all := lw_g (lw_at lw_m3 137 rfl) rfl
theorem q1733 : (Jvm.Cond.instantiable "HabitRegistry$SyntaxError" (8 : Nat)) ∈ lw_all := lw_g (lw_at lw_m7 218 rfl) rfl
theorem q1734 : (Jvm.Cond.castable "HabitRegistry$SyntaxError" "HabitRegistry$SyntaxError") ∈ lw_tbl := lw_at lw_m7 219 rfl
theorem q1735 : (Jvm.Cond.selects "HabitRegistry$SyntaxError" ({ cls := "java/lang/Throwable", name := "fillInStackTrace", desc := "(I)Ljava/lang/Throwable;" } : Jvm.MethodName) ({ cls := "java/lang/Throwable", name := "fillInStackTrace", desc := "(I)Ljava/lang/Throwable;" } : Jvm.MethodName)) ∈ lw_all := lw_g (lw_at lw_m7 220 rfl) rfl
theorem q1736 : (Jvm.Cond.lays "HabitRegistry$SyntaxError" "java/lang/Throwable" "cause" "Ljava/lang/Throwable;") ∈ lw_all := lw_g (lw_at lw_m7 221 rfl) rfl
theorem q1737 : (Jvm.Cond.lays "HabitRegistry$SyntaxError" "java/lang/Throwable" "stackTrace" "[Ljava/lang/StackTraceElement;") ∈ lw_all := lw_g (lw_at lw_m7 222 rfl) rfl
theorem q1738 : (Jvm.Cond.lays "HabitRegistry$SyntaxError" "java/lang/Throwable" "suppressedExceptions" "Ljava/util/List;") ∈ lw_all := lw_g (lw_at lw_m7 223 rfl) rfl
theorem q1739 : (Jvm.Cond.lays "HabitRegistry$SyntaxError" "java/lang/Throwable" "detailMessage" "Ljava/lang/String;") ∈ lw_all := lw_g (lw_at lw_m7 224 rfl) rfl
theorem q1740 : (Jvm.Cond.lays "HabitRegistry$SyntaxError" "java/lang/Throwable" "backtrace" "Ljava/lang/Object;") ∈ lw_all := lw_g (lw_at lw_m7 225 rfl) rfl
theorem q1742 : (Jvm.Cond.instanceMethod ({ cls := "HabitRegistry$SyntaxError", name := "<init>", desc := "(I)V" } : Jvm.MethodName)) ∈ lw_all := lw_g (lw_at lw_m7 227 rfl) rfl
theorem q1743 : (Jvm.Cond.code ({ cls := "HabitRegistry$SyntaxError", name := "<init>", desc := "(I)V" } : Jvm.MethodName) prog_11_method_1_code (2 : Nat) (Option.none : Option Jvm.ClassFile.FieldType)) ∈ lw_all := lw_g (lw_at lw_m7 228 rfl) rfl
theorem q1744 : (Jvm.Cond.methodLink "HabitRegistry$SyntaxError" (1 : Nat) ({ cls := "HabitRegistry$Failure", name := "<init>", desc := "(LHabitRegistry$Failure;)V" } : Jvm.MethodName)) ∈ lw_all := lw_g (lw_at lw_m7 229 rfl) rfl
theorem q1745 : (Jvm.Cond.fieldLink "HabitRegistry$SyntaxError" (7 : Nat) "HabitRegistry$SyntaxError" "offset" "I") ∈ lw_all := lw_g (lw_at lw_m7 230 rfl) rfl
theorem q1746 : (Jvm.Cond.laysFinal "HabitRegistry$SyntaxError" "HabitRegistry$SyntaxError" "offset" "I") ∈ lw_all := lw_g (lw_at lw_m7 231 rfl) rfl
theorem q1747 : (Jvm.Cond.soleField "HabitRegistry$SyntaxError" "offset") ∈ lw_all := lw_g (lw_at lw_m7 232 rfl) rfl
theorem q1748 : (Jvm.Cond.laysFinal "HabitRegistry$SyntaxError" "HabitRegistry$Failure" "origin" "LHabitRegistry$Failure;") ∈ lw_all := lw_g (lw_at lw_m7 233 rfl) rfl
theorem q1749 : (Jvm.Cond.lays "HabitRegistry$SyntaxError" "java/lang/Throwable" "depth" "I") ∈ lw_all := lw_g (lw_at lw_m7 234 rfl) rfl
theorem q1750 : (Jvm.Cond.superclass "HabitRegistry$SyntaxError" "HabitRegistry$Failure") ∈ lw_all := lw_g (lw_at lw_m7 235 rfl) rfl
theorem q1846 : (Jvm.Cond.selects "HabitRegistry$SyntaxError" ({ cls := "HabitRegistry$Failure", name := "detail", desc := "()I" } : Jvm.MethodName) ({ cls := "HabitRegistry$SyntaxError", name := "detail", desc := "()I" } : Jvm.MethodName)) ∈ lw_all := lw_g (lw_at lw_m8 91 rfl) rfl
theorem q1847 : (Jvm.Cond.instanceMethod ({ cls := "HabitRegistry$SyntaxError", name := "detail", desc := "()I" } : Jvm.MethodName)) ∈ lw_all := lw_g (lw_at lw_m8 92 rfl) rfl
theorem q1848 : (Jvm.Cond.code ({ cls := "HabitRegistry$SyntaxError", name := "detail", desc := "()I" } : Jvm.MethodName) prog_11_method_3_code (1 : Nat) (Option.some Jvm.ClassFile.FieldType.int)) ∈ lw_all := lw_g (lw_at lw_m8 93 rfl) rfl
theorem q1865 : (Jvm.Cond.selects "HabitRegistry$SyntaxError" ({ cls := "HabitRegistry$Failure", name := "reason", desc := "()I" } : Jvm.MethodName) ({ cls := "HabitRegistry$SyntaxError", name := "reason", desc := "()I" } : Jvm.MethodName)) ∈ lw_all := lw_g (lw_at lw_m8 110 rfl) rfl
theorem q1866 : (Jvm.Cond.instanceMethod ({ cls := "HabitRegistry$SyntaxError", name := "reason", desc := "()I" } : Jvm.MethodName)) ∈ lw_all := lw_g (lw_at lw_m8 111 rfl) rfl
theorem q1867 : (Jvm.Cond.code ({ cls := "HabitRegistry$SyntaxError", name := "reason", desc := "()I" } : Jvm.MethodName) prog_11_method_2_code (1 : Nat) (Option.some Jvm.ClassFile.FieldType.int)) ∈ lw_all := lw_g (lw_at lw_m8 112 rfl) rfl
theorem q1887 : (Jvm.Cond.selects "HabitRegistry$SyntaxError" ({ cls := "HabitRegistry$Failure", name := "originReason", desc := "()I" } : Jvm.MethodName) ({ cls := "HabitRegistry$Failure", name := "originReason", desc := "()I" } : Jvm.MethodName)) ∈ lw_all := lw_g (lw_at lw_m8 132 rfl) rfl
theorem q2462 : (Jvm.Cond.castable "HabitRegistry$SyntaxError" "java/lang/Object") ∈ lw_tbl := lw_at lw_m10 227 rfl
theorem in_X11 : ∀ w ∈ wsX110, w ∈ lw_all := lw_in wsX110 [1748, 1736, 1737, 1738, 1739, 1740, 1749, 1746] (by decide +kernel) (by decide +kernel)
/-! HabitRegistry$Data -/
def RX2 : String := "HabitRegistry$Data"
def TX2 : u_T := fun k => match k with
  | 0 => ("HabitRegistry$Data", "people", "Ljava/util/ArrayList;", true)
  | 1 => ("HabitRegistry$Data", "habits", "Ljava/util/ArrayList;", true)
  | 2 => ("HabitRegistry$Data", "year", "I", false)
  | 3 => ("HabitRegistry$Data", "lapsed", "I", false)
  | 4 => ("HabitRegistry$Data", "merged", "I", false)
  | 5 => ("HabitRegistry$Data", "broken", "I", false)
  | 6 => ("HabitRegistry$Data", "present", "LHabitRegistry$Test;", true)
  | 7 => ("HabitRegistry$Data", "strength", "LHabitRegistry$Value;", true)
  | 8 => ("HabitRegistry$Data", "one", "LHabitRegistry$Value;", true)
  | _ => ("HabitRegistry$Data", "byStrength", "LHabitRegistry$Order;", true)
def tyX2 : Nat → FieldType := fun k => match k with
  | 0 => .object "java/util/ArrayList"
  | 1 => .object "java/util/ArrayList"
  | 2 => .int
  | 3 => .int
  | 4 => .int
  | 5 => .int
  | 6 => .object "HabitRegistry$Test"
  | 7 => .object "HabitRegistry$Value"
  | 8 => .object "HabitRegistry$Value"
  | _ => .object "HabitRegistry$Order"
abbrev wsX20 : List Cond := u_ws RX2 TX2 10
theorem nmX2 : ∀ a, a < 10 → ∀ b, b < 10 → a ≠ b → (TX2 a).2.1 ≠ (TX2 b).2.1 := by decide +kernel
theorem tyX2_ok : ∀ k, k < 10 → parseFieldDescriptor (TX2 k).2.2.1 = some (tyX2 k) := by decide +kernel
abbrev cX2_init : ByteArray := prog_4_method_1_code
def yX2_init : MethodName := ⟨RX2, "<init>", "()V"⟩
abbrev cX2_lambda_new_0 : ByteArray := prog_4_method_52_code
def yX2_lambda_new_0 : MethodName := ⟨RX2, "lambda$new$0", "(LHabitRegistry$Habit;)Z"⟩
abbrev cX2_lambda_new_1 : ByteArray := prog_4_method_51_code
def yX2_lambda_new_1 : MethodName := ⟨RX2, "lambda$new$1", "(LHabitRegistry$Habit;)I"⟩
abbrev cX2_lambda_new_2 : ByteArray := prog_4_method_50_code
def yX2_lambda_new_2 : MethodName := ⟨RX2, "lambda$new$2", "(LHabitRegistry$Habit;)I"⟩
abbrev cX2_lambda_new_3 : ByteArray := prog_4_method_49_code
def yX2_lambda_new_3 : MethodName := ⟨RX2, "lambda$new$3", "(LHabitRegistry$Person;LHabitRegistry$Person;)Z"⟩
abbrev cX2_strengthOf : ByteArray := prog_4_method_8_code
def yX2_strengthOf : MethodName := ⟨RX2, "strengthOf", "(LHabitRegistry$Person;)I"⟩
abbrev cX2_lambda_strengthOf_4 : ByteArray := prog_4_method_48_code
def yX2_lambda_strengthOf_4 : MethodName := ⟨RX2, "lambda$strengthOf$4", "(LHabitRegistry$Person;LHabitRegistry$Habit;)Z"⟩
abbrev cX2_sum : ByteArray := prog_4_method_6_code
def yX2_sum : MethodName := ⟨RX2, "sum", "(LHabitRegistry$Test;LHabitRegistry$Value;)I"⟩
abbrev cX2_living : ByteArray := prog_4_method_10_code
def yX2_living : MethodName := ⟨RX2, "living", "()I"⟩
abbrev cX2_totalByPeople : ByteArray := prog_4_method_37_code
def yX2_totalByPeople : MethodName := ⟨RX2, "totalByPeople", "()I"⟩
abbrev cX2_isConsistent : ByteArray := prog_4_method_41_code
def yX2_isConsistent : MethodName := ⟨RX2, "isConsistent", "()Z"⟩
abbrev cX2_lambda_isConsistent_10 : ByteArray := prog_4_method_42_code
def yX2_lambda_isConsistent_10 : MethodName := ⟨RX2, "lambda$isConsistent$10", "(LHabitRegistry$Habit;)Z"⟩
abbrev cX2_find : ByteArray := prog_4_method_7_code
def yX2_find : MethodName := ⟨RX2, "find", "(LHabitRegistry$Test;)LHabitRegistry$Habit;"⟩
abbrev cX2_heir : ByteArray := prog_4_method_16_code
def yX2_heir : MethodName := ⟨RX2, "heir", "(LHabitRegistry$Person;)LHabitRegistry$Person;"⟩
abbrev cX2_directHeir : ByteArray := prog_4_method_15_code
def yX2_directHeir : MethodName := ⟨RX2, "directHeir", "(LHabitRegistry$Person;)LHabitRegistry$Person;"⟩
abbrev cX2_heirByComparison : ByteArray := prog_4_method_19_code
def yX2_heirByComparison : MethodName := ⟨RX2, "heirByComparison", "(LHabitRegistry$Person;)LHabitRegistry$Person;"⟩
abbrev cX2_lambda_heirByComparison_6 : ByteArray := prog_4_method_46_code
def yX2_lambda_heirByComparison_6 : MethodName := ⟨RX2, "lambda$heirByComparison$6", "(LHabitRegistry$Person;LHabitRegistry$Person;LHabitRegistry$Person;)Z"⟩
abbrev cX2_ascent : ByteArray := prog_4_method_20_code
def yX2_ascent : MethodName := ⟨RX2, "ascent", "(LHabitRegistry$Person;LHabitRegistry$Person;)I"⟩
abbrev cX2_commonAncestor : ByteArray := prog_4_method_12_code
def yX2_commonAncestor : MethodName := ⟨RX2, "commonAncestor", "(LHabitRegistry$Person;LHabitRegistry$Person;)LHabitRegistry$Person;"⟩
abbrev cX2_succeedsBefore : ByteArray := prog_4_method_17_code
def yX2_succeedsBefore : MethodName := ⟨RX2, "succeedsBefore", "(LHabitRegistry$Person;LHabitRegistry$Person;)Z"⟩
abbrev cX2_hasOneOfEachKind : ByteArray := prog_4_method_40_code
def yX2_hasOneOfEachKind : MethodName := ⟨RX2, "hasOneOfEachKind", "(LHabitRegistry$Person;)Z"⟩
abbrev cX2_lambda_hasOneOfEachKind_9 : ByteArray := prog_4_method_43_code
def yX2_lambda_hasOneOfEachKind_9 : MethodName := ⟨RX2, "lambda$hasOneOfEachKind$9", "(LHabitRegistry$Person;CLHabitRegistry$Habit;)Z"⟩
abbrev cX2_distance : ByteArray := prog_4_method_13_code
def yX2_distance : MethodName := ⟨RX2, "distance", "(LHabitRegistry$Person;LHabitRegistry$Person;)I"⟩
abbrev cX2_distanceBySearch : ByteArray := prog_4_method_14_code
def yX2_distanceBySearch : MethodName := ⟨RX2, "distanceBySearch", "(LHabitRegistry$Person;LHabitRegistry$Person;)I"⟩
abbrev cX2_copy : ByteArray := prog_4_method_2_code
def yX2_copy : MethodName := ⟨RX2, "copy", "()LHabitRegistry$Data;"⟩
abbrev cX2_join : ByteArray := prog_4_method_3_code
def yX2_join : MethodName := ⟨RX2, "join", "(LHabitRegistry$Person;)LHabitRegistry$Person;"⟩
abbrev cX2_hasPerson : ByteArray := prog_4_method_4_code
def yX2_hasPerson : MethodName := ⟨RX2, "hasPerson", "(I)Z"⟩
abbrev cX2_hasHabit : ByteArray := prog_4_method_5_code
def yX2_hasHabit : MethodName := ⟨RX2, "hasHabit", "(I)Z"⟩
abbrev cX2_addFounder : ByteArray := prog_4_method_23_code
def yX2_addFounder : MethodName := ⟨RX2, "addFounder", "()I"⟩
abbrev cX2_requireRoom : ByteArray := prog_4_method_22_code
def yX2_requireRoom : MethodName := ⟨RX2, "requireRoom", "()V"⟩
abbrev cX2_addChild : ByteArray := prog_4_method_24_code
def yX2_addChild : MethodName := ⟨RX2, "addChild", "(I)I"⟩
abbrev cX2_requireAlive : ByteArray := prog_4_method_21_code
def yX2_requireAlive : MethodName := ⟨RX2, "requireAlive", "(LHabitRegistry$Person;)V"⟩
abbrev cX2_bury : ByteArray := prog_4_method_25_code
def yX2_bury : MethodName := ⟨RX2, "bury", "(I)I"⟩
abbrev cX2_pass : ByteArray := prog_4_method_26_code
def yX2_pass : MethodName := ⟨RX2, "pass", "(LHabitRegistry$Habit;LHabitRegistry$Person;)Z"⟩
abbrev cX2_habitOf : ByteArray := prog_4_method_9_code
def yX2_habitOf : MethodName := ⟨RX2, "habitOf", "(LHabitRegistry$Person;C)LHabitRegistry$Habit;"⟩
abbrev cX2_lambda_habitOf_5 : ByteArray := prog_4_method_47_code
def yX2_lambda_habitOf_5 : MethodName := ⟨RX2, "lambda$habitOf$5", "(LHabitRegistry$Person;CLHabitRegistry$Habit;)Z"⟩
abbrev cX2_addHabit : ByteArray := prog_4_method_28_code
def yX2_addHabit : MethodName := ⟨RX2, "addHabit", "(ICI)I"⟩
abbrev cX2_requireNoKind : ByteArray := prog_4_method_27_code
def yX2_requireNoKind : MethodName := ⟨RX2, "requireNoKind", "(LHabitRegistry$Person;C)V"⟩
abbrev cX2_practise : ByteArray := prog_4_method_30_code
def yX2_practise : MethodName := ⟨RX2, "practise", "(I)I"⟩
abbrev cX2_requirePresent : ByteArray := prog_4_method_29_code
def yX2_requirePresent : MethodName := ⟨RX2, "requirePresent", "(I)LHabitRegistry$Habit;"⟩
abbrev cX2_neglect : ByteArray := prog_4_method_32_code
def yX2_neglect : MethodName := ⟨RX2, "neglect", "(I)I"⟩
abbrev cX2_weaken : ByteArray := prog_4_method_31_code
def yX2_weaken : MethodName := ⟨RX2, "weaken", "(LHabitRegistry$Habit;)Z"⟩
abbrev cX2_entail : ByteArray := prog_4_method_33_code
def yX2_entail : MethodName := ⟨RX2, "entail", "(I)I"⟩
abbrev cX2_breakEntail : ByteArray := prog_4_method_34_code
def yX2_breakEntail : MethodName := ⟨RX2, "breakEntail", "(I)I"⟩
abbrev cX2_give : ByteArray := prog_4_method_35_code
def yX2_give : MethodName := ⟨RX2, "give", "(II)I"⟩
abbrev cX2_passYears : ByteArray := prog_4_method_36_code
def yX2_passYears : MethodName := ⟨RX2, "passYears", "(I)I"⟩
abbrev cX2_livingDescendants : ByteArray := prog_4_method_11_code
def yX2_livingDescendants : MethodName := ⟨RX2, "livingDescendants", "(LHabitRegistry$Person;)I"⟩
abbrev cX2_successionPosition : ByteArray := prog_4_method_18_code
def yX2_successionPosition : MethodName := ⟨RX2, "successionPosition", "(LHabitRegistry$Person;)I"⟩
abbrev cX2_habitAt : ByteArray := prog_4_method_38_code
def yX2_habitAt : MethodName := ⟨RX2, "habitAt", "(I)LHabitRegistry$Habit;"⟩
abbrev cX2_lambda_habitAt_8 : ByteArray := prog_4_method_44_code
def yX2_lambda_habitAt_8 : MethodName := ⟨RX2, "lambda$habitAt$8", "(ILHabitRegistry$Habit;)Z"⟩
abbrev cX2_lambda_habitAt_7 : ByteArray := prog_4_method_45_code
def yX2_lambda_habitAt_7 : MethodName := ⟨RX2, "lambda$habitAt$7", "(LHabitRegistry$Habit;LHabitRegistry$Habit;)Z"⟩
abbrev cX2_personAt : ByteArray := prog_4_method_39_code
def yX2_personAt : MethodName := ⟨RX2, "personAt", "(I)LHabitRegistry$Person;"⟩
theorem q77 : (Jvm.Cond.initialized "HabitRegistry$Data") ∈ lw_all := lw_g (lw_at lw_m1 2 rfl) rfl
theorem q125 : (Jvm.Cond.instantiable "HabitRegistry$Data" (10 : Nat)) ∈ lw_all := lw_g (lw_at lw_m1 50 rfl) rfl
theorem q127 : (Jvm.Cond.instanceMethod ({ cls := "HabitRegistry$Data", name := "<init>", desc := "()V" } : Jvm.MethodName)) ∈ lw_all := lw_g (lw_at lw_m1 52 rfl) rfl
theorem q128 : (Jvm.Cond.code ({ cls := "HabitRegistry$Data", name := "<init>", desc := "()V" } : Jvm.MethodName) prog_4_method_1_code (1 : Nat) (Option.none : Option Jvm.ClassFile.FieldType)) ∈ lw_all := lw_g (lw_at lw_m1 53 rfl) rfl
theorem q129 : (Jvm.Cond.methodLink "HabitRegistry$Data" (3 : Nat) ({ cls := "java/lang/Object", name := "<init>", desc := "()V" } : Jvm.MethodName)) ∈ lw_all := lw_g (lw_at lw_m1 54 rfl) rfl
theorem q130 : (Jvm.Cond.classLink "HabitRegistry$Data" (9 : Nat) "java/util/ArrayList") ∈ lw_all := lw_g (lw_at lw_m1 55 rfl) rfl
theorem q132 : (Jvm.Cond.methodLink "HabitRegistry$Data" (11 : Nat) ({ cls := "java/util/ArrayList", name := "<init>", desc := "()V" } : Jvm.MethodName)) ∈ lw_all := lw_g (lw_at lw_m1 57 rfl) rfl
theorem q159 : (Jvm.Cond.static ({ cls := "HabitRegistry$Data", name := "lambda$new$0", desc := "(LHabitRegistry$Habit;)Z" } : Jvm.MethodName)) ∈ lw_all := lw_g (lw_at lw_m1 84 rfl) rfl
theorem q160 : (Jvm.Cond.code ({ cls := "HabitRegistry$Data", name := "lambda$new$0", desc := "(LHabitRegistry$Habit;)Z" } : Jvm.MethodName) prog_4_method_52_code (1 : Nat) (Option.some Jvm.ClassFile.FieldType.boolean)) ∈ lw_all := lw_g (lw_at lw_m1 85 rfl) rfl
theorem q161 : (Jvm.Cond.methodLink "HabitRegistry$Data" (104 : Nat) ({ cls := "HabitRegistry$Habit", name := "isExtinct", desc := "()Z" } : Jvm.MethodName)) ∈ lw_all := lw_g (lw_at lw_m1 86 rfl) rfl
theorem q165 : (Jvm.Cond.static ({ cls := "HabitRegistry$Data", name := "lambda$new$1", desc := "(LHabitRegistry$Habit;)I" } : Jvm.MethodName)) ∈ lw_all := lw_g (lw_at lw_m1 90 rfl) rfl
theorem q166 : (Jvm.Cond.code ({ cls := "HabitRegistry$Data", name := "lambda$new$1", desc := "(LHabitRegistry$Habit;)I" } : Jvm.MethodName) prog_4_method_51_code (1 : Nat) (Option.some Jvm.ClassFile.FieldType.int)) ∈ lw_all := lw_g (lw_at lw_m1 91 rfl) rfl
theorem q167 : (Jvm.Cond.static ({ cls := "HabitRegistry$Data", name := "lambda$new$2", desc := "(LHabitRegistry$Habit;)I" } : Jvm.MethodName)) ∈ lw_all := lw_g (lw_at lw_m1 92 rfl) rfl
theorem q168 : (Jvm.Cond.code ({ cls := "HabitRegistry$Data", name := "lambda$new$2", desc := "(LHabitRegistry$Habit;)I" } : Jvm.MethodName) prog_4_method_50_code (1 : Nat) (Option.some Jvm.ClassFile.FieldType.int)) ∈ lw_all := lw_g (lw_at lw_m1 93 rfl) rfl
theorem q169 : (Jvm.Cond.privateMethod ({ cls := "HabitRegistry$Data", name := "lambda$new$3", desc := "(LHabitRegistry$Person;LHabitRegistry$Person;)Z" } : Jvm.MethodName)) ∈ lw_tbl := lw_at lw_m1 94 rfl
theorem q170 : (Jvm.Cond.instanceMethod ({ cls := "HabitRegistry$Data", name := "lambda$new$3", desc := "(LHabitRegistry$Person;LHabitRegistry$Person;)Z" } : Jvm.MethodName)) ∈ lw_all := lw_g (lw_at lw_m1 95 rfl) rfl
theorem q171 : (Jvm.Cond.code ({ cls := "HabitRegistry$Data", name := "lambda$new$3", desc := "(LHabitRegistry$Person;LHabitRegistry$Person;)Z" } : Jvm.MethodName) prog_4_method_49_code (5 : Nat) (Option.some Jvm.ClassFile.FieldType.boolean)) ∈ lw_all := lw_g (lw_at lw_m1 96 rfl) rfl
theorem q172 : (Jvm.Cond.methodLink "HabitRegistry$Data" (249 : Nat) ({ cls := "HabitRegistry$Data", name := "strengthOf", desc := "(LHabitRegistry$Person;)I" } : Jvm.MethodName)) ∈ lw_all := lw_g (lw_at lw_m1 97 rfl) rfl
theorem q173 : (Jvm.Cond.instanceMethod ({ cls := "HabitRegistry$Data", name := "strengthOf", desc := "(LHabitRegistry$Person;)I" } : Jvm.MethodName)) ∈ lw_all := lw_g (lw_at lw_m1 98 rfl) rfl
theorem q174 : (Jvm.Cond.selects "HabitRegistry$Data" ({ cls := "HabitRegistry$Data", name := "strengthOf", desc := "(LHabitRegistry$Person;)I" } : Jvm.MethodName) ({ cls := "HabitRegistry$Data", name := "strengthOf", desc := "(LHabitRegistry$Person;)I" } : Jvm.MethodName)) ∈ lw_all := lw_g (lw_at lw_m1 99 rfl) rfl
theorem q175 : (Jvm.Cond.code ({ cls := "HabitRegistry$Data", name := "strengthOf", desc := "(LHabitRegistry$Person;)I" } : Jvm.MethodName) prog_4_method_8_code (2 : Nat) (Option.some Jvm.ClassFile.FieldType.int)) ∈ lw_all := lw_g (lw_at lw_m1 100 rfl) rfl
theorem q176 : (Jvm.Cond.static ({ cls := "HabitRegistry$Data", name := "lambda$strengthOf$4", desc := "(LHabitRegistry$Person;LHabitRegistry$Habit;)Z" } : Jvm.MethodName)) ∈ lw_all := lw_g (lw_at lw_m1 101 rfl) rfl
theorem q177 : (Jvm.Cond.code ({ cls := "HabitRegistry$Data", name := "lambda$strengthOf$4", desc := "(LHabitRegistry$Person;LHabitRegistry$Habit;)Z" } : Jvm.MethodName) prog_4_method_48_code (2 : Nat) (Option.some Jvm.ClassFile.FieldType.boolean)) ∈ lw_all := lw_g (lw_at lw_m1 102 rfl) rfl
theorem q178 : (Jvm.Cond.methodLink "HabitRegistry$Data" (153 : Nat) ({ cls := "HabitRegistry$Data", name := "sum", desc := "(LHabitRegistry$Test;LHabitRegistry$Value;)I" } : Jvm.MethodName)) ∈ lw_all := lw_g (lw_at lw_m1 103 rfl) rfl
theorem q179 : (Jvm.Cond.instanceMethod ({ cls := "HabitRegistry$Data", name := "sum", desc := "(LHabitRegistry$Test;LHabitRegistry$Value;)I" } : Jvm.MethodName)) ∈ lw_all := lw_g (lw_at lw_m1 104 rfl) rfl
theorem q180 : (Jvm.Cond.selects "HabitRegistry$Data" ({ cls := "HabitRegistry$Data", name := "sum", desc := "(LHabitRegistry$Test;LHabitRegistry$Value;)I" } : Jvm.MethodName) ({ cls := "HabitRegistry$Data", name := "sum", desc := "(LHabitRegistry$Test;LHabitRegistry$Value;)I" } : Jvm.MethodName)) ∈ lw_all := lw_g (lw_at lw_m1 105 rfl) rfl
theorem q181 : (Jvm.Cond.code ({ cls := "HabitRegistry$Data", name := "sum", desc := "(LHabitRegistry$Test;LHabitRegistry$Value;)I" } : Jvm.MethodName) prog_4_method_6_code (6 : Nat) (Option.some Jvm.ClassFile.FieldType.int)) ∈ lw_all := lw_g (lw_at lw_m1 106 rfl) rfl
theorem q182 : (Jvm.Cond.methodLink "HabitRegistry$Data" (50 : Nat) ({ cls := "java/util/ArrayList", name := "iterator", desc := "()Ljava/util/Iterator;" } : Jvm.MethodName)) ∈ lw_all := lw_g (lw_at lw_m1 107 rfl) rfl
theorem q205 : (Jvm.Cond.interfaceEntry "HabitRegistry$Data" (54 : Nat)) ∈ lw_tbl := lw_at lw_m1 130 rfl
theorem q206 : (Jvm.Cond.methodLink "HabitRegistry$Data" (54 : Nat) ({ cls := "java/util/Iterator", name := "hasNext", desc := "()Z" } : Jvm.MethodName)) ∈ lw_all := lw_g (lw_at lw_m1 131 rfl) rfl
theorem q215 : (Jvm.Cond.interfaceEntry "HabitRegistry$Data" (60 : Nat)) ∈ lw_tbl := lw_at lw_m1 140 rfl
theorem q216 : (Jvm.Cond.methodLink "HabitRegistry$Data" (60 : Nat) ({ cls := "java/util/Iterator", name := "next", desc := "()Ljava/lang/Object;" } : Jvm.MethodName)) ∈ lw_all := lw_g (lw_at lw_m1 141 rfl) rfl
theorem q300 : (Jvm.Cond.classLink "HabitRegistry$Data" (86 : Nat) "HabitRegistry$Habit") ∈ lw_all := lw_g (lw_at lw_m1 225 rfl) rfl
theorem q301 : (Jvm.Cond.interfaceEntry "HabitRegistry$Data" (140 : Nat)) ∈ lw_tbl := lw_at lw_m1 226 rfl
theorem q302 : (Jvm.Cond.methodLink "HabitRegistry$Data" (140 : Nat) ({ cls := "HabitRegistry$Test", name := "holds", desc := "(LHabitRegistry$Habit;)Z" } : Jvm.MethodName)) ∈ lw_all := lw_g (lw_at lw_m1 227 rfl) rfl
theorem q305 : (Jvm.Cond.interfaceEntry "HabitRegistry$Data" (145 : Nat)) ∈ lw_tbl := lw_at lw_m1 230 rfl
theorem q306 : (Jvm.Cond.methodLink "HabitRegistry$Data" (145 : Nat) ({ cls := "HabitRegistry$Value", name := "of", desc := "(LHabitRegistry$Habit;)I" } : Jvm.MethodName)) ∈ lw_all := lw_g (lw_at lw_m1 231 rfl) rfl
theorem q309 : (Jvm.Cond.methodLink "HabitRegistry$Data" (176 : Nat) ({ cls := "HabitRegistry$Person", name := "generation", desc := "()I" } : Jvm.MethodName)) ∈ lw_all := lw_g (lw_at lw_m1 234 rfl) rfl
theorem q313 : (Jvm.Cond.fieldLink "HabitRegistry$Data" (12 : Nat) "HabitRegistry$Data" "people" "Ljava/util/ArrayList;") ∈ lw_all := lw_g (lw_at lw_m1 238 rfl) rfl
theorem q315 : (Jvm.Cond.fieldLink "HabitRegistry$Data" (18 : Nat) "HabitRegistry$Data" "habits" "Ljava/util/ArrayList;") ∈ lw_all := lw_g (lw_at lw_m2 0 rfl) rfl
theorem q317 : (Jvm.Cond.fieldLink "HabitRegistry$Data" (114 : Nat) "HabitRegistry$Data" "year" "I") ∈ lw_all := lw_g (lw_at lw_m2 2 rfl) rfl
theorem q319 : (Jvm.Cond.fieldLink "HabitRegistry$Data" (117 : Nat) "HabitRegistry$Data" "lapsed" "I") ∈ lw_all := lw_g (lw_at lw_m2 4 rfl) rfl
theorem q321 : (Jvm.Cond.fieldLink "HabitRegistry$Data" (120 : Nat) "HabitRegistry$Data" "merged" "I") ∈ lw_all := lw_g (lw_at lw_m2 6 rfl) rfl
theorem q323 : (Jvm.Cond.fieldLink "HabitRegistry$Data" (123 : Nat) "HabitRegistry$Data" "broken" "I") ∈ lw_all := lw_g (lw_at lw_m2 8 rfl) rfl
theorem q325 : (Jvm.Cond.fieldLink "HabitRegistry$Data" (25 : Nat) "HabitRegistry$Data" "present" "LHabitRegistry$Test;") ∈ lw_all := lw_g (lw_at lw_m2 10 rfl) rfl
theorem q327 : (Jvm.Cond.fieldLink "HabitRegistry$Data" (33 : Nat) "HabitRegistry$Data" "strength" "LHabitRegistry$Value;") ∈ lw_all := lw_g (lw_at lw_m2 12 rfl) rfl
theorem q329 : (Jvm.Cond.fieldLink "HabitRegistry$Data" (38 : Nat) "HabitRegistry$Data" "one" "LHabitRegistry$Value;") ∈ lw_all := lw_g (lw_at lw_m2 14 rfl) rfl
theorem q331 : (Jvm.Cond.fieldLink "HabitRegistry$Data" (45 : Nat) "HabitRegistry$Data" "byStrength" "LHabitRegistry$Order;") ∈ lw_all := lw_g (lw_at lw_m2 16 rfl) rfl
theorem q332 : (Jvm.Cond.laysFinal "HabitRegistry$Data" "HabitRegistry$Data" "people" "Ljava/util/ArrayList;") ∈ lw_all := lw_g (lw_at lw_m2 17 rfl) rfl
theorem q333 : (Jvm.Cond.soleField "HabitRegistry$Data" "people") ∈ lw_all := lw_g (lw_at lw_m2 18 rfl) rfl
theorem q334 : (Jvm.Cond.laysFinal "HabitRegistry$Data" "HabitRegistry$Data" "habits" "Ljava/util/ArrayList;") ∈ lw_all := lw_g (lw_at lw_m2 19 rfl) rfl
theorem q335 : (Jvm.Cond.soleField "HabitRegistry$Data" "habits") ∈ lw_all := lw_g (lw_at lw_m2 20 rfl) rfl
theorem q336 : (Jvm.Cond.lays "HabitRegistry$Data" "HabitRegistry$Data" "year" "I") ∈ lw_all := lw_g (lw_at lw_m2 21 rfl) rfl
theorem q337 : (Jvm.Cond.soleField "HabitRegistry$Data" "year") ∈ lw_all := lw_g (lw_at lw_m2 22 rfl) rfl
theorem q338 : (Jvm.Cond.lays "HabitRegistry$Data" "HabitRegistry$Data" "lapsed" "I") ∈ lw_all := lw_g (lw_at lw_m2 23 rfl) rfl
theorem q339 : (Jvm.Cond.soleField "HabitRegistry$Data" "lapsed") ∈ lw_all := lw_g (lw_at lw_m2 24 rfl) rfl
theorem q340 : (Jvm.Cond.lays "HabitRegistry$Data" "HabitRegistry$Data" "merged" "I") ∈ lw_all := lw_g (lw_at lw_m2 25 rfl) rfl
theorem q341 : (Jvm.Cond.soleField "HabitRegistry$Data" "merged") ∈ lw_all := lw_g (lw_at lw_m2 26 rfl) rfl
theorem q342 : (Jvm.Cond.lays "HabitRegistry$Data" "HabitRegistry$Data" "broken" "I") ∈ lw_all := lw_g (lw_at lw_m2 27 rfl) rfl
theorem q343 : (Jvm.Cond.soleField "HabitRegistry$Data" "broken") ∈ lw_all := lw_g (lw_at lw_m2 28 rfl) rfl
theorem q344 : (Jvm.Cond.laysFinal "HabitRegistry$Data" "HabitRegistry$Data" "present" "LHabitRegistry$Test;") ∈ lw_all := lw_g (lw_at lw_m2 29 rfl) rfl
theorem q345 : (Jvm.Cond.soleField "HabitRegistry$Data" "present") ∈ lw_all := lw_g (lw_at lw_m2 30 rfl) rfl
theorem q346 : (Jvm.Cond.laysFinal "HabitRegistry$Data" "HabitRegistry$Data" "strength" "LHabitRegistry$Value;") ∈ lw_all := lw_g (lw_at lw_m2 31 rfl) rfl
theorem q347 : (Jvm.Cond.soleField "HabitRegistry$Data" "strength") ∈ lw_all := lw_g (lw_at lw_m2 32 rfl) rfl
theorem q348 : (Jvm.Cond.laysFinal "HabitRegistry$Data" "HabitRegistry$Data" "one" "LHabitRegistry$Value;") ∈ lw_all := lw_g (lw_at lw_m2 33 rfl) rfl
theorem q349 : (Jvm.Cond.soleField "HabitRegistry$Data" "one") ∈ lw_all := lw_g (lw_at lw_m2 34 rfl) rfl
theorem q350 : (Jvm.Cond.laysFinal "HabitRegistry$Data" "HabitRegistry$Data" "byStrength" "LHabitRegistry$Order;") ∈ lw_all := lw_g (lw_at lw_m2 35 rfl) rfl
theorem q351 : (Jvm.Cond.soleField "HabitRegistry$Data" "byStrength") ∈ lw_all := lw_g (lw_at lw_m2 36 rfl) rfl
theorem q352 : (Jvm.Cond.superclass "HabitRegistry$Data" "java/lang/Object") ∈ lw_all := lw_g (lw_at lw_m2 37 rfl) rfl
theorem q424 : (Jvm.Cond.instanceMethod ({ cls := "HabitRegistry$Data", name := "living", desc := "()I" } : Jvm.MethodName)) ∈ lw_all := lw_g (lw_at lw_m2 109 rfl) rfl
theorem q425 : (Jvm.Cond.selects "HabitRegistry$Data" ({ cls := "HabitRegistry$Data", name := "living", desc := "()I" } : Jvm.MethodName) ({ cls := "HabitRegistry$Data", name := "living", desc := "()I" } : Jvm.MethodName)) ∈ lw_all := lw_g (lw_at lw_m2 110 rfl) rfl
theorem q426 : (Jvm.Cond.code ({ cls := "HabitRegistry$Data", name := "living", desc := "()I" } : Jvm.MethodName) prog_4_method_10_code (4 : Nat) (Option.some Jvm.ClassFile.FieldType.int)) ∈ lw_all := lw_g (lw_at lw_m2 111 rfl) rfl
theorem q427 : (Jvm.Cond.classLink "HabitRegistry$Data" (64 : Nat) "HabitRegistry$Person") ∈ lw_all := lw_g (lw_at lw_m2 112 rfl) rfl
theorem q428 : (Jvm.Cond.methodLinkNest "HabitRegistry$Data" (164 : Nat) ({ cls := "HabitRegistry", name := "asInt", desc := "(Z)I" } : Jvm.MethodName) "HabitRegistry") ∈ lw_tbl := lw_at lw_m2 113 rfl
theorem q461 : (Jvm.Cond.instanceMethod ({ cls := "HabitRegistry$Data", name := "totalByPeople", desc := "()I" } : Jvm.MethodName)) ∈ lw_all := lw_g (lw_at lw_m2 146 rfl) rfl
theorem q462 : (Jvm.Cond.selects "HabitRegistry$Data" ({ cls := "HabitRegistry$Data", name := "totalByPeople", desc := "()I" } : Jvm.MethodName) ({ cls := "HabitRegistry$Data", name := "totalByPeople", desc := "()I" } : Jvm.MethodName)) ∈ lw_all := lw_g (lw_at lw_m2 147 rfl) rfl
theorem q463 : (Jvm.Cond.code ({ cls := "HabitRegistry$Data", name := "totalByPeople", desc := "()I" } : Jvm.MethodName) prog_4_method_37_code (4 : Nat) (Option.some Jvm.ClassFile.FieldType.int)) ∈ lw_all := lw_g (lw_at lw_m2 148 rfl) rfl
theorem q469 : (Jvm.Cond.instanceMethod ({ cls := "HabitRegistry$Data", name := "isConsistent", desc := "()Z" } : Jvm.MethodName)) ∈ lw_all := lw_g (lw_at lw_m2 154 rfl) rfl
theorem q470 : (Jvm.Cond.selects "HabitRegistry$Data" ({ cls := "HabitRegistry$Data", name := "isConsistent", desc := "()Z" } : Jvm.MethodName) ({ cls := "HabitRegistry$Data", name := "isConsistent", desc := "()Z" } : Jvm.MethodName)) ∈ lw_all := lw_g (lw_at lw_m2 155 rfl) rfl
theorem q471 : (Jvm.Cond.code ({ cls := "HabitRegistry$Data", name := "isConsistent", desc := "()Z" } : Jvm.MethodName) prog_4_method_41_code (6 : Nat) (Option.some Jvm.ClassFile.FieldType.boolean)) ∈ lw_all := lw_g (lw_at lw_m2 156 rfl) rfl
theorem q472 : (Jvm.Cond.methodLink "HabitRegistry$Data" (268 : Nat) ({ cls := "HabitRegistry$Data", name := "totalByPeople", desc := "()I" } : Jvm.MethodName)) ∈ lw_all := lw_g (lw_at lw_m2 157 rfl) rfl
theorem q473 : (Jvm.Cond.static ({ cls := "HabitRegistry$Data", name := "lambda$isConsistent$10", desc := "(LHabitRegistry$Habit;)Z" } : Jvm.MethodName)) ∈ lw_all := lw_g (lw_at lw_m2 158 rfl) rfl
theorem q474 : (Jvm.Cond.code ({ cls := "HabitRegistry$Data", name := "lambda$isConsistent$10", desc := "(LHabitRegistry$Habit;)Z" } : Jvm.MethodName) prog_4_method_42_code (1 : Nat) (Option.some Jvm.ClassFile.FieldType.boolean)) ∈ lw_all := lw_g (lw_at lw_m2 159 rfl) rfl
theorem q475 : (Jvm.Cond.methodLink "HabitRegistry$Data" (160 : Nat) ({ cls := "HabitRegistry$Data", name := "find", desc := "(LHabitRegistry$Test;)LHabitRegistry$Habit;" } : Jvm.MethodName)) ∈ lw_all := lw_g (lw_at lw_m2 160 rfl) rfl
theorem q476 : (Jvm.Cond.instanceMethod ({ cls := "HabitRegistry$Data", name := "find", desc := "(LHabitRegistry$Test;)LHabitRegistry$Habit;" } : Jvm.MethodName)) ∈ lw_all := lw_g (lw_at lw_m2 161 rfl) rfl
theorem q477 : (Jvm.Cond.selects "HabitRegistry$Data" ({ cls := "HabitRegistry$Data", name := "find", desc := "(LHabitRegistry$Test;)LHabitRegistry$Habit;" } : Jvm.MethodName) ({ cls := "HabitRegistry$Data", name := "find", desc := "(LHabitRegistry$Test;)LHabitRegistry$Habit;" } : Jvm.MethodName)) ∈ lw_all := lw_g (lw_at lw_m2 162 rfl) rfl
theorem q478 : (Jvm.Cond.code ({ cls := "HabitRegistry$Data", name := "find", desc := "(LHabitRegistry$Test;)LHabitRegistry$Habit;" } : Jvm.MethodName) prog_4_method_7_code (4 : Nat) (Option.some (Jvm.ClassFile.FieldType.object "HabitRegistry$Habit"))) ∈ lw_all := lw_g (lw_at lw_m2 163 rfl) rfl
theorem q479 : (Jvm.Cond.methodLink "HabitRegistry$Data" (214 : Nat) ({ cls := "HabitRegistry$Data", name := "heir", desc := "(LHabitRegistry$Person;)LHabitRegistry$Person;" } : Jvm.MethodName)) ∈ lw_all := lw_g (lw_at lw_m2 164 rfl) rfl
theorem q480 : (Jvm.Cond.instanceMethod ({ cls := "HabitRegistry$Data", name := "heir", desc := "(LHabitRegistry$Person;)LHabitRegistry$Person;" } : Jvm.MethodName)) ∈ lw_all := lw_g (lw_at lw_m2 165 rfl) rfl
theorem q481 : (Jvm.Cond.selects "HabitRegistry$Data" ({ cls := "HabitRegistry$Data", name := "heir", desc := "(LHabitRegistry$Person;)LHabitRegistry$Person;" } : Jvm.MethodName) ({ cls := "HabitRegistry$Data", name := "heir", desc := "(LHabitRegistry$Person;)LHabitRegistry$Person;" } : Jvm.MethodName)) ∈ lw_all := lw_g (lw_at lw_m2 166 rfl) rfl
theorem q482 : (Jvm.Cond.code ({ cls := "HabitRegistry$Data", name := "heir", desc := "(LHabitRegistry$Person;)LHabitRegistry$Person;" } : Jvm.MethodName) prog_4_method_16_code (4 : Nat) (Option.some (Jvm.ClassFile.FieldType.object "HabitRegistry$Person"))) ∈ lw_all := lw_g (lw_at lw_m2 167 rfl) rfl
theorem q483 : (Jvm.Cond.methodLink "HabitRegistry$Data" (182 : Nat) ({ cls := "HabitRegistry$Data", name := "directHeir", desc := "(LHabitRegistry$Person;)LHabitRegistry$Person;" } : Jvm.MethodName)) ∈ lw_all := lw_g (lw_at lw_m2 168 rfl) rfl
theorem q484 : (Jvm.Cond.instanceMethod ({ cls := "HabitRegistry$Data", name := "directHeir", desc := "(LHabitRegistry$Person;)LHabitRegistry$Person;" } : Jvm.MethodName)) ∈ lw_all := lw_g (lw_at lw_m2 169 rfl) rfl
theorem q485 : (Jvm.Cond.selects "HabitRegistry$Data" ({ cls := "HabitRegistry$Data", name := "directHeir", desc := "(LHabitRegistry$Person;)LHabitRegistry$Person;" } : Jvm.MethodName) ({ cls := "HabitRegistry$Data", name := "directHeir", desc := "(LHabitRegistry$Person;)LHabitRegistry$Person;" } : Jvm.MethodName)) ∈ lw_all := lw_g (lw_at lw_m2 170 rfl) rfl
theorem q486 : (Jvm.Cond.code ({ cls := "HabitRegistry$Data", name := "directHeir", desc := "(LHabitRegistry$Person;)LHabitRegistry$Person;" } : Jvm.MethodName) prog_4_method_15_code (2 : Nat) (Option.some (Jvm.ClassFile.FieldType.object "HabitRegistry$Person"))) ∈ lw_all := lw_g (lw_at lw_m2 171 rfl) rfl
theorem q487 : (Jvm.Cond.methodLink "HabitRegistry$Data" (179 : Nat) ({ cls := "HabitRegistry$Person", name := "firstLiving", desc := "(LHabitRegistry$Person;)LHabitRegistry$Person;" } : Jvm.MethodName)) ∈ lw_all := lw_g (lw_at lw_m2 172 rfl) rfl
theorem q508 : (Jvm.Cond.methodLink "HabitRegistry$Data" (272 : Nat) ({ cls := "HabitRegistry$Data", name := "heirByComparison", desc := "(LHabitRegistry$Person;)LHabitRegistry$Person;" } : Jvm.MethodName)) ∈ lw_all := lw_g (lw_at lw_m2 193 rfl) rfl
theorem q509 : (Jvm.Cond.instanceMethod ({ cls := "HabitRegistry$Data", name := "heirByComparison", desc := "(LHabitRegistry$Person;)LHabitRegistry$Person;" } : Jvm.MethodName)) ∈ lw_all := lw_g (lw_at lw_m2 194 rfl) rfl
theorem q510 : (Jvm.Cond.selects "HabitRegistry$Data" ({ cls := "HabitRegistry$Data", name := "heirByComparison", desc := "(LHabitRegistry$Person;)LHabitRegistry$Person;" } : Jvm.MethodName) ({ cls := "HabitRegistry$Data", name := "heirByComparison", desc := "(LHabitRegistry$Person;)LHabitRegistry$Person;" } : Jvm.MethodName)) ∈ lw_all := lw_g (lw_at lw_m2 195 rfl) rfl
theorem q511 : (Jvm.Cond.code ({ cls := "HabitRegistry$Data", name := "heirByComparison", desc := "(LHabitRegistry$Person;)LHabitRegistry$Person;" } : Jvm.MethodName) prog_4_method_19_code (7 : Nat) (Option.some (Jvm.ClassFile.FieldType.object "HabitRegistry$Person"))) ∈ lw_all := lw_g (lw_at lw_m2 196 rfl) rfl
theorem q512 : (Jvm.Cond.privateMethod ({ cls := "HabitRegistry$Data", name := "lambda$heirByComparison$6", desc := "(LHabitRegistry$Person;LHabitRegistry$Person;LHabitRegistry$Person;)Z" } : Jvm.MethodName)) ∈ lw_tbl := lw_at lw_m2 197 rfl
theorem q513 : (Jvm.Cond.instanceMethod ({ cls := "HabitRegistry$Data", name := "lambda$heirByComparison$6", desc := "(LHabitRegistry$Person;LHabitRegistry$Person;LHabitRegistry$Person;)Z" } : Jvm.MethodName)) ∈ lw_all := lw_g (lw_at lw_m2 198 rfl) rfl
theorem q514 : (Jvm.Cond.code ({ cls := "HabitRegistry$Data", name := "lambda$heirByComparison$6", desc := "(LHabitRegistry$Person;LHabitRegistry$Person;LHabitRegistry$Person;)Z" } : Jvm.MethodName) prog_4_method_46_code (5 : Nat) (Option.some Jvm.ClassFile.FieldType.boolean)) ∈ lw_all := lw_g (lw_at lw_m2 199 rfl) rfl
theorem q515 : (Jvm.Cond.methodLink "HabitRegistry$Data" (286 : Nat) ({ cls := "HabitRegistry$Data", name := "ascent", desc := "(LHabitRegistry$Person;LHabitRegistry$Person;)I" } : Jvm.MethodName)) ∈ lw_all := lw_g (lw_at lw_m2 200 rfl) rfl
theorem q516 : (Jvm.Cond.privateMethod ({ cls := "HabitRegistry$Data", name := "ascent", desc := "(LHabitRegistry$Person;LHabitRegistry$Person;)I" } : Jvm.MethodName)) ∈ lw_tbl := lw_at lw_m2 201 rfl
theorem q517 : (Jvm.Cond.instanceMethod ({ cls := "HabitRegistry$Data", name := "ascent", desc := "(LHabitRegistry$Person;LHabitRegistry$Person;)I" } : Jvm.MethodName)) ∈ lw_all := lw_g (lw_at lw_m2 202 rfl) rfl
theorem q518 : (Jvm.Cond.code ({ cls := "HabitRegistry$Data", name := "ascent", desc := "(LHabitRegistry$Person;LHabitRegistry$Person;)I" } : Jvm.MethodName) prog_4_method_20_code (3 : Nat) (Option.some Jvm.ClassFile.FieldType.int)) ∈ lw_all := lw_g (lw_at lw_m2 203 rfl) rfl
theorem q519 : (Jvm.Cond.methodLink "HabitRegistry$Data" (172 : Nat) ({ cls := "HabitRegistry$Data", name := "commonAncestor", desc := "(LHabitRegistry$Person;LHabitRegistry$Person;)LHabitRegistry$Person;" } : Jvm.MethodName)) ∈ lw_all := lw_g (lw_at lw_m2 204 rfl) rfl
theorem q520 : (Jvm.Cond.instanceMethod ({ cls := "HabitRegistry$Data", name := "commonAncestor", desc := "(LHabitRegistry$Person;LHabitRegistry$Person;)LHabitRegistry$Person;" } : Jvm.MethodName)) ∈ lw_all := lw_g (lw_at lw_m2 205 rfl) rfl
theorem q521 : (Jvm.Cond.selects "HabitRegistry$Data" ({ cls := "HabitRegistry$Data", name := "commonAncestor", desc := "(LHabitRegistry$Person;LHabitRegistry$Person;)LHabitRegistry$Person;" } : Jvm.MethodName) ({ cls := "HabitRegistry$Data", name := "commonAncestor", desc := "(LHabitRegistry$Person;LHabitRegistry$Person;)LHabitRegistry$Person;" } : Jvm.MethodName)) ∈ lw_all := lw_g (lw_at lw_m2 206 rfl) rfl
theorem q522 : (Jvm.Cond.code ({ cls := "HabitRegistry$Data", name := "commonAncestor", desc := "(LHabitRegistry$Person;LHabitRegistry$Person;)LHabitRegistry$Person;" } : Jvm.MethodName) prog_4_method_12_code (4 : Nat) (Option.some (Jvm.ClassFile.FieldType.object "HabitRegistry$Person"))) ∈ lw_all := lw_g (lw_at lw_m2 207 rfl) rfl
theorem q523 : (Jvm.Cond.methodLink "HabitRegistry$Data" (168 : Nat) ({ cls := "HabitRegistry$Person", name := "isAncestorOf", desc := "(LHabitRegistry$Person;)Z" } : Jvm.MethodName)) ∈ lw_all := lw_g (lw_at lw_m2 208 rfl) rfl
theorem q527 : (Jvm.Cond.methodLink "HabitRegistry$Data" (192 : Nat) ({ cls := "HabitRegistry$Data", name := "succeedsBefore", desc := "(LHabitRegistry$Person;LHabitRegistry$Person;)Z" } : Jvm.MethodName)) ∈ lw_all := lw_g (lw_at lw_m2 212 rfl) rfl
theorem q528 : (Jvm.Cond.instanceMethod ({ cls := "HabitRegistry$Data", name := "succeedsBefore", desc := "(LHabitRegistry$Person;LHabitRegistry$Person;)Z" } : Jvm.MethodName)) ∈ lw_all := lw_g (lw_at lw_m2 213 rfl) rfl
theorem q529 : (Jvm.Cond.selects "HabitRegistry$Data" ({ cls := "HabitRegistry$Data", name := "succeedsBefore", desc := "(LHabitRegistry$Person;LHabitRegistry$Person;)Z" } : Jvm.MethodName) ({ cls := "HabitRegistry$Data", name := "succeedsBefore", desc := "(LHabitRegistry$Person;LHabitRegistry$Person;)Z" } : Jvm.MethodName)) ∈ lw_all := lw_g (lw_at lw_m2 214 rfl) rfl
theorem q530 : (Jvm.Cond.code ({ cls := "HabitRegistry$Data", name := "succeedsBefore", desc := "(LHabitRegistry$Person;LHabitRegistry$Person;)Z" } : Jvm.MethodName) prog_4_method_17_code (4 : Nat) (Option.some Jvm.ClassFile.FieldType.boolean)) ∈ lw_all := lw_g (lw_at lw_m2 215 rfl) rfl
theorem q531 : (Jvm.Cond.methodLink "HabitRegistry$Data" (185 : Nat) ({ cls := "HabitRegistry$Person", name := "branchBelow", desc := "(LHabitRegistry$Person;)LHabitRegistry$Person;" } : Jvm.MethodName)) ∈ lw_all := lw_g (lw_at lw_m2 216 rfl) rfl
theorem q535 : (Jvm.Cond.methodLink "HabitRegistry$Data" (188 : Nat) ({ cls := "HabitRegistry$Person", name := "founder", desc := "()LHabitRegistry$Person;" } : Jvm.MethodName)) ∈ lw_all := lw_g (lw_at lw_m2 220 rfl) rfl
theorem q539 : (Jvm.Cond.interfaceEntry "HabitRegistry$Data" (199 : Nat)) ∈ lw_tbl := lw_at lw_m2 224 rfl
theorem q540 : (Jvm.Cond.methodLink "HabitRegistry$Data" (199 : Nat) ({ cls := "HabitRegistry$Order", name := "isBefore", desc := "(LHabitRegistry$Person;LHabitRegistry$Person;)Z" } : Jvm.MethodName)) ∈ lw_all := lw_g (lw_at lw_m2 225 rfl) rfl
theorem q543 : (Jvm.Cond.methodLink "HabitRegistry$Data" (275 : Nat) ({ cls := "HabitRegistry$Data", name := "hasOneOfEachKind", desc := "(LHabitRegistry$Person;)Z" } : Jvm.MethodName)) ∈ lw_all := lw_g (lw_at lw_m2 228 rfl) rfl
theorem q544 : (Jvm.Cond.privateMethod ({ cls := "HabitRegistry$Data", name := "hasOneOfEachKind", desc := "(LHabitRegistry$Person;)Z" } : Jvm.MethodName)) ∈ lw_tbl := lw_at lw_m2 229 rfl
theorem q545 : (Jvm.Cond.instanceMethod ({ cls := "HabitRegistry$Data", name := "hasOneOfEachKind", desc := "(LHabitRegistry$Person;)Z" } : Jvm.MethodName)) ∈ lw_all := lw_g (lw_at lw_m2 230 rfl) rfl
theorem q546 : (Jvm.Cond.code ({ cls := "HabitRegistry$Data", name := "hasOneOfEachKind", desc := "(LHabitRegistry$Person;)Z" } : Jvm.MethodName) prog_4_method_40_code (5 : Nat) (Option.some Jvm.ClassFile.FieldType.boolean)) ∈ lw_all := lw_g (lw_at lw_m2 231 rfl) rfl
theorem q547 : (Jvm.Cond.stringRef "HabitRegistry$Data" (256 : Nat) "dsh") ∈ lw_tbl := lw_at lw_m2 232 rfl
theorem q548 : (Jvm.Cond.methodLink "HabitRegistry$Data" (258 : Nat) ({ cls := "java/lang/String", name := "length", desc := "()I" } : Jvm.MethodName)) ∈ lw_all := lw_g (lw_at lw_m2 233 rfl) rfl
theorem q557 : (Jvm.Cond.methodLink "HabitRegistry$Data" (263 : Nat) ({ cls := "java/lang/String", name := "charAt", desc := "(I)C" } : Jvm.MethodName)) ∈ lw_all := lw_g (lw_at lw_m3 2 rfl) rfl
theorem q593 : (Jvm.Cond.static ({ cls := "HabitRegistry$Data", name := "lambda$hasOneOfEachKind$9", desc := "(LHabitRegistry$Person;CLHabitRegistry$Habit;)Z" } : Jvm.MethodName)) ∈ lw_all := lw_g (lw_at lw_m3 38 rfl) rfl
theorem q594 : (Jvm.Cond.code ({ cls := "HabitRegistry$Data", name := "lambda$hasOneOfEachKind$9", desc := "(LHabitRegistry$Person;CLHabitRegistry$Habit;)Z" } : Jvm.MethodName) prog_4_method_43_code (3 : Nat) (Option.some Jvm.ClassFile.FieldType.boolean)) ∈ lw_all := lw_g (lw_at lw_m3 39 rfl) rfl
theorem q595 : (Jvm.Cond.methodLink "HabitRegistry$Data" (245 : Nat) ({ cls := "HabitRegistry$Data", name := "distance", desc := "(LHabitRegistry$Person;LHabitRegistry$Person;)I" } : Jvm.MethodName)) ∈ lw_all := lw_g (lw_at lw_m3 40 rfl) rfl
theorem q596 : (Jvm.Cond.instanceMethod ({ cls := "HabitRegistry$Data", name := "distance", desc := "(LHabitRegistry$Person;LHabitRegistry$Person;)I" } : Jvm.MethodName)) ∈ lw_all := lw_g (lw_at lw_m3 41 rfl) rfl
theorem q597 : (Jvm.Cond.selects "HabitRegistry$Data" ({ cls := "HabitRegistry$Data", name := "distance", desc := "(LHabitRegistry$Person;LHabitRegistry$Person;)I" } : Jvm.MethodName) ({ cls := "HabitRegistry$Data", name := "distance", desc := "(LHabitRegistry$Person;LHabitRegistry$Person;)I" } : Jvm.MethodName)) ∈ lw_all := lw_g (lw_at lw_m3 42 rfl) rfl
theorem q598 : (Jvm.Cond.code ({ cls := "HabitRegistry$Data", name := "distance", desc := "(LHabitRegistry$Person;LHabitRegistry$Person;)I" } : Jvm.MethodName) prog_4_method_13_code (4 : Nat) (Option.some Jvm.ClassFile.FieldType.int)) ∈ lw_all := lw_g (lw_at lw_m3 43 rfl) rfl
theorem q599 : (Jvm.Cond.methodLink "HabitRegistry$Data" (278 : Nat) ({ cls := "HabitRegistry$Data", name := "distanceBySearch", desc := "(LHabitRegistry$Person;LHabitRegistry$Person;)I" } : Jvm.MethodName)) ∈ lw_all := lw_g (lw_at lw_m3 44 rfl) rfl
theorem q600 : (Jvm.Cond.instanceMethod ({ cls := "HabitRegistry$Data", name := "distanceBySearch", desc := "(LHabitRegistry$Person;LHabitRegistry$Person;)I" } : Jvm.MethodName)) ∈ lw_all := lw_g (lw_at lw_m3 45 rfl) rfl
theorem q601 : (Jvm.Cond.selects "HabitRegistry$Data" ({ cls := "HabitRegistry$Data", name := "distanceBySearch", desc := "(LHabitRegistry$Person;LHabitRegistry$Person;)I" } : Jvm.MethodName) ({ cls := "HabitRegistry$Data", name := "distanceBySearch", desc := "(LHabitRegistry$Person;LHabitRegistry$Person;)I" } : Jvm.MethodName)) ∈ lw_all := lw_g (lw_at lw_m3 46 rfl) rfl
theorem q602 : (Jvm.Cond.code ({ cls := "HabitRegistry$Data", name := "distanceBySearch", desc := "(LHabitRegistry$Person;LHabitRegistry$Person;)I" } : Jvm.MethodName) prog_4_method_14_code (10 : Nat) (Option.some Jvm.ClassFile.FieldType.int)) ∈ lw_all := lw_g (lw_at lw_m3 47 rfl) rfl
theorem q603 : (Jvm.Cond.methodLink "HabitRegistry$Data" (126 : Nat) ({ cls := "java/util/ArrayList", name := "size", desc := "()I" } : Jvm.MethodName)) ∈ lw_all := lw_g (lw_at lw_m3 48 rfl) rfl
theorem q604 : (Jvm.Cond.methodLink "HabitRegistry$Data" (74 : Nat) ({ cls := "java/util/ArrayList", name := "get", desc := "(I)Ljava/lang/Object;" } : Jvm.MethodName)) ∈ lw_all := lw_g (lw_at lw_m3 49 rfl) rfl
theorem q615 : (Jvm.Cond.instanceMethod ({ cls := "HabitRegistry$Data", name := "copy", desc := "()LHabitRegistry$Data;" } : Jvm.MethodName)) ∈ lw_all := lw_g (lw_at lw_m3 60 rfl) rfl
theorem q616 : (Jvm.Cond.selects "HabitRegistry$Data" ({ cls := "HabitRegistry$Data", name := "copy", desc := "()LHabitRegistry$Data;" } : Jvm.MethodName) ({ cls := "HabitRegistry$Data", name := "copy", desc := "()LHabitRegistry$Data;" } : Jvm.MethodName)) ∈ lw_all := lw_g (lw_at lw_m3 61 rfl) rfl
theorem q617 : (Jvm.Cond.code ({ cls := "HabitRegistry$Data", name := "copy", desc := "()LHabitRegistry$Data;" } : Jvm.MethodName) prog_4_method_2_code (5 : Nat) (Option.some (Jvm.ClassFile.FieldType.object "HabitRegistry$Data"))) ∈ lw_all := lw_g (lw_at lw_m3 62 rfl) rfl
theorem q618 : (Jvm.Cond.classLink "HabitRegistry$Data" (13 : Nat) "HabitRegistry$Data") ∈ lw_all := lw_g (lw_at lw_m3 63 rfl) rfl
theorem q619 : (Jvm.Cond.methodLink "HabitRegistry$Data" (49 : Nat) ({ cls := "HabitRegistry$Data", name := "<init>", desc := "()V" } : Jvm.MethodName)) ∈ lw_all := lw_g (lw_at lw_m3 64 rfl) rfl
theorem q620 : (Jvm.Cond.methodLink "HabitRegistry$Data" (78 : Nat) ({ cls := "HabitRegistry$Data", name := "join", desc := "(LHabitRegistry$Person;)LHabitRegistry$Person;" } : Jvm.MethodName)) ∈ lw_all := lw_g (lw_at lw_m3 65 rfl) rfl
theorem q621 : (Jvm.Cond.privateMethod ({ cls := "HabitRegistry$Data", name := "join", desc := "(LHabitRegistry$Person;)LHabitRegistry$Person;" } : Jvm.MethodName)) ∈ lw_tbl := lw_at lw_m3 66 rfl
theorem q622 : (Jvm.Cond.instanceMethod ({ cls := "HabitRegistry$Data", name := "join", desc := "(LHabitRegistry$Person;)LHabitRegistry$Person;" } : Jvm.MethodName)) ∈ lw_all := lw_g (lw_at lw_m3 67 rfl) rfl
theorem q623 : (Jvm.Cond.code ({ cls := "HabitRegistry$Data", name := "join", desc := "(LHabitRegistry$Person;)LHabitRegistry$Person;" } : Jvm.MethodName) prog_4_method_3_code (3 : Nat) (Option.some (Jvm.ClassFile.FieldType.object "HabitRegistry$Person"))) ∈ lw_all := lw_g (lw_at lw_m3 68 rfl) rfl
theorem q625 : (Jvm.Cond.methodLink "HabitRegistry$Data" (130 : Nat) ({ cls := "HabitRegistry$Person", name := "<init>", desc := "(ILHabitRegistry$Person;)V" } : Jvm.MethodName)) ∈ lw_all := lw_g (lw_at lw_m3 70 rfl) rfl
theorem q632 : (Jvm.Cond.fieldLinkNest "HabitRegistry$Data" (70 : Nat) "HabitRegistry$Person" "index" "I" "HabitRegistry") ∈ lw_tbl := lw_at lw_m3 77 rfl
theorem q635 : (Jvm.Cond.fieldLinkNest "HabitRegistry$Data" (66 : Nat) "HabitRegistry$Person" "parent" "LHabitRegistry$Person;" "HabitRegistry") ∈ lw_tbl := lw_at lw_m3 80 rfl
theorem q638 : (Jvm.Cond.fieldLinkNest "HabitRegistry$Data" (133 : Nat) "HabitRegistry$Person" "children" "Ljava/util/ArrayList;" "HabitRegistry") ∈ lw_tbl := lw_at lw_m3 83 rfl
theorem q641 : (Jvm.Cond.fieldLinkNest "HabitRegistry$Data" (82 : Nat) "HabitRegistry$Person" "alive" "Z" "HabitRegistry") ∈ lw_tbl := lw_at lw_m3 86 rfl
theorem q652 : (Jvm.Cond.methodLink "HabitRegistry$Data" (110 : Nat) ({ cls := "java/util/ArrayList", name := "add", desc := "(Ljava/lang/Object;)Z" } : Jvm.MethodName)) ∈ lw_all := lw_g (lw_at lw_m3 97 rfl) rfl
theorem q687 : (Jvm.Cond.selects "HabitRegistry$Data" ({ cls := "java/lang/Object", name := "getClass", desc := "()Ljava/lang/Class;" } : Jvm.MethodName) ({ cls := "java/lang/Object", name := "getClass", desc := "()Ljava/lang/Class;" } : Jvm.MethodName)) ∈ lw_all := lw_g (lw_at lw_m3 132 rfl) rfl
theorem q722 : (Jvm.Cond.methodLink "HabitRegistry$Data" (95 : Nat) ({ cls := "HabitRegistry$Habit", name := "<init>", desc := "(ICI)V" } : Jvm.MethodName)) ∈ lw_all := lw_g (lw_at lw_m3 167 rfl) rfl
theorem q727 : (Jvm.Cond.fieldLinkNest "HabitRegistry$Data" (88 : Nat) "HabitRegistry$Habit" "index" "I" "HabitRegistry") ∈ lw_tbl := lw_at lw_m3 172 rfl
theorem q730 : (Jvm.Cond.fieldLinkNest "HabitRegistry$Data" (89 : Nat) "HabitRegistry$Habit" "kind" "C" "HabitRegistry") ∈ lw_tbl := lw_at lw_m3 175 rfl
theorem q733 : (Jvm.Cond.fieldLinkNest "HabitRegistry$Data" (93 : Nat) "HabitRegistry$Habit" "strength" "I" "HabitRegistry") ∈ lw_tbl := lw_at lw_m3 178 rfl
theorem q735 : (Jvm.Cond.fieldLinkNest "HabitRegistry$Data" (98 : Nat) "HabitRegistry$Habit" "entailed" "Z" "HabitRegistry") ∈ lw_tbl := lw_at lw_m3 180 rfl
theorem q738 : (Jvm.Cond.fieldLinkNest "HabitRegistry$Data" (101 : Nat) "HabitRegistry$Habit" "practised" "Z" "HabitRegistry") ∈ lw_tbl := lw_at lw_m3 183 rfl
theorem q742 : (Jvm.Cond.fieldLinkNest "HabitRegistry$Data" (107 : Nat) "HabitRegistry$Habit" "holder" "LHabitRegistry$Person;" "HabitRegistry") ∈ lw_tbl := lw_at lw_m3 187 rfl
theorem q799 : (Jvm.Cond.instanceMethod ({ cls := "HabitRegistry$Data", name := "hasPerson", desc := "(I)Z" } : Jvm.MethodName)) ∈ lw_all := lw_g (lw_at lw_m4 4 rfl) rfl
theorem q800 : (Jvm.Cond.selects "HabitRegistry$Data" ({ cls := "HabitRegistry$Data", name := "hasPerson", desc := "(I)Z" } : Jvm.MethodName) ({ cls := "HabitRegistry$Data", name := "hasPerson", desc := "(I)Z" } : Jvm.MethodName)) ∈ lw_all := lw_g (lw_at lw_m4 5 rfl) rfl
theorem q801 : (Jvm.Cond.code ({ cls := "HabitRegistry$Data", name := "hasPerson", desc := "(I)Z" } : Jvm.MethodName) prog_4_method_4_code (2 : Nat) (Option.some Jvm.ClassFile.FieldType.boolean)) ∈ lw_all := lw_g (lw_at lw_m4 6 rfl) rfl
theorem q802 : (Jvm.Cond.methodLinkNest "HabitRegistry$Data" (136 : Nat) ({ cls := "HabitRegistry", name := "isBetween", desc := "(III)Z" } : Jvm.MethodName) "HabitRegistry") ∈ lw_tbl := lw_at lw_m4 7 rfl
theorem q810 : (Jvm.Cond.instanceMethod ({ cls := "HabitRegistry$Data", name := "hasHabit", desc := "(I)Z" } : Jvm.MethodName)) ∈ lw_all := lw_g (lw_at lw_m4 15 rfl) rfl
theorem q811 : (Jvm.Cond.selects "HabitRegistry$Data" ({ cls := "HabitRegistry$Data", name := "hasHabit", desc := "(I)Z" } : Jvm.MethodName) ({ cls := "HabitRegistry$Data", name := "hasHabit", desc := "(I)Z" } : Jvm.MethodName)) ∈ lw_all := lw_g (lw_at lw_m4 16 rfl) rfl
theorem q812 : (Jvm.Cond.code ({ cls := "HabitRegistry$Data", name := "hasHabit", desc := "(I)Z" } : Jvm.MethodName) prog_4_method_5_code (2 : Nat) (Option.some Jvm.ClassFile.FieldType.boolean)) ∈ lw_all := lw_g (lw_at lw_m4 17 rfl) rfl
theorem q838 : (Jvm.Cond.instanceMethod ({ cls := "HabitRegistry$Data", name := "addFounder", desc := "()I" } : Jvm.MethodName)) ∈ lw_all := lw_g (lw_at lw_m4 43 rfl) rfl
theorem q839 : (Jvm.Cond.selects "HabitRegistry$Data" ({ cls := "HabitRegistry$Data", name := "addFounder", desc := "()I" } : Jvm.MethodName) ({ cls := "HabitRegistry$Data", name := "addFounder", desc := "()I" } : Jvm.MethodName)) ∈ lw_all := lw_g (lw_at lw_m4 44 rfl) rfl
theorem q840 : (Jvm.Cond.code ({ cls := "HabitRegistry$Data", name := "addFounder", desc := "()I" } : Jvm.MethodName) prog_4_method_23_code (1 : Nat) (Option.some Jvm.ClassFile.FieldType.int)) ∈ lw_all := lw_g (lw_at lw_m4 45 rfl) rfl
theorem q841 : (Jvm.Cond.methodLink "HabitRegistry$Data" (207 : Nat) ({ cls := "HabitRegistry$Data", name := "requireRoom", desc := "()V" } : Jvm.MethodName)) ∈ lw_all := lw_g (lw_at lw_m4 46 rfl) rfl
theorem q842 : (Jvm.Cond.privateMethod ({ cls := "HabitRegistry$Data", name := "requireRoom", desc := "()V" } : Jvm.MethodName)) ∈ lw_tbl := lw_at lw_m4 47 rfl
theorem q843 : (Jvm.Cond.instanceMethod ({ cls := "HabitRegistry$Data", name := "requireRoom", desc := "()V" } : Jvm.MethodName)) ∈ lw_all := lw_g (lw_at lw_m4 48 rfl) rfl
theorem q844 : (Jvm.Cond.code ({ cls := "HabitRegistry$Data", name := "requireRoom", desc := "()V" } : Jvm.MethodName) prog_4_method_22_code (1 : Nat) (Option.none : Option Jvm.ClassFile.FieldType)) ∈ lw_all := lw_g (lw_at lw_m4 49 rfl) rfl
theorem q845 : (Jvm.Cond.methodLinkNest "HabitRegistry$Data" (203 : Nat) ({ cls := "HabitRegistry", name := "rejectIf", desc := "(ZII)V" } : Jvm.MethodName) "HabitRegistry") ∈ lw_tbl := lw_at lw_m4 50 rfl
theorem q873 : (Jvm.Cond.instanceMethod ({ cls := "HabitRegistry$Data", name := "addChild", desc := "(I)I" } : Jvm.MethodName)) ∈ lw_all := lw_g (lw_at lw_m4 78 rfl) rfl
theorem q874 : (Jvm.Cond.selects "HabitRegistry$Data" ({ cls := "HabitRegistry$Data", name := "addChild", desc := "(I)I" } : Jvm.MethodName) ({ cls := "HabitRegistry$Data", name := "addChild", desc := "(I)I" } : Jvm.MethodName)) ∈ lw_all := lw_g (lw_at lw_m4 79 rfl) rfl
theorem q875 : (Jvm.Cond.code ({ cls := "HabitRegistry$Data", name := "addChild", desc := "(I)I" } : Jvm.MethodName) prog_4_method_24_code (3 : Nat) (Option.some Jvm.ClassFile.FieldType.int)) ∈ lw_all := lw_g (lw_at lw_m4 80 rfl) rfl
theorem q876 : (Jvm.Cond.methodLink "HabitRegistry$Data" (210 : Nat) ({ cls := "HabitRegistry$Data", name := "requireAlive", desc := "(LHabitRegistry$Person;)V" } : Jvm.MethodName)) ∈ lw_all := lw_g (lw_at lw_m4 81 rfl) rfl
theorem q877 : (Jvm.Cond.privateMethod ({ cls := "HabitRegistry$Data", name := "requireAlive", desc := "(LHabitRegistry$Person;)V" } : Jvm.MethodName)) ∈ lw_tbl := lw_at lw_m4 82 rfl
theorem q878 : (Jvm.Cond.instanceMethod ({ cls := "HabitRegistry$Data", name := "requireAlive", desc := "(LHabitRegistry$Person;)V" } : Jvm.MethodName)) ∈ lw_all := lw_g (lw_at lw_m4 83 rfl) rfl
theorem q879 : (Jvm.Cond.code ({ cls := "HabitRegistry$Data", name := "requireAlive", desc := "(LHabitRegistry$Person;)V" } : Jvm.MethodName) prog_4_method_21_code (2 : Nat) (Option.none : Option Jvm.ClassFile.FieldType)) ∈ lw_all := lw_g (lw_at lw_m4 84 rfl) rfl
theorem q881 : (Jvm.Cond.instanceMethod ({ cls := "HabitRegistry$Data", name := "bury", desc := "(I)I" } : Jvm.MethodName)) ∈ lw_all := lw_g (lw_at lw_m4 86 rfl) rfl
theorem q882 : (Jvm.Cond.selects "HabitRegistry$Data" ({ cls := "HabitRegistry$Data", name := "bury", desc := "(I)I" } : Jvm.MethodName) ({ cls := "HabitRegistry$Data", name := "bury", desc := "(I)I" } : Jvm.MethodName)) ∈ lw_all := lw_g (lw_at lw_m4 87 rfl) rfl
theorem q883 : (Jvm.Cond.code ({ cls := "HabitRegistry$Data", name := "bury", desc := "(I)I" } : Jvm.MethodName) prog_4_method_25_code (6 : Nat) (Option.some Jvm.ClassFile.FieldType.int)) ∈ lw_all := lw_g (lw_at lw_m4 88 rfl) rfl
theorem q884 : (Jvm.Cond.methodLink "HabitRegistry$Data" (217 : Nat) ({ cls := "HabitRegistry$Data", name := "pass", desc := "(LHabitRegistry$Habit;LHabitRegistry$Person;)Z" } : Jvm.MethodName)) ∈ lw_all := lw_g (lw_at lw_m4 89 rfl) rfl
theorem q885 : (Jvm.Cond.privateMethod ({ cls := "HabitRegistry$Data", name := "pass", desc := "(LHabitRegistry$Habit;LHabitRegistry$Person;)Z" } : Jvm.MethodName)) ∈ lw_tbl := lw_at lw_m4 90 rfl
theorem q886 : (Jvm.Cond.instanceMethod ({ cls := "HabitRegistry$Data", name := "pass", desc := "(LHabitRegistry$Habit;LHabitRegistry$Person;)Z" } : Jvm.MethodName)) ∈ lw_all := lw_g (lw_at lw_m4 91 rfl) rfl
theorem q887 : (Jvm.Cond.code ({ cls := "HabitRegistry$Data", name := "pass", desc := "(LHabitRegistry$Habit;LHabitRegistry$Person;)Z" } : Jvm.MethodName) prog_4_method_26_code (4 : Nat) (Option.some Jvm.ClassFile.FieldType.boolean)) ∈ lw_all := lw_g (lw_at lw_m4 92 rfl) rfl
theorem q888 : (Jvm.Cond.methodLink "HabitRegistry$Data" (221 : Nat) ({ cls := "HabitRegistry$Habit", name := "end", desc := "()V" } : Jvm.MethodName)) ∈ lw_all := lw_g (lw_at lw_m4 93 rfl) rfl
theorem q892 : (Jvm.Cond.methodLink "HabitRegistry$Data" (224 : Nat) ({ cls := "HabitRegistry$Data", name := "habitOf", desc := "(LHabitRegistry$Person;C)LHabitRegistry$Habit;" } : Jvm.MethodName)) ∈ lw_all := lw_g (lw_at lw_m4 97 rfl) rfl
theorem q893 : (Jvm.Cond.instanceMethod ({ cls := "HabitRegistry$Data", name := "habitOf", desc := "(LHabitRegistry$Person;C)LHabitRegistry$Habit;" } : Jvm.MethodName)) ∈ lw_all := lw_g (lw_at lw_m4 98 rfl) rfl
theorem q894 : (Jvm.Cond.selects "HabitRegistry$Data" ({ cls := "HabitRegistry$Data", name := "habitOf", desc := "(LHabitRegistry$Person;C)LHabitRegistry$Habit;" } : Jvm.MethodName) ({ cls := "HabitRegistry$Data", name := "habitOf", desc := "(LHabitRegistry$Person;C)LHabitRegistry$Habit;" } : Jvm.MethodName)) ∈ lw_all := lw_g (lw_at lw_m4 99 rfl) rfl
theorem q895 : (Jvm.Cond.code ({ cls := "HabitRegistry$Data", name := "habitOf", desc := "(LHabitRegistry$Person;C)LHabitRegistry$Habit;" } : Jvm.MethodName) prog_4_method_9_code (3 : Nat) (Option.some (Jvm.ClassFile.FieldType.object "HabitRegistry$Habit"))) ∈ lw_all := lw_g (lw_at lw_m4 100 rfl) rfl
theorem q896 : (Jvm.Cond.static ({ cls := "HabitRegistry$Data", name := "lambda$habitOf$5", desc := "(LHabitRegistry$Person;CLHabitRegistry$Habit;)Z" } : Jvm.MethodName)) ∈ lw_all := lw_g (lw_at lw_m4 101 rfl) rfl
theorem q897 : (Jvm.Cond.code ({ cls := "HabitRegistry$Data", name := "lambda$habitOf$5", desc := "(LHabitRegistry$Person;CLHabitRegistry$Habit;)Z" } : Jvm.MethodName) prog_4_method_47_code (3 : Nat) (Option.some Jvm.ClassFile.FieldType.boolean)) ∈ lw_all := lw_g (lw_at lw_m4 102 rfl) rfl
theorem q898 : (Jvm.Cond.methodLink "HabitRegistry$Data" (228 : Nat) ({ cls := "java/lang/Math", name := "min", desc := "(II)I" } : Jvm.MethodName)) ∈ lw_all := lw_g (lw_at lw_m4 103 rfl) rfl
theorem q900 : (Jvm.Cond.instanceMethod ({ cls := "HabitRegistry$Data", name := "addHabit", desc := "(ICI)I" } : Jvm.MethodName)) ∈ lw_all := lw_g (lw_at lw_m4 105 rfl) rfl
theorem q901 : (Jvm.Cond.selects "HabitRegistry$Data" ({ cls := "HabitRegistry$Data", name := "addHabit", desc := "(ICI)I" } : Jvm.MethodName) ({ cls := "HabitRegistry$Data", name := "addHabit", desc := "(ICI)I" } : Jvm.MethodName)) ∈ lw_all := lw_g (lw_at lw_m4 106 rfl) rfl
theorem q902 : (Jvm.Cond.code ({ cls := "HabitRegistry$Data", name := "addHabit", desc := "(ICI)I" } : Jvm.MethodName) prog_4_method_28_code (6 : Nat) (Option.some Jvm.ClassFile.FieldType.int)) ∈ lw_all := lw_g (lw_at lw_m4 107 rfl) rfl
theorem q903 : (Jvm.Cond.methodLink "HabitRegistry$Data" (234 : Nat) ({ cls := "HabitRegistry$Data", name := "requireNoKind", desc := "(LHabitRegistry$Person;C)V" } : Jvm.MethodName)) ∈ lw_all := lw_g (lw_at lw_m4 108 rfl) rfl
theorem q904 : (Jvm.Cond.privateMethod ({ cls := "HabitRegistry$Data", name := "requireNoKind", desc := "(LHabitRegistry$Person;C)V" } : Jvm.MethodName)) ∈ lw_tbl := lw_at lw_m4 109 rfl
theorem q905 : (Jvm.Cond.instanceMethod ({ cls := "HabitRegistry$Data", name := "requireNoKind", desc := "(LHabitRegistry$Person;C)V" } : Jvm.MethodName)) ∈ lw_all := lw_g (lw_at lw_m4 110 rfl) rfl
theorem q906 : (Jvm.Cond.code ({ cls := "HabitRegistry$Data", name := "requireNoKind", desc := "(LHabitRegistry$Person;C)V" } : Jvm.MethodName) prog_4_method_27_code (4 : Nat) (Option.none : Option Jvm.ClassFile.FieldType)) ∈ lw_all := lw_g (lw_at lw_m4 111 rfl) rfl
theorem q908 : (Jvm.Cond.instanceMethod ({ cls := "HabitRegistry$Data", name := "practise", desc := "(I)I" } : Jvm.MethodName)) ∈ lw_all := lw_g (lw_at lw_m4 113 rfl) rfl
theorem q909 : (Jvm.Cond.selects "HabitRegistry$Data" ({ cls := "HabitRegistry$Data", name := "practise", desc := "(I)I" } : Jvm.MethodName) ({ cls := "HabitRegistry$Data", name := "practise", desc := "(I)I" } : Jvm.MethodName)) ∈ lw_all := lw_g (lw_at lw_m4 114 rfl) rfl
theorem q910 : (Jvm.Cond.code ({ cls := "HabitRegistry$Data", name := "practise", desc := "(I)I" } : Jvm.MethodName) prog_4_method_30_code (3 : Nat) (Option.some Jvm.ClassFile.FieldType.int)) ∈ lw_all := lw_g (lw_at lw_m4 115 rfl) rfl
theorem q911 : (Jvm.Cond.methodLink "HabitRegistry$Data" (238 : Nat) ({ cls := "HabitRegistry$Data", name := "requirePresent", desc := "(I)LHabitRegistry$Habit;" } : Jvm.MethodName)) ∈ lw_all := lw_g (lw_at lw_m4 116 rfl) rfl
theorem q912 : (Jvm.Cond.privateMethod ({ cls := "HabitRegistry$Data", name := "requirePresent", desc := "(I)LHabitRegistry$Habit;" } : Jvm.MethodName)) ∈ lw_tbl := lw_at lw_m4 117 rfl
theorem q913 : (Jvm.Cond.instanceMethod ({ cls := "HabitRegistry$Data", name := "requirePresent", desc := "(I)LHabitRegistry$Habit;" } : Jvm.MethodName)) ∈ lw_all := lw_g (lw_at lw_m4 118 rfl) rfl
theorem q914 : (Jvm.Cond.code ({ cls := "HabitRegistry$Data", name := "requirePresent", desc := "(I)LHabitRegistry$Habit;" } : Jvm.MethodName) prog_4_method_29_code (3 : Nat) (Option.some (Jvm.ClassFile.FieldType.object "HabitRegistry$Habit"))) ∈ lw_all := lw_g (lw_at lw_m4 119 rfl) rfl
theorem q916 : (Jvm.Cond.instanceMethod ({ cls := "HabitRegistry$Data", name := "neglect", desc := "(I)I" } : Jvm.MethodName)) ∈ lw_all := lw_g (lw_at lw_m4 121 rfl) rfl
theorem q917 : (Jvm.Cond.selects "HabitRegistry$Data" ({ cls := "HabitRegistry$Data", name := "neglect", desc := "(I)I" } : Jvm.MethodName) ({ cls := "HabitRegistry$Data", name := "neglect", desc := "(I)I" } : Jvm.MethodName)) ∈ lw_all := lw_g (lw_at lw_m4 122 rfl) rfl
theorem q918 : (Jvm.Cond.code ({ cls := "HabitRegistry$Data", name := "neglect", desc := "(I)I" } : Jvm.MethodName) prog_4_method_32_code (4 : Nat) (Option.some Jvm.ClassFile.FieldType.int)) ∈ lw_all := lw_g (lw_at lw_m4 123 rfl) rfl
theorem q919 : (Jvm.Cond.methodLink "HabitRegistry$Data" (242 : Nat) ({ cls := "HabitRegistry$Data", name := "weaken", desc := "(LHabitRegistry$Habit;)Z" } : Jvm.MethodName)) ∈ lw_all := lw_g (lw_at lw_m4 124 rfl) rfl
theorem q920 : (Jvm.Cond.privateMethod ({ cls := "HabitRegistry$Data", name := "weaken", desc := "(LHabitRegistry$Habit;)Z" } : Jvm.MethodName)) ∈ lw_tbl := lw_at lw_m4 125 rfl
theorem q921 : (Jvm.Cond.instanceMethod ({ cls := "HabitRegistry$Data", name := "weaken", desc := "(LHabitRegistry$Habit;)Z" } : Jvm.MethodName)) ∈ lw_all := lw_g (lw_at lw_m4 126 rfl) rfl
theorem q922 : (Jvm.Cond.code ({ cls := "HabitRegistry$Data", name := "weaken", desc := "(LHabitRegistry$Habit;)Z" } : Jvm.MethodName) prog_4_method_31_code (3 : Nat) (Option.some Jvm.ClassFile.FieldType.boolean)) ∈ lw_all := lw_g (lw_at lw_m4 127 rfl) rfl
theorem q924 : (Jvm.Cond.instanceMethod ({ cls := "HabitRegistry$Data", name := "entail", desc := "(I)I" } : Jvm.MethodName)) ∈ lw_all := lw_g (lw_at lw_m4 129 rfl) rfl
theorem q925 : (Jvm.Cond.selects "HabitRegistry$Data" ({ cls := "HabitRegistry$Data", name := "entail", desc := "(I)I" } : Jvm.MethodName) ({ cls := "HabitRegistry$Data", name := "entail", desc := "(I)I" } : Jvm.MethodName)) ∈ lw_all := lw_g (lw_at lw_m4 130 rfl) rfl
theorem q926 : (Jvm.Cond.code ({ cls := "HabitRegistry$Data", name := "entail", desc := "(I)I" } : Jvm.MethodName) prog_4_method_33_code (3 : Nat) (Option.some Jvm.ClassFile.FieldType.int)) ∈ lw_all := lw_g (lw_at lw_m4 131 rfl) rfl
theorem q928 : (Jvm.Cond.instanceMethod ({ cls := "HabitRegistry$Data", name := "breakEntail", desc := "(I)I" } : Jvm.MethodName)) ∈ lw_all := lw_g (lw_at lw_m4 133 rfl) rfl
theorem q929 : (Jvm.Cond.selects "HabitRegistry$Data" ({ cls := "HabitRegistry$Data", name := "breakEntail", desc := "(I)I" } : Jvm.MethodName) ({ cls := "HabitRegistry$Data", name := "breakEntail", desc := "(I)I" } : Jvm.MethodName)) ∈ lw_all := lw_g (lw_at lw_m4 134 rfl) rfl
theorem q930 : (Jvm.Cond.code ({ cls := "HabitRegistry$Data", name := "breakEntail", desc := "(I)I" } : Jvm.MethodName) prog_4_method_34_code (3 : Nat) (Option.some Jvm.ClassFile.FieldType.int)) ∈ lw_all := lw_g (lw_at lw_m4 135 rfl) rfl
theorem q932 : (Jvm.Cond.instanceMethod ({ cls := "HabitRegistry$Data", name := "give", desc := "(II)I" } : Jvm.MethodName)) ∈ lw_all := lw_g (lw_at lw_m4 137 rfl) rfl
theorem q933 : (Jvm.Cond.selects "HabitRegistry$Data" ({ cls := "HabitRegistry$Data", name := "give", desc := "(II)I" } : Jvm.MethodName) ({ cls := "HabitRegistry$Data", name := "give", desc := "(II)I" } : Jvm.MethodName)) ∈ lw_all := lw_g (lw_at lw_m4 138 rfl) rfl
theorem q934 : (Jvm.Cond.code ({ cls := "HabitRegistry$Data", name := "give", desc := "(II)I" } : Jvm.MethodName) prog_4_method_35_code (6 : Nat) (Option.some Jvm.ClassFile.FieldType.int)) ∈ lw_all := lw_g (lw_at lw_m4 139 rfl) rfl
theorem q936 : (Jvm.Cond.instanceMethod ({ cls := "HabitRegistry$Data", name := "passYears", desc := "(I)I" } : Jvm.MethodName)) ∈ lw_all := lw_g (lw_at lw_m4 141 rfl) rfl
theorem q937 : (Jvm.Cond.selects "HabitRegistry$Data" ({ cls := "HabitRegistry$Data", name := "passYears", desc := "(I)I" } : Jvm.MethodName) ({ cls := "HabitRegistry$Data", name := "passYears", desc := "(I)I" } : Jvm.MethodName)) ∈ lw_all := lw_g (lw_at lw_m4 142 rfl) rfl
theorem q938 : (Jvm.Cond.code ({ cls := "HabitRegistry$Data", name := "passYears", desc := "(I)I" } : Jvm.MethodName) prog_4_method_36_code (6 : Nat) (Option.some Jvm.ClassFile.FieldType.int)) ∈ lw_all := lw_g (lw_at lw_m4 143 rfl) rfl
theorem q1118 : (Jvm.Cond.instanceMethod ({ cls := "HabitRegistry$Data", name := "livingDescendants", desc := "(LHabitRegistry$Person;)I" } : Jvm.MethodName)) ∈ lw_all := lw_g (lw_at lw_m5 83 rfl) rfl
theorem q1119 : (Jvm.Cond.selects "HabitRegistry$Data" ({ cls := "HabitRegistry$Data", name := "livingDescendants", desc := "(LHabitRegistry$Person;)I" } : Jvm.MethodName) ({ cls := "HabitRegistry$Data", name := "livingDescendants", desc := "(LHabitRegistry$Person;)I" } : Jvm.MethodName)) ∈ lw_all := lw_g (lw_at lw_m5 84 rfl) rfl
theorem q1120 : (Jvm.Cond.code ({ cls := "HabitRegistry$Data", name := "livingDescendants", desc := "(LHabitRegistry$Person;)I" } : Jvm.MethodName) prog_4_method_11_code (5 : Nat) (Option.some Jvm.ClassFile.FieldType.int)) ∈ lw_all := lw_g (lw_at lw_m5 85 rfl) rfl
theorem q1188 : (Jvm.Cond.instanceMethod ({ cls := "HabitRegistry$Data", name := "successionPosition", desc := "(LHabitRegistry$Person;)I" } : Jvm.MethodName)) ∈ lw_all := lw_g (lw_at lw_m5 153 rfl) rfl
theorem q1189 : (Jvm.Cond.selects "HabitRegistry$Data" ({ cls := "HabitRegistry$Data", name := "successionPosition", desc := "(LHabitRegistry$Person;)I" } : Jvm.MethodName) ({ cls := "HabitRegistry$Data", name := "successionPosition", desc := "(LHabitRegistry$Person;)I" } : Jvm.MethodName)) ∈ lw_all := lw_g (lw_at lw_m5 154 rfl) rfl
theorem q1190 : (Jvm.Cond.code ({ cls := "HabitRegistry$Data", name := "successionPosition", desc := "(LHabitRegistry$Person;)I" } : Jvm.MethodName) prog_4_method_18_code (5 : Nat) (Option.some Jvm.ClassFile.FieldType.int)) ∈ lw_all := lw_g (lw_at lw_m5 155 rfl) rfl
theorem q1386 : (Jvm.Cond.instanceMethod ({ cls := "HabitRegistry$Data", name := "habitAt", desc := "(I)LHabitRegistry$Habit;" } : Jvm.MethodName)) ∈ lw_all := lw_g (lw_at lw_m6 111 rfl) rfl
theorem q1387 : (Jvm.Cond.selects "HabitRegistry$Data" ({ cls := "HabitRegistry$Data", name := "habitAt", desc := "(I)LHabitRegistry$Habit;" } : Jvm.MethodName) ({ cls := "HabitRegistry$Data", name := "habitAt", desc := "(I)LHabitRegistry$Habit;" } : Jvm.MethodName)) ∈ lw_all := lw_g (lw_at lw_m6 112 rfl) rfl
theorem q1388 : (Jvm.Cond.code ({ cls := "HabitRegistry$Data", name := "habitAt", desc := "(I)LHabitRegistry$Habit;" } : Jvm.MethodName) prog_4_method_38_code (2 : Nat) (Option.some (Jvm.ClassFile.FieldType.object "HabitRegistry$Habit"))) ∈ lw_all := lw_g (lw_at lw_m6 113 rfl) rfl
theorem q1389 : (Jvm.Cond.privateMethod ({ cls := "HabitRegistry$Data", name := "lambda$habitAt$8", desc := "(ILHabitRegistry$Habit;)Z" } : Jvm.MethodName)) ∈ lw_tbl := lw_at lw_m6 114 rfl
theorem q1390 : (Jvm.Cond.instanceMethod ({ cls := "HabitRegistry$Data", name := "lambda$habitAt$8", desc := "(ILHabitRegistry$Habit;)Z" } : Jvm.MethodName)) ∈ lw_all := lw_g (lw_at lw_m6 115 rfl) rfl
theorem q1391 : (Jvm.Cond.code ({ cls := "HabitRegistry$Data", name := "lambda$habitAt$8", desc := "(ILHabitRegistry$Habit;)Z" } : Jvm.MethodName) prog_4_method_44_code (3 : Nat) (Option.some Jvm.ClassFile.FieldType.boolean)) ∈ lw_all := lw_g (lw_at lw_m6 116 rfl) rfl
theorem q1392 : (Jvm.Cond.static ({ cls := "HabitRegistry$Data", name := "lambda$habitAt$7", desc := "(LHabitRegistry$Habit;LHabitRegistry$Habit;)Z" } : Jvm.MethodName)) ∈ lw_all := lw_g (lw_at lw_m6 117 rfl) rfl
theorem q1393 : (Jvm.Cond.code ({ cls := "HabitRegistry$Data", name := "lambda$habitAt$7", desc := "(LHabitRegistry$Habit;LHabitRegistry$Habit;)Z" } : Jvm.MethodName) prog_4_method_45_code (2 : Nat) (Option.some Jvm.ClassFile.FieldType.boolean)) ∈ lw_all := lw_g (lw_at lw_m6 118 rfl) rfl
theorem q1394 : (Jvm.Cond.methodLink "HabitRegistry$Data" (284 : Nat) ({ cls := "HabitRegistry$Habit", name := "isBefore", desc := "(LHabitRegistry$Habit;)Z" } : Jvm.MethodName)) ∈ lw_all := lw_g (lw_at lw_m6 119 rfl) rfl
theorem q1406 : (Jvm.Cond.instanceMethod ({ cls := "HabitRegistry$Data", name := "personAt", desc := "(I)LHabitRegistry$Person;" } : Jvm.MethodName)) ∈ lw_all := lw_g (lw_at lw_m6 131 rfl) rfl
theorem q1407 : (Jvm.Cond.selects "HabitRegistry$Data" ({ cls := "HabitRegistry$Data", name := "personAt", desc := "(I)LHabitRegistry$Person;" } : Jvm.MethodName) ({ cls := "HabitRegistry$Data", name := "personAt", desc := "(I)LHabitRegistry$Person;" } : Jvm.MethodName)) ∈ lw_all := lw_g (lw_at lw_m6 132 rfl) rfl
theorem q1408 : (Jvm.Cond.code ({ cls := "HabitRegistry$Data", name := "personAt", desc := "(I)LHabitRegistry$Person;" } : Jvm.MethodName) prog_4_method_39_code (7 : Nat) (Option.some (Jvm.ClassFile.FieldType.object "HabitRegistry$Person"))) ∈ lw_all := lw_g (lw_at lw_m6 133 rfl) rfl
theorem q2443 : (Jvm.Cond.castable "HabitRegistry$Data" "java/lang/Object") ∈ lw_tbl := lw_at lw_m10 208 rfl
theorem in_X2 : ∀ w ∈ wsX20, w ∈ lw_all := lw_in wsX20 [332, 334, 336, 338, 340, 342, 344, 346, 348, 350] (by decide +kernel) (by decide +kernel)
/-! HabitRegistryModel -/
def RX3 : String := "HabitRegistryModel"
def TX3 : u_T := fun k => match k with
  | 0 => ("HabitRegistryModel", "g", "[I", true)
  | 1 => ("HabitRegistryModel", "kept", "[I", true)
  | 2 => ("HabitRegistryModel", "saved", "[I", true)
  | 3 => ("HabitRegistryModel", "before", "[I", true)
  | 4 => ("HabitRegistryModel", "isSaved", "Z", false)
  | 5 => ("HabitRegistryModel", "changes", "I", false)
  | 6 => ("HabitRegistryModel", "isWithin", "Z", false)
  | 7 => ("HabitRegistryModel", "isRejected", "Z", false)
  | 8 => ("HabitRegistryModel", "code", "I", false)
  | 9 => ("HabitRegistryModel", "why", "I", false)
  | 10 => ("HabitRegistryModel", "detail", "I", false)
  | 11 => ("HabitRegistryModel", "cause", "I", false)
  | 12 => ("HabitRegistryModel", "input", "[I", true)
  | 13 => ("HabitRegistryModel", "length", "I", false)
  | 14 => ("HabitRegistryModel", "error", "I", false)
  | 15 => ("HabitRegistryModel", "signs", "[C", true)
  | 16 => ("HabitRegistryModel", "signMany", "I", false)
  | 17 => ("HabitRegistryModel", "at", "I", false)
  | 18 => ("HabitRegistryModel", "told", "[I", true)
  | _ => ("HabitRegistryModel", "toldMany", "I", false)
def tyX3 : Nat → FieldType := fun k => match k with
  | 0 => .array .int
  | 1 => .array .int
  | 2 => .array .int
  | 3 => .array .int
  | 4 => .boolean
  | 5 => .int
  | 6 => .boolean
  | 7 => .boolean
  | 8 => .int
  | 9 => .int
  | 10 => .int
  | 11 => .int
  | 12 => .array .int
  | 13 => .int
  | 14 => .int
  | 15 => .array .char
  | 16 => .int
  | 17 => .int
  | 18 => .array .int
  | _ => .int
abbrev wsX30 : List Cond := u_ws RX3 TX3 20
theorem nmX3 : ∀ a, a < 20 → ∀ b, b < 20 → a ≠ b → (TX3 a).2.1 ≠ (TX3 b).2.1 := by decide +kernel
theorem tyX3_ok : ∀ k, k < 20 → parseFieldDescriptor (TX3 k).2.2.1 = some (tyX3 k) := by decide +kernel
abbrev cX3_init : ByteArray := prog_15_method_1_code
def yX3_init : MethodName := ⟨RX3, "<init>", "()V"⟩
abbrev cX3_thrown : ByteArray := prog_15_method_2_code
def yX3_thrown : MethodName := ⟨RX3, "thrown", "()I"⟩
abbrev cX3_addFounder : ByteArray := prog_15_method_14_code
def yX3_addFounder : MethodName := ⟨RX3, "addFounder", "()I"⟩
abbrev cX3_rejects : ByteArray := prog_15_method_4_code
def yX3_rejects : MethodName := ⟨RX3, "rejects", "(III)I"⟩
abbrev cX3_keeps : ByteArray := prog_15_method_8_code
def yX3_keeps : MethodName := ⟨RX3, "keeps", "([I)V"⟩
abbrev cX3_copies : ByteArray := prog_15_method_7_code
def yX3_copies : MethodName := ⟨RX3, "copies", "([II[II)V"⟩
abbrev cX3_comes : ByteArray := prog_15_method_13_code
def yX3_comes : MethodName := ⟨RX3, "comes", "(I)I"⟩
abbrev cX3_addChild : ByteArray := prog_15_method_15_code
def yX3_addChild : MethodName := ⟨RX3, "addChild", "(I)I"⟩
abbrev cX3_isPerson : ByteArray := prog_15_method_9_code
def yX3_isPerson : MethodName := ⟨RX3, "isPerson", "(I)Z"⟩
abbrev cX3_in : ByteArray := prog_15_method_5_code
def yX3_in : MethodName := ⟨RX3, "in", "(III)Z"⟩
abbrev cX3_fails : ByteArray := prog_15_method_3_code
def yX3_fails : MethodName := ⟨RX3, "fails", "(I)Z"⟩
abbrev cX3_lives : ByteArray := prog_15_method_12_code
def yX3_lives : MethodName := ⟨RX3, "lives", "(I)Z"⟩
abbrev cX3_bury : ByteArray := prog_15_method_21_code
def yX3_bury : MethodName := ⟨RX3, "bury", "(I)I"⟩
abbrev cX3_of : ByteArray := prog_15_method_47_code
def yX3_of : MethodName := ⟨RX3, "of", "(II)I"⟩
abbrev cX3_inherits : ByteArray := prog_15_method_20_code
def yX3_inherits : MethodName := ⟨RX3, "inherits", "(II)I"⟩
abbrev cX3_firstLiving : ByteArray := prog_15_method_18_code
def yX3_firstLiving : MethodName := ⟨RX3, "firstLiving", "(II)I"⟩
abbrev cX3_follower : ByteArray := prog_15_method_17_code
def yX3_follower : MethodName := ⟨RX3, "follower", "(II)I"⟩
abbrev cX3_childBehind : ByteArray := prog_15_method_16_code
def yX3_childBehind : MethodName := ⟨RX3, "childBehind", "(II)I"⟩
abbrev cX3_parent : ByteArray := prog_15_method_11_code
def yX3_parent : MethodName := ⟨RX3, "parent", "(I)I"⟩
abbrev cX3_heir : ByteArray := prog_15_method_19_code
def yX3_heir : MethodName := ⟨RX3, "heir", "(I)I"⟩
abbrev cX3_ends : ByteArray := prog_15_method_51_code
def yX3_ends : MethodName := ⟨RX3, "ends", "(I)V"⟩
abbrev cX3_lays : ByteArray := prog_15_method_48_code
def yX3_lays : MethodName := ⟨RX3, "lays", "(III)V"⟩
abbrev cX3_held : ByteArray := prog_15_method_54_code
def yX3_held : MethodName := ⟨RX3, "held", "(II)I"⟩
abbrev cX3_least : ByteArray := prog_15_method_6_code
def yX3_least : MethodName := ⟨RX3, "least", "(II)I"⟩
abbrev cX3_peopleCount : ByteArray := prog_15_method_22_code
def yX3_peopleCount : MethodName := ⟨RX3, "peopleCount", "()I"⟩
abbrev cX3_livingCount : ByteArray := prog_15_method_24_code
def yX3_livingCount : MethodName := ⟨RX3, "livingCount", "()I"⟩
abbrev cX3_living : ByteArray := prog_15_method_23_code
def yX3_living : MethodName := ⟨RX3, "living", "()I"⟩
abbrev cX3_isAlive : ByteArray := prog_15_method_26_code
def yX3_isAlive : MethodName := ⟨RX3, "isAlive", "(I)Z"⟩
abbrev cX3_isNobody : ByteArray := prog_15_method_25_code
def yX3_isNobody : MethodName := ⟨RX3, "isNobody", "(I)Z"⟩
abbrev cX3_isFounder : ByteArray := prog_15_method_27_code
def yX3_isFounder : MethodName := ⟨RX3, "isFounder", "(I)Z"⟩
abbrev cX3_parentOf : ByteArray := prog_15_method_28_code
def yX3_parentOf : MethodName := ⟨RX3, "parentOf", "(I)I"⟩
abbrev cX3_childCount : ByteArray := prog_15_method_29_code
def yX3_childCount : MethodName := ⟨RX3, "childCount", "(I)I"⟩
abbrev cX3_childAt : ByteArray := prog_15_method_30_code
def yX3_childAt : MethodName := ⟨RX3, "childAt", "(II)I"⟩
abbrev cX3_generation : ByteArray := prog_15_method_32_code
def yX3_generation : MethodName := ⟨RX3, "generation", "(I)I"⟩
abbrev cX3_depth : ByteArray := prog_15_method_31_code
def yX3_depth : MethodName := ⟨RX3, "depth", "(I)I"⟩
abbrev cX3_livingDescendants : ByteArray := prog_15_method_34_code
def yX3_livingDescendants : MethodName := ⟨RX3, "livingDescendants", "(I)I"⟩
abbrev cX3_isAbove : ByteArray := prog_15_method_33_code
def yX3_isAbove : MethodName := ⟨RX3, "isAbove", "(II)Z"⟩
abbrev cX3_isAncestor : ByteArray := prog_15_method_35_code
def yX3_isAncestor : MethodName := ⟨RX3, "isAncestor", "(II)Z"⟩
abbrev cX3_arePeople : ByteArray := prog_15_method_10_code
def yX3_arePeople : MethodName := ⟨RX3, "arePeople", "(II)Z"⟩
abbrev cX3_commonAncestor : ByteArray := prog_15_method_39_code
def yX3_commonAncestor : MethodName := ⟨RX3, "commonAncestor", "(II)I"⟩
abbrev cX3_areStrangers : ByteArray := prog_15_method_37_code
def yX3_areStrangers : MethodName := ⟨RX3, "areStrangers", "(II)Z"⟩
abbrev cX3_common : ByteArray := prog_15_method_36_code
def yX3_common : MethodName := ⟨RX3, "common", "(II)I"⟩
abbrev cX3_distance : ByteArray := prog_15_method_40_code
def yX3_distance : MethodName := ⟨RX3, "distance", "(II)I"⟩
abbrev cX3_apart : ByteArray := prog_15_method_38_code
def yX3_apart : MethodName := ⟨RX3, "apart", "(II)I"⟩
abbrev cX3_distanceBySearch : ByteArray := prog_15_method_41_code
def yX3_distanceBySearch : MethodName := ⟨RX3, "distanceBySearch", "(II)I"⟩
abbrev cX3_heirOf : ByteArray := prog_15_method_43_code
def yX3_heirOf : MethodName := ⟨RX3, "heirOf", "(I)I"⟩
abbrev cX3_isHeirless : ByteArray := prog_15_method_42_code
def yX3_isHeirless : MethodName := ⟨RX3, "isHeirless", "(I)Z"⟩
abbrev cX3_heirByComparison : ByteArray := prog_15_method_44_code
def yX3_heirByComparison : MethodName := ⟨RX3, "heirByComparison", "(I)I"⟩
abbrev cX3_directHeirOf : ByteArray := prog_15_method_45_code
def yX3_directHeirOf : MethodName := ⟨RX3, "directHeirOf", "(I)I"⟩
abbrev cX3_successionPosition : ByteArray := prog_15_method_46_code
def yX3_successionPosition : MethodName := ⟨RX3, "successionPosition", "(I)I"⟩
abbrev cX3_addHabit : ByteArray := prog_15_method_55_code
def yX3_addHabit : MethodName := ⟨RX3, "addHabit", "(ICI)I"⟩
abbrev cX3_kindOf0 : ByteArray := prog_15_method_52_code
def yX3_kindOf0 : MethodName := ⟨RX3, "kindOf0", "(C)I"⟩
abbrev cX3_practise : ByteArray := prog_15_method_56_code
def yX3_practise : MethodName := ⟨RX3, "practise", "(I)I"⟩
abbrev cX3_isHabit : ByteArray := prog_15_method_49_code
def yX3_isHabit : MethodName := ⟨RX3, "isHabit", "(I)Z"⟩
abbrev cX3_isGone : ByteArray := prog_15_method_50_code
def yX3_isGone : MethodName := ⟨RX3, "isGone", "(I)Z"⟩
abbrev cX3_neglect : ByteArray := prog_15_method_58_code
def yX3_neglect : MethodName := ⟨RX3, "neglect", "(I)I"⟩
abbrev cX3_weakens : ByteArray := prog_15_method_57_code
def yX3_weakens : MethodName := ⟨RX3, "weakens", "(I)Z"⟩
abbrev cX3_entail : ByteArray := prog_15_method_59_code
def yX3_entail : MethodName := ⟨RX3, "entail", "(I)I"⟩
abbrev cX3_breakEntail : ByteArray := prog_15_method_60_code
def yX3_breakEntail : MethodName := ⟨RX3, "breakEntail", "(I)I"⟩
abbrev cX3_give : ByteArray := prog_15_method_61_code
def yX3_give : MethodName := ⟨RX3, "give", "(II)I"⟩
abbrev cX3_habitCount : ByteArray := prog_15_method_62_code
def yX3_habitCount : MethodName := ⟨RX3, "habitCount", "()I"⟩
abbrev cX3_kindOf : ByteArray := prog_15_method_64_code
def yX3_kindOf : MethodName := ⟨RX3, "kindOf", "(I)C"⟩
abbrev cX3_isNone : ByteArray := prog_15_method_63_code
def yX3_isNone : MethodName := ⟨RX3, "isNone", "(I)Z"⟩
abbrev cX3_letterOf : ByteArray := prog_15_method_53_code
def yX3_letterOf : MethodName := ⟨RX3, "letterOf", "(I)C"⟩
abbrev cX3_strengthOf : ByteArray := prog_15_method_65_code
def yX3_strengthOf : MethodName := ⟨RX3, "strengthOf", "(I)I"⟩
abbrev cX3_holderOf : ByteArray := prog_15_method_66_code
def yX3_holderOf : MethodName := ⟨RX3, "holderOf", "(I)I"⟩
abbrev cX3_isExtinct : ByteArray := prog_15_method_67_code
def yX3_isExtinct : MethodName := ⟨RX3, "isExtinct", "(I)Z"⟩
abbrev cX3_isEntailed : ByteArray := prog_15_method_68_code
def yX3_isEntailed : MethodName := ⟨RX3, "isEntailed", "(I)Z"⟩
abbrev cX3_isPractised : ByteArray := prog_15_method_69_code
def yX3_isPractised : MethodName := ⟨RX3, "isPractised", "(I)Z"⟩
abbrev cX3_habitOf : ByteArray := prog_15_method_70_code
def yX3_habitOf : MethodName := ⟨RX3, "habitOf", "(IC)I"⟩
abbrev cX3_habitStrength : ByteArray := prog_15_method_72_code
def yX3_habitStrength : MethodName := ⟨RX3, "habitStrength", "(I)I"⟩
abbrev cX3_sumOf : ByteArray := prog_15_method_71_code
def yX3_sumOf : MethodName := ⟨RX3, "sumOf", "(I)I"⟩
abbrev cX3_passYears : ByteArray := prog_15_method_74_code
def yX3_passYears : MethodName := ⟨RX3, "passYears", "(I)I"⟩
abbrev cX3_yearGoes : ByteArray := prog_15_method_73_code
def yX3_yearGoes : MethodName := ⟨RX3, "yearGoes", "()I"⟩
abbrev cX3_year : ByteArray := prog_15_method_75_code
def yX3_year : MethodName := ⟨RX3, "year", "()I"⟩
abbrev cX3_yearsLeft : ByteArray := prog_15_method_76_code
def yX3_yearsLeft : MethodName := ⟨RX3, "yearsLeft", "(I)I"⟩
abbrev cX3_lapsedCount : ByteArray := prog_15_method_77_code
def yX3_lapsedCount : MethodName := ⟨RX3, "lapsedCount", "()I"⟩
abbrev cX3_mergedCount : ByteArray := prog_15_method_78_code
def yX3_mergedCount : MethodName := ⟨RX3, "mergedCount", "()I"⟩
abbrev cX3_brokenCount : ByteArray := prog_15_method_79_code
def yX3_brokenCount : MethodName := ⟨RX3, "brokenCount", "()I"⟩
abbrev cX3_totalStrength : ByteArray := prog_15_method_81_code
def yX3_totalStrength : MethodName := ⟨RX3, "totalStrength", "()I"⟩
abbrev cX3_total : ByteArray := prog_15_method_80_code
def yX3_total : MethodName := ⟨RX3, "total", "()I"⟩
abbrev cX3_totalStrengthByPeople : ByteArray := prog_15_method_82_code
def yX3_totalStrengthByPeople : MethodName := ⟨RX3, "totalStrengthByPeople", "()I"⟩
abbrev cX3_habitByStrength : ByteArray := prog_15_method_83_code
def yX3_habitByStrength : MethodName := ⟨RX3, "habitByStrength", "(I)I"⟩
abbrev cX3_personByStrength : ByteArray := prog_15_method_85_code
def yX3_personByStrength : MethodName := ⟨RX3, "personByStrength", "(I)I"⟩
abbrev cX3_isAhead : ByteArray := prog_15_method_84_code
def yX3_isAhead : MethodName := ⟨RX3, "isAhead", "(II)Z"⟩
abbrev cX3_meanStrength : ByteArray := prog_15_method_87_code
def yX3_meanStrength : MethodName := ⟨RX3, "meanStrength", "()D"⟩
abbrev cX3_lasting : ByteArray := prog_15_method_86_code
def yX3_lasting : MethodName := ⟨RX3, "lasting", "()I"⟩
abbrev cX3_livingShare : ByteArray := prog_15_method_88_code
def yX3_livingShare : MethodName := ⟨RX3, "livingShare", "()F"⟩
abbrev cX3_isConsistent : ByteArray := prog_15_method_89_code
def yX3_isConsistent : MethodName := ⟨RX3, "isConsistent", "()Z"⟩
abbrev cX3_writePerson : ByteArray := prog_15_method_92_code
def yX3_writePerson : MethodName := ⟨RX3, "writePerson", "(I)I"⟩
abbrev cX3_writesNumber : ByteArray := prog_15_method_91_code
def yX3_writesNumber : MethodName := ⟨RX3, "writesNumber", "(I)V"⟩
abbrev cX3_writes : ByteArray := prog_15_method_90_code
def yX3_writes : MethodName := ⟨RX3, "writes", "(I)V"⟩
abbrev cX3_writeLine : ByteArray := prog_15_method_93_code
def yX3_writeLine : MethodName := ⟨RX3, "writeLine", "(I)I"⟩
abbrev cX3_outputAt : ByteArray := prog_15_method_94_code
def yX3_outputAt : MethodName := ⟨RX3, "outputAt", "(I)C"⟩
abbrev cX3_appendInput : ByteArray := prog_15_method_95_code
def yX3_appendInput : MethodName := ⟨RX3, "appendInput", "(C)I"⟩
abbrev cX3_execute : ByteArray := prog_15_method_104_code
def yX3_execute : MethodName := ⟨RX3, "execute", "()I"⟩
abbrev cX3_isText : ByteArray := prog_15_method_101_code
def yX3_isText : MethodName := ⟨RX3, "isText", "()Z"⟩
abbrev cX3_commandHere : ByteArray := prog_15_method_100_code
def yX3_commandHere : MethodName := ⟨RX3, "commandHere", "()Z"⟩
abbrev cX3_here : ByteArray := prog_15_method_96_code
def yX3_here : MethodName := ⟨RX3, "here", "()I"⟩
abbrev cX3_skips : ByteArray := prog_15_method_97_code
def yX3_skips : MethodName := ⟨RX3, "skips", "(I)Z"⟩
abbrev cX3_figures : ByteArray := prog_15_method_98_code
def yX3_figures : MethodName := ⟨RX3, "figures", "(II)Z"⟩
abbrev cX3_kindHere : ByteArray := prog_15_method_99_code
def yX3_kindHere : MethodName := ⟨RX3, "kindHere", "(I)Z"⟩
abbrev cX3_carries : ByteArray := prog_15_method_102_code
def yX3_carries : MethodName := ⟨RX3, "carries", "(I)I"⟩
abbrev cX3_rejectsInput : ByteArray := prog_15_method_103_code
def yX3_rejectsInput : MethodName := ⟨RX3, "rejectsInput", "(I)I"⟩
abbrev cX3_syntaxErrorOffset : ByteArray := prog_15_method_105_code
def yX3_syntaxErrorOffset : MethodName := ⟨RX3, "syntaxErrorOffset", "()I"⟩
abbrev cX3_rejectionReason : ByteArray := prog_15_method_106_code
def yX3_rejectionReason : MethodName := ⟨RX3, "rejectionReason", "()I"⟩
abbrev cX3_rejectionDetail : ByteArray := prog_15_method_107_code
def yX3_rejectionDetail : MethodName := ⟨RX3, "rejectionDetail", "()I"⟩
abbrev cX3_causeReason : ByteArray := prog_15_method_108_code
def yX3_causeReason : MethodName := ⟨RX3, "causeReason", "()I"⟩
abbrev cX3_undo : ByteArray := prog_15_method_109_code
def yX3_undo : MethodName := ⟨RX3, "undo", "()I"⟩
abbrev cX3_undoCount : ByteArray := prog_15_method_110_code
def yX3_undoCount : MethodName := ⟨RX3, "undoCount", "()I"⟩
abbrev cX3_saveSnapshot : ByteArray := prog_15_method_111_code
def yX3_saveSnapshot : MethodName := ⟨RX3, "saveSnapshot", "()I"⟩
abbrev cX3_restoreSnapshot : ByteArray := prog_15_method_112_code
def yX3_restoreSnapshot : MethodName := ⟨RX3, "restoreSnapshot", "()I"⟩
theorem q90 : (Jvm.Cond.initialized "HabitRegistryModel") ∈ lw_all := lw_g (lw_at lw_m1 15 rfl) rfl
theorem q693 : (Jvm.Cond.selects "HabitRegistryModel" ({ cls := "java/lang/Object", name := "getClass", desc := "()Ljava/lang/Class;" } : Jvm.MethodName) ({ cls := "java/lang/Object", name := "getClass", desc := "()Ljava/lang/Class;" } : Jvm.MethodName)) ∈ lw_all := lw_g (lw_at lw_m3 138 rfl) rfl
theorem q1909 : (Jvm.Cond.instantiable "HabitRegistryModel" (20 : Nat)) ∈ lw_all := lw_g (lw_at lw_m8 154 rfl) rfl
theorem q1911 : (Jvm.Cond.instanceMethod ({ cls := "HabitRegistryModel", name := "<init>", desc := "()V" } : Jvm.MethodName)) ∈ lw_all := lw_g (lw_at lw_m8 156 rfl) rfl
theorem q1912 : (Jvm.Cond.code ({ cls := "HabitRegistryModel", name := "<init>", desc := "()V" } : Jvm.MethodName) prog_15_method_1_code (1 : Nat) (Option.none : Option Jvm.ClassFile.FieldType)) ∈ lw_all := lw_g (lw_at lw_m8 157 rfl) rfl
theorem q1913 : (Jvm.Cond.methodLink "HabitRegistryModel" (1 : Nat) ({ cls := "java/lang/Object", name := "<init>", desc := "()V" } : Jvm.MethodName)) ∈ lw_all := lw_g (lw_at lw_m8 158 rfl) rfl
theorem q1914 : (Jvm.Cond.fieldLink "HabitRegistryModel" (7 : Nat) "HabitRegistryModel" "g" "[I") ∈ lw_all := lw_g (lw_at lw_m8 159 rfl) rfl
theorem q1915 : (Jvm.Cond.fieldLink "HabitRegistryModel" (13 : Nat) "HabitRegistryModel" "kept" "[I") ∈ lw_all := lw_g (lw_at lw_m8 160 rfl) rfl
theorem q1916 : (Jvm.Cond.fieldLink "HabitRegistryModel" (16 : Nat) "HabitRegistryModel" "saved" "[I") ∈ lw_all := lw_g (lw_at lw_m8 161 rfl) rfl
theorem q1917 : (Jvm.Cond.fieldLink "HabitRegistryModel" (19 : Nat) "HabitRegistryModel" "before" "[I") ∈ lw_all := lw_g (lw_at lw_m8 162 rfl) rfl
theorem q1918 : (Jvm.Cond.fieldLink "HabitRegistryModel" (262 : Nat) "HabitRegistryModel" "isSaved" "Z") ∈ lw_all := lw_g (lw_at lw_m8 163 rfl) rfl
theorem q1919 : (Jvm.Cond.fieldLink "HabitRegistryModel" (55 : Nat) "HabitRegistryModel" "changes" "I") ∈ lw_all := lw_g (lw_at lw_m8 164 rfl) rfl
theorem q1920 : (Jvm.Cond.fieldLink "HabitRegistryModel" (52 : Nat) "HabitRegistryModel" "isWithin" "Z") ∈ lw_all := lw_g (lw_at lw_m8 165 rfl) rfl
theorem q1921 : (Jvm.Cond.fieldLink "HabitRegistryModel" (39 : Nat) "HabitRegistryModel" "isRejected" "Z") ∈ lw_all := lw_g (lw_at lw_m8 166 rfl) rfl
theorem q1922 : (Jvm.Cond.fieldLink "HabitRegistryModel" (36 : Nat) "HabitRegistryModel" "code" "I") ∈ lw_all := lw_g (lw_at lw_m8 167 rfl) rfl
theorem q1923 : (Jvm.Cond.fieldLink "HabitRegistryModel" (43 : Nat) "HabitRegistryModel" "why" "I") ∈ lw_all := lw_g (lw_at lw_m8 168 rfl) rfl
theorem q1924 : (Jvm.Cond.fieldLink "HabitRegistryModel" (46 : Nat) "HabitRegistryModel" "detail" "I") ∈ lw_all := lw_g (lw_at lw_m8 169 rfl) rfl
theorem q1925 : (Jvm.Cond.fieldLink "HabitRegistryModel" (49 : Nat) "HabitRegistryModel" "cause" "I") ∈ lw_all := lw_g (lw_at lw_m8 170 rfl) rfl
theorem q1926 : (Jvm.Cond.fieldLink "HabitRegistryModel" (22 : Nat) "HabitRegistryModel" "input" "[I") ∈ lw_all := lw_g (lw_at lw_m8 171 rfl) rfl
theorem q1927 : (Jvm.Cond.fieldLink "HabitRegistryModel" (197 : Nat) "HabitRegistryModel" "length" "I") ∈ lw_all := lw_g (lw_at lw_m8 172 rfl) rfl
theorem q1928 : (Jvm.Cond.fieldLink "HabitRegistryModel" (25 : Nat) "HabitRegistryModel" "error" "I") ∈ lw_all := lw_g (lw_at lw_m8 173 rfl) rfl
theorem q1929 : (Jvm.Cond.fieldLink "HabitRegistryModel" (29 : Nat) "HabitRegistryModel" "signs" "[C") ∈ lw_all := lw_g (lw_at lw_m8 174 rfl) rfl
theorem q1930 : (Jvm.Cond.fieldLink "HabitRegistryModel" (188 : Nat) "HabitRegistryModel" "signMany" "I") ∈ lw_all := lw_g (lw_at lw_m8 175 rfl) rfl
theorem q1931 : (Jvm.Cond.fieldLink "HabitRegistryModel" (200 : Nat) "HabitRegistryModel" "at" "I") ∈ lw_all := lw_g (lw_at lw_m8 176 rfl) rfl
theorem q1932 : (Jvm.Cond.fieldLink "HabitRegistryModel" (33 : Nat) "HabitRegistryModel" "told" "[I") ∈ lw_all := lw_g (lw_at lw_m8 177 rfl) rfl
theorem q1933 : (Jvm.Cond.fieldLink "HabitRegistryModel" (209 : Nat) "HabitRegistryModel" "toldMany" "I") ∈ lw_all := lw_g (lw_at lw_m8 178 rfl) rfl
theorem q1934 : (Jvm.Cond.laysFinal "HabitRegistryModel" "HabitRegistryModel" "g" "[I") ∈ lw_all := lw_g (lw_at lw_m8 179 rfl) rfl
theorem q1935 : (Jvm.Cond.soleField "HabitRegistryModel" "g") ∈ lw_all := lw_g (lw_at lw_m8 180 rfl) rfl
theorem q1936 : (Jvm.Cond.laysFinal "HabitRegistryModel" "HabitRegistryModel" "kept" "[I") ∈ lw_all := lw_g (lw_at lw_m8 181 rfl) rfl
theorem q1937 : (Jvm.Cond.soleField "HabitRegistryModel" "kept") ∈ lw_all := lw_g (lw_at lw_m8 182 rfl) rfl
theorem q1938 : (Jvm.Cond.laysFinal "HabitRegistryModel" "HabitRegistryModel" "saved" "[I") ∈ lw_all := lw_g (lw_at lw_m8 183 rfl) rfl
theorem q1939 : (Jvm.Cond.soleField "HabitRegistryModel" "saved") ∈ lw_all := lw_g (lw_at lw_m8 184 rfl) rfl
theorem q1940 : (Jvm.Cond.laysFinal "HabitRegistryModel" "HabitRegistryModel" "before" "[I") ∈ lw_all := lw_g (lw_at lw_m8 185 rfl) rfl
theorem q1941 : (Jvm.Cond.soleField "HabitRegistryModel" "before") ∈ lw_all := lw_g (lw_at lw_m8 186 rfl) rfl
theorem q1942 : (Jvm.Cond.lays "HabitRegistryModel" "HabitRegistryModel" "isSaved" "Z") ∈ lw_all := lw_g (lw_at lw_m8 187 rfl) rfl
theorem q1943 : (Jvm.Cond.soleField "HabitRegistryModel" "isSaved") ∈ lw_all := lw_g (lw_at lw_m8 188 rfl) rfl
theorem q1944 : (Jvm.Cond.lays "HabitRegistryModel" "HabitRegistryModel" "changes" "I") ∈ lw_all := lw_g (lw_at lw_m8 189 rfl) rfl
theorem q1945 : (Jvm.Cond.soleField "HabitRegistryModel" "changes") ∈ lw_all := lw_g (lw_at lw_m8 190 rfl) rfl
theorem q1946 : (Jvm.Cond.lays "HabitRegistryModel" "HabitRegistryModel" "isWithin" "Z") ∈ lw_all := lw_g (lw_at lw_m8 191 rfl) rfl
theorem q1947 : (Jvm.Cond.soleField "HabitRegistryModel" "isWithin") ∈ lw_all := lw_g (lw_at lw_m8 192 rfl) rfl
theorem q1948 : (Jvm.Cond.lays "HabitRegistryModel" "HabitRegistryModel" "isRejected" "Z") ∈ lw_all := lw_g (lw_at lw_m8 193 rfl) rfl
theorem q1949 : (Jvm.Cond.soleField "HabitRegistryModel" "isRejected") ∈ lw_all := lw_g (lw_at lw_m8 194 rfl) rfl
theorem q1950 : (Jvm.Cond.lays "HabitRegistryModel" "HabitRegistryModel" "code" "I") ∈ lw_all := lw_g (lw_at lw_m8 195 rfl) rfl
theorem q1951 : (Jvm.Cond.soleField "HabitRegistryModel" "code") ∈ lw_all := lw_g (lw_at lw_m8 196 rfl) rfl
theorem q1952 : (Jvm.Cond.lays "HabitRegistryModel" "HabitRegistryModel" "why" "I") ∈ lw_all := lw_g (lw_at lw_m8 197 rfl) rfl
theorem q1953 : (Jvm.Cond.soleField "HabitRegistryModel" "why") ∈ lw_all := lw_g (lw_at lw_m8 198 rfl) rfl
theorem q1954 : (Jvm.Cond.lays "HabitRegistryModel" "HabitRegistryModel" "detail" "I") ∈ lw_all := lw_g (lw_at lw_m8 199 rfl) rfl
theorem q1955 : (Jvm.Cond.soleField "HabitRegistryModel" "detail") ∈ lw_all := lw_g (lw_at lw_m8 200 rfl) rfl
theorem q1956 : (Jvm.Cond.lays "HabitRegistryModel" "HabitRegistryModel" "cause" "I") ∈ lw_all := lw_g (lw_at lw_m8 201 rfl) rfl
theorem q1957 : (Jvm.Cond.soleField "HabitRegistryModel" "cause") ∈ lw_all := lw_g (lw_at lw_m8 202 rfl) rfl
theorem q1958 : (Jvm.Cond.laysFinal "HabitRegistryModel" "HabitRegistryModel" "input" "[I") ∈ lw_all := lw_g (lw_at lw_m8 203 rfl) rfl
theorem q1959 : (Jvm.Cond.soleField "HabitRegistryModel" "input") ∈ lw_all := lw_g (lw_at lw_m8 204 rfl) rfl
theorem q1960 : (Jvm.Cond.lays "HabitRegistryModel" "HabitRegistryModel" "length" "I") ∈ lw_all := lw_g (lw_at lw_m8 205 rfl) rfl
theorem q1961 : (Jvm.Cond.soleField "HabitRegistryModel" "length") ∈ lw_all := lw_g (lw_at lw_m8 206 rfl) rfl
theorem q1962 : (Jvm.Cond.lays "HabitRegistryModel" "HabitRegistryModel" "error" "I") ∈ lw_all := lw_g (lw_at lw_m8 207 rfl) rfl
theorem q1963 : (Jvm.Cond.soleField "HabitRegistryModel" "error") ∈ lw_all := lw_g (lw_at lw_m8 208 rfl) rfl
theorem q1964 : (Jvm.Cond.laysFinal "HabitRegistryModel" "HabitRegistryModel" "signs" "[C") ∈ lw_all := lw_g (lw_at lw_m8 209 rfl) rfl
theorem q1965 : (Jvm.Cond.soleField "HabitRegistryModel" "signs") ∈ lw_all := lw_g (lw_at lw_m8 210 rfl) rfl
theorem q1966 : (Jvm.Cond.lays "HabitRegistryModel" "HabitRegistryModel" "signMany" "I") ∈ lw_all := lw_g (lw_at lw_m8 211 rfl) rfl
theorem q1967 : (Jvm.Cond.soleField "HabitRegistryModel" "signMany") ∈ lw_all := lw_g (lw_at lw_m8 212 rfl) rfl
theorem q1968 : (Jvm.Cond.lays "HabitRegistryModel" "HabitRegistryModel" "at" "I") ∈ lw_all := lw_g (lw_at lw_m8 213 rfl) rfl
theorem q1969 : (Jvm.Cond.soleField "HabitRegistryModel" "at") ∈ lw_all := lw_g (lw_at lw_m8 214 rfl) rfl
theorem q1970 : (Jvm.Cond.laysFinal "HabitRegistryModel" "HabitRegistryModel" "told" "[I") ∈ lw_all := lw_g (lw_at lw_m8 215 rfl) rfl
theorem q1971 : (Jvm.Cond.soleField "HabitRegistryModel" "told") ∈ lw_all := lw_g (lw_at lw_m8 216 rfl) rfl
theorem q1972 : (Jvm.Cond.lays "HabitRegistryModel" "HabitRegistryModel" "toldMany" "I") ∈ lw_all := lw_g (lw_at lw_m8 217 rfl) rfl
theorem q1973 : (Jvm.Cond.soleField "HabitRegistryModel" "toldMany") ∈ lw_all := lw_g (lw_at lw_m8 218 rfl) rfl
theorem q1974 : (Jvm.Cond.superclass "HabitRegistryModel" "java/lang/Object") ∈ lw_all := lw_g (lw_at lw_m8 219 rfl) rfl
theorem q1977 : (Jvm.Cond.instanceMethod ({ cls := "HabitRegistryModel", name := "thrown", desc := "()I" } : Jvm.MethodName)) ∈ lw_all := lw_g (lw_at lw_m8 222 rfl) rfl
theorem q1978 : (Jvm.Cond.selects "HabitRegistryModel" ({ cls := "HabitRegistryModel", name := "thrown", desc := "()I" } : Jvm.MethodName) ({ cls := "HabitRegistryModel", name := "thrown", desc := "()I" } : Jvm.MethodName)) ∈ lw_all := lw_g (lw_at lw_m8 223 rfl) rfl
theorem q1979 : (Jvm.Cond.code ({ cls := "HabitRegistryModel", name := "thrown", desc := "()I" } : Jvm.MethodName) prog_15_method_2_code (1 : Nat) (Option.some Jvm.ClassFile.FieldType.int)) ∈ lw_all := lw_g (lw_at lw_m8 224 rfl) rfl
theorem q1981 : (Jvm.Cond.instanceMethod ({ cls := "HabitRegistryModel", name := "addFounder", desc := "()I" } : Jvm.MethodName)) ∈ lw_all := lw_g (lw_at lw_m8 226 rfl) rfl
theorem q1982 : (Jvm.Cond.selects "HabitRegistryModel" ({ cls := "HabitRegistryModel", name := "addFounder", desc := "()I" } : Jvm.MethodName) ({ cls := "HabitRegistryModel", name := "addFounder", desc := "()I" } : Jvm.MethodName)) ∈ lw_all := lw_g (lw_at lw_m8 227 rfl) rfl
theorem q1983 : (Jvm.Cond.code ({ cls := "HabitRegistryModel", name := "addFounder", desc := "()I" } : Jvm.MethodName) prog_15_method_14_code (1 : Nat) (Option.some Jvm.ClassFile.FieldType.int)) ∈ lw_all := lw_g (lw_at lw_m8 228 rfl) rfl
theorem q1984 : (Jvm.Cond.methodLink "HabitRegistryModel" (70 : Nat) ({ cls := "HabitRegistryModel", name := "rejects", desc := "(III)I" } : Jvm.MethodName)) ∈ lw_all := lw_g (lw_at lw_m8 229 rfl) rfl
theorem q1985 : (Jvm.Cond.privateMethod ({ cls := "HabitRegistryModel", name := "rejects", desc := "(III)I" } : Jvm.MethodName)) ∈ lw_tbl := lw_at lw_m8 230 rfl
theorem q1986 : (Jvm.Cond.instanceMethod ({ cls := "HabitRegistryModel", name := "rejects", desc := "(III)I" } : Jvm.MethodName)) ∈ lw_all := lw_g (lw_at lw_m8 231 rfl) rfl
theorem q1987 : (Jvm.Cond.code ({ cls := "HabitRegistryModel", name := "rejects", desc := "(III)I" } : Jvm.MethodName) prog_15_method_4_code (4 : Nat) (Option.some Jvm.ClassFile.FieldType.int)) ∈ lw_all := lw_g (lw_at lw_m8 232 rfl) rfl
theorem q1988 : (Jvm.Cond.methodLink "HabitRegistryModel" (74 : Nat) ({ cls := "HabitRegistryModel", name := "keeps", desc := "([I)V" } : Jvm.MethodName)) ∈ lw_all := lw_g (lw_at lw_m8 233 rfl) rfl
theorem q1989 : (Jvm.Cond.privateMethod ({ cls := "HabitRegistryModel", name := "keeps", desc := "([I)V" } : Jvm.MethodName)) ∈ lw_tbl := lw_at lw_m8 234 rfl
theorem q1990 : (Jvm.Cond.instanceMethod ({ cls := "HabitRegistryModel", name := "keeps", desc := "([I)V" } : Jvm.MethodName)) ∈ lw_all := lw_g (lw_at lw_m8 235 rfl) rfl
theorem q1991 : (Jvm.Cond.code ({ cls := "HabitRegistryModel", name := "keeps", desc := "([I)V" } : Jvm.MethodName) prog_15_method_8_code (3 : Nat) (Option.none : Option Jvm.ClassFile.FieldType)) ∈ lw_all := lw_g (lw_at lw_m8 236 rfl) rfl
theorem q1992 : (Jvm.Cond.methodLink "HabitRegistryModel" (58 : Nat) ({ cls := "HabitRegistryModel", name := "copies", desc := "([II[II)V" } : Jvm.MethodName)) ∈ lw_all := lw_g (lw_at lw_m8 237 rfl) rfl
theorem q1993 : (Jvm.Cond.static ({ cls := "HabitRegistryModel", name := "copies", desc := "([II[II)V" } : Jvm.MethodName)) ∈ lw_all := lw_g (lw_at lw_m8 238 rfl) rfl
theorem q1994 : (Jvm.Cond.code ({ cls := "HabitRegistryModel", name := "copies", desc := "([II[II)V" } : Jvm.MethodName) prog_15_method_7_code (5 : Nat) (Option.none : Option Jvm.ClassFile.FieldType)) ∈ lw_all := lw_g (lw_at lw_m8 239 rfl) rfl
theorem q1995 : (Jvm.Cond.methodLink "HabitRegistryModel" (78 : Nat) ({ cls := "HabitRegistryModel", name := "comes", desc := "(I)I" } : Jvm.MethodName)) ∈ lw_all := lw_g (lw_at lw_m9 0 rfl) rfl
theorem q1996 : (Jvm.Cond.privateMethod ({ cls := "HabitRegistryModel", name := "comes", desc := "(I)I" } : Jvm.MethodName)) ∈ lw_tbl := lw_at lw_m9 1 rfl
theorem q1997 : (Jvm.Cond.instanceMethod ({ cls := "HabitRegistryModel", name := "comes", desc := "(I)I" } : Jvm.MethodName)) ∈ lw_all := lw_g (lw_at lw_m9 2 rfl) rfl
theorem q1998 : (Jvm.Cond.code ({ cls := "HabitRegistryModel", name := "comes", desc := "(I)I" } : Jvm.MethodName) prog_15_method_13_code (3 : Nat) (Option.some Jvm.ClassFile.FieldType.int)) ∈ lw_all := lw_g (lw_at lw_m9 3 rfl) rfl
theorem q2000 : (Jvm.Cond.instanceMethod ({ cls := "HabitRegistryModel", name := "addChild", desc := "(I)I" } : Jvm.MethodName)) ∈ lw_all := lw_g (lw_at lw_m9 5 rfl) rfl
theorem q2001 : (Jvm.Cond.selects "HabitRegistryModel" ({ cls := "HabitRegistryModel", name := "addChild", desc := "(I)I" } : Jvm.MethodName) ({ cls := "HabitRegistryModel", name := "addChild", desc := "(I)I" } : Jvm.MethodName)) ∈ lw_all := lw_g (lw_at lw_m9 6 rfl) rfl
theorem q2002 : (Jvm.Cond.code ({ cls := "HabitRegistryModel", name := "addChild", desc := "(I)I" } : Jvm.MethodName) prog_15_method_15_code (2 : Nat) (Option.some Jvm.ClassFile.FieldType.int)) ∈ lw_all := lw_g (lw_at lw_m9 7 rfl) rfl
theorem q2003 : (Jvm.Cond.methodLink "HabitRegistryModel" (66 : Nat) ({ cls := "HabitRegistryModel", name := "isPerson", desc := "(I)Z" } : Jvm.MethodName)) ∈ lw_all := lw_g (lw_at lw_m9 8 rfl) rfl
theorem q2004 : (Jvm.Cond.privateMethod ({ cls := "HabitRegistryModel", name := "isPerson", desc := "(I)Z" } : Jvm.MethodName)) ∈ lw_tbl := lw_at lw_m9 9 rfl
theorem q2005 : (Jvm.Cond.instanceMethod ({ cls := "HabitRegistryModel", name := "isPerson", desc := "(I)Z" } : Jvm.MethodName)) ∈ lw_all := lw_g (lw_at lw_m9 10 rfl) rfl
theorem q2006 : (Jvm.Cond.code ({ cls := "HabitRegistryModel", name := "isPerson", desc := "(I)Z" } : Jvm.MethodName) prog_15_method_9_code (2 : Nat) (Option.some Jvm.ClassFile.FieldType.boolean)) ∈ lw_all := lw_g (lw_at lw_m9 11 rfl) rfl
theorem q2007 : (Jvm.Cond.methodLink "HabitRegistryModel" (62 : Nat) ({ cls := "HabitRegistryModel", name := "in", desc := "(III)Z" } : Jvm.MethodName)) ∈ lw_all := lw_g (lw_at lw_m9 12 rfl) rfl
theorem q2008 : (Jvm.Cond.static ({ cls := "HabitRegistryModel", name := "in", desc := "(III)Z" } : Jvm.MethodName)) ∈ lw_all := lw_g (lw_at lw_m9 13 rfl) rfl
theorem q2009 : (Jvm.Cond.code ({ cls := "HabitRegistryModel", name := "in", desc := "(III)Z" } : Jvm.MethodName) prog_15_method_5_code (3 : Nat) (Option.some Jvm.ClassFile.FieldType.boolean)) ∈ lw_all := lw_g (lw_at lw_m9 14 rfl) rfl
theorem q2010 : (Jvm.Cond.methodLink "HabitRegistryModel" (82 : Nat) ({ cls := "HabitRegistryModel", name := "fails", desc := "(I)Z" } : Jvm.MethodName)) ∈ lw_all := lw_g (lw_at lw_m9 15 rfl) rfl
theorem q2011 : (Jvm.Cond.privateMethod ({ cls := "HabitRegistryModel", name := "fails", desc := "(I)Z" } : Jvm.MethodName)) ∈ lw_tbl := lw_at lw_m9 16 rfl
theorem q2012 : (Jvm.Cond.instanceMethod ({ cls := "HabitRegistryModel", name := "fails", desc := "(I)Z" } : Jvm.MethodName)) ∈ lw_all := lw_g (lw_at lw_m9 17 rfl) rfl
theorem q2013 : (Jvm.Cond.code ({ cls := "HabitRegistryModel", name := "fails", desc := "(I)Z" } : Jvm.MethodName) prog_15_method_3_code (2 : Nat) (Option.some Jvm.ClassFile.FieldType.boolean)) ∈ lw_all := lw_g (lw_at lw_m9 18 rfl) rfl
theorem q2014 : (Jvm.Cond.methodLink "HabitRegistryModel" (85 : Nat) ({ cls := "HabitRegistryModel", name := "lives", desc := "(I)Z" } : Jvm.MethodName)) ∈ lw_all := lw_g (lw_at lw_m9 19 rfl) rfl
theorem q2015 : (Jvm.Cond.privateMethod ({ cls := "HabitRegistryModel", name := "lives", desc := "(I)Z" } : Jvm.MethodName)) ∈ lw_tbl := lw_at lw_m9 20 rfl
theorem q2016 : (Jvm.Cond.instanceMethod ({ cls := "HabitRegistryModel", name := "lives", desc := "(I)Z" } : Jvm.MethodName)) ∈ lw_all := lw_g (lw_at lw_m9 21 rfl) rfl
theorem q2017 : (Jvm.Cond.code ({ cls := "HabitRegistryModel", name := "lives", desc := "(I)Z" } : Jvm.MethodName) prog_15_method_12_code (2 : Nat) (Option.some Jvm.ClassFile.FieldType.boolean)) ∈ lw_all := lw_g (lw_at lw_m9 22 rfl) rfl
theorem q2019 : (Jvm.Cond.instanceMethod ({ cls := "HabitRegistryModel", name := "bury", desc := "(I)I" } : Jvm.MethodName)) ∈ lw_all := lw_g (lw_at lw_m9 24 rfl) rfl
theorem q2020 : (Jvm.Cond.selects "HabitRegistryModel" ({ cls := "HabitRegistryModel", name := "bury", desc := "(I)I" } : Jvm.MethodName) ({ cls := "HabitRegistryModel", name := "bury", desc := "(I)I" } : Jvm.MethodName)) ∈ lw_all := lw_g (lw_at lw_m9 25 rfl) rfl
theorem q2021 : (Jvm.Cond.code ({ cls := "HabitRegistryModel", name := "bury", desc := "(I)I" } : Jvm.MethodName) prog_15_method_21_code (4 : Nat) (Option.some Jvm.ClassFile.FieldType.int)) ∈ lw_all := lw_g (lw_at lw_m9 26 rfl) rfl
theorem q2022 : (Jvm.Cond.methodLink "HabitRegistryModel" (101 : Nat) ({ cls := "HabitRegistryModel", name := "of", desc := "(II)I" } : Jvm.MethodName)) ∈ lw_all := lw_g (lw_at lw_m9 27 rfl) rfl
theorem q2023 : (Jvm.Cond.privateMethod ({ cls := "HabitRegistryModel", name := "of", desc := "(II)I" } : Jvm.MethodName)) ∈ lw_tbl := lw_at lw_m9 28 rfl
theorem q2024 : (Jvm.Cond.instanceMethod ({ cls := "HabitRegistryModel", name := "of", desc := "(II)I" } : Jvm.MethodName)) ∈ lw_all := lw_g (lw_at lw_m9 29 rfl) rfl
theorem q2025 : (Jvm.Cond.code ({ cls := "HabitRegistryModel", name := "of", desc := "(II)I" } : Jvm.MethodName) prog_15_method_47_code (3 : Nat) (Option.some Jvm.ClassFile.FieldType.int)) ∈ lw_all := lw_g (lw_at lw_m9 30 rfl) rfl
theorem q2026 : (Jvm.Cond.methodLink "HabitRegistryModel" (121 : Nat) ({ cls := "HabitRegistryModel", name := "inherits", desc := "(II)I" } : Jvm.MethodName)) ∈ lw_all := lw_g (lw_at lw_m9 31 rfl) rfl
theorem q2027 : (Jvm.Cond.privateMethod ({ cls := "HabitRegistryModel", name := "inherits", desc := "(II)I" } : Jvm.MethodName)) ∈ lw_tbl := lw_at lw_m9 32 rfl
theorem q2028 : (Jvm.Cond.instanceMethod ({ cls := "HabitRegistryModel", name := "inherits", desc := "(II)I" } : Jvm.MethodName)) ∈ lw_all := lw_g (lw_at lw_m9 33 rfl) rfl
theorem q2029 : (Jvm.Cond.code ({ cls := "HabitRegistryModel", name := "inherits", desc := "(II)I" } : Jvm.MethodName) prog_15_method_20_code (5 : Nat) (Option.some Jvm.ClassFile.FieldType.int)) ∈ lw_all := lw_g (lw_at lw_m9 34 rfl) rfl
theorem q2030 : (Jvm.Cond.methodLink "HabitRegistryModel" (98 : Nat) ({ cls := "HabitRegistryModel", name := "firstLiving", desc := "(II)I" } : Jvm.MethodName)) ∈ lw_all := lw_g (lw_at lw_m9 35 rfl) rfl
theorem q2031 : (Jvm.Cond.privateMethod ({ cls := "HabitRegistryModel", name := "firstLiving", desc := "(II)I" } : Jvm.MethodName)) ∈ lw_tbl := lw_at lw_m9 36 rfl
theorem q2032 : (Jvm.Cond.instanceMethod ({ cls := "HabitRegistryModel", name := "firstLiving", desc := "(II)I" } : Jvm.MethodName)) ∈ lw_all := lw_g (lw_at lw_m9 37 rfl) rfl
theorem q2033 : (Jvm.Cond.code ({ cls := "HabitRegistryModel", name := "firstLiving", desc := "(II)I" } : Jvm.MethodName) prog_15_method_18_code (4 : Nat) (Option.some Jvm.ClassFile.FieldType.int)) ∈ lw_all := lw_g (lw_at lw_m9 38 rfl) rfl
theorem q2034 : (Jvm.Cond.methodLink "HabitRegistryModel" (95 : Nat) ({ cls := "HabitRegistryModel", name := "follower", desc := "(II)I" } : Jvm.MethodName)) ∈ lw_all := lw_g (lw_at lw_m9 39 rfl) rfl
theorem q2035 : (Jvm.Cond.privateMethod ({ cls := "HabitRegistryModel", name := "follower", desc := "(II)I" } : Jvm.MethodName)) ∈ lw_tbl := lw_at lw_m9 40 rfl
theorem q2036 : (Jvm.Cond.instanceMethod ({ cls := "HabitRegistryModel", name := "follower", desc := "(II)I" } : Jvm.MethodName)) ∈ lw_all := lw_g (lw_at lw_m9 41 rfl) rfl
theorem q2037 : (Jvm.Cond.code ({ cls := "HabitRegistryModel", name := "follower", desc := "(II)I" } : Jvm.MethodName) prog_15_method_17_code (6 : Nat) (Option.some Jvm.ClassFile.FieldType.int)) ∈ lw_all := lw_g (lw_at lw_m9 42 rfl) rfl
theorem q2038 : (Jvm.Cond.methodLink "HabitRegistryModel" (91 : Nat) ({ cls := "HabitRegistryModel", name := "childBehind", desc := "(II)I" } : Jvm.MethodName)) ∈ lw_all := lw_g (lw_at lw_m9 43 rfl) rfl
theorem q2039 : (Jvm.Cond.privateMethod ({ cls := "HabitRegistryModel", name := "childBehind", desc := "(II)I" } : Jvm.MethodName)) ∈ lw_tbl := lw_at lw_m9 44 rfl
theorem q2040 : (Jvm.Cond.instanceMethod ({ cls := "HabitRegistryModel", name := "childBehind", desc := "(II)I" } : Jvm.MethodName)) ∈ lw_all := lw_g (lw_at lw_m9 45 rfl) rfl
theorem q2041 : (Jvm.Cond.code ({ cls := "HabitRegistryModel", name := "childBehind", desc := "(II)I" } : Jvm.MethodName) prog_15_method_16_code (4 : Nat) (Option.some Jvm.ClassFile.FieldType.int)) ∈ lw_all := lw_g (lw_at lw_m9 46 rfl) rfl
theorem q2042 : (Jvm.Cond.methodLink "HabitRegistryModel" (88 : Nat) ({ cls := "HabitRegistryModel", name := "parent", desc := "(I)I" } : Jvm.MethodName)) ∈ lw_all := lw_g (lw_at lw_m9 47 rfl) rfl
theorem q2043 : (Jvm.Cond.privateMethod ({ cls := "HabitRegistryModel", name := "parent", desc := "(I)I" } : Jvm.MethodName)) ∈ lw_tbl := lw_at lw_m9 48 rfl
theorem q2044 : (Jvm.Cond.instanceMethod ({ cls := "HabitRegistryModel", name := "parent", desc := "(I)I" } : Jvm.MethodName)) ∈ lw_all := lw_g (lw_at lw_m9 49 rfl) rfl
theorem q2045 : (Jvm.Cond.code ({ cls := "HabitRegistryModel", name := "parent", desc := "(I)I" } : Jvm.MethodName) prog_15_method_11_code (2 : Nat) (Option.some Jvm.ClassFile.FieldType.int)) ∈ lw_all := lw_g (lw_at lw_m9 50 rfl) rfl
theorem q2046 : (Jvm.Cond.methodLink "HabitRegistryModel" (104 : Nat) ({ cls := "HabitRegistryModel", name := "heir", desc := "(I)I" } : Jvm.MethodName)) ∈ lw_all := lw_g (lw_at lw_m9 51 rfl) rfl
theorem q2047 : (Jvm.Cond.privateMethod ({ cls := "HabitRegistryModel", name := "heir", desc := "(I)I" } : Jvm.MethodName)) ∈ lw_tbl := lw_at lw_m9 52 rfl
theorem q2048 : (Jvm.Cond.instanceMethod ({ cls := "HabitRegistryModel", name := "heir", desc := "(I)I" } : Jvm.MethodName)) ∈ lw_all := lw_g (lw_at lw_m9 53 rfl) rfl
theorem q2049 : (Jvm.Cond.code ({ cls := "HabitRegistryModel", name := "heir", desc := "(I)I" } : Jvm.MethodName) prog_15_method_19_code (4 : Nat) (Option.some Jvm.ClassFile.FieldType.int)) ∈ lw_all := lw_g (lw_at lw_m9 54 rfl) rfl
theorem q2050 : (Jvm.Cond.methodLink "HabitRegistryModel" (107 : Nat) ({ cls := "HabitRegistryModel", name := "ends", desc := "(I)V" } : Jvm.MethodName)) ∈ lw_all := lw_g (lw_at lw_m9 55 rfl) rfl
theorem q2051 : (Jvm.Cond.privateMethod ({ cls := "HabitRegistryModel", name := "ends", desc := "(I)V" } : Jvm.MethodName)) ∈ lw_tbl := lw_at lw_m9 56 rfl
theorem q2052 : (Jvm.Cond.instanceMethod ({ cls := "HabitRegistryModel", name := "ends", desc := "(I)V" } : Jvm.MethodName)) ∈ lw_all := lw_g (lw_at lw_m9 57 rfl) rfl
theorem q2053 : (Jvm.Cond.code ({ cls := "HabitRegistryModel", name := "ends", desc := "(I)V" } : Jvm.MethodName) prog_15_method_51_code (2 : Nat) (Option.none : Option Jvm.ClassFile.FieldType)) ∈ lw_all := lw_g (lw_at lw_m9 58 rfl) rfl
theorem q2054 : (Jvm.Cond.methodLink "HabitRegistryModel" (114 : Nat) ({ cls := "HabitRegistryModel", name := "lays", desc := "(III)V" } : Jvm.MethodName)) ∈ lw_all := lw_g (lw_at lw_m9 59 rfl) rfl
theorem q2055 : (Jvm.Cond.privateMethod ({ cls := "HabitRegistryModel", name := "lays", desc := "(III)V" } : Jvm.MethodName)) ∈ lw_tbl := lw_at lw_m9 60 rfl
theorem q2056 : (Jvm.Cond.instanceMethod ({ cls := "HabitRegistryModel", name := "lays", desc := "(III)V" } : Jvm.MethodName)) ∈ lw_all := lw_g (lw_at lw_m9 61 rfl) rfl
theorem q2057 : (Jvm.Cond.code ({ cls := "HabitRegistryModel", name := "lays", desc := "(III)V" } : Jvm.MethodName) prog_15_method_48_code (4 : Nat) (Option.none : Option Jvm.ClassFile.FieldType)) ∈ lw_all := lw_g (lw_at lw_m9 62 rfl) rfl
theorem q2058 : (Jvm.Cond.methodLink "HabitRegistryModel" (111 : Nat) ({ cls := "HabitRegistryModel", name := "held", desc := "(II)I" } : Jvm.MethodName)) ∈ lw_all := lw_g (lw_at lw_m9 63 rfl) rfl
theorem q2059 : (Jvm.Cond.privateMethod ({ cls := "HabitRegistryModel", name := "held", desc := "(II)I" } : Jvm.MethodName)) ∈ lw_tbl := lw_at lw_m9 64 rfl
theorem q2060 : (Jvm.Cond.instanceMethod ({ cls := "HabitRegistryModel", name := "held", desc := "(II)I" } : Jvm.MethodName)) ∈ lw_all := lw_g (lw_at lw_m9 65 rfl) rfl
theorem q2061 : (Jvm.Cond.code ({ cls := "HabitRegistryModel", name := "held", desc := "(II)I" } : Jvm.MethodName) prog_15_method_54_code (4 : Nat) (Option.some Jvm.ClassFile.FieldType.int)) ∈ lw_all := lw_g (lw_at lw_m9 66 rfl) rfl
theorem q2062 : (Jvm.Cond.methodLink "HabitRegistryModel" (118 : Nat) ({ cls := "HabitRegistryModel", name := "least", desc := "(II)I" } : Jvm.MethodName)) ∈ lw_all := lw_g (lw_at lw_m9 67 rfl) rfl
theorem q2063 : (Jvm.Cond.static ({ cls := "HabitRegistryModel", name := "least", desc := "(II)I" } : Jvm.MethodName)) ∈ lw_all := lw_g (lw_at lw_m9 68 rfl) rfl
theorem q2064 : (Jvm.Cond.code ({ cls := "HabitRegistryModel", name := "least", desc := "(II)I" } : Jvm.MethodName) prog_15_method_6_code (2 : Nat) (Option.some Jvm.ClassFile.FieldType.int)) ∈ lw_all := lw_g (lw_at lw_m9 69 rfl) rfl
theorem q2066 : (Jvm.Cond.instanceMethod ({ cls := "HabitRegistryModel", name := "peopleCount", desc := "()I" } : Jvm.MethodName)) ∈ lw_all := lw_g (lw_at lw_m9 71 rfl) rfl
theorem q2067 : (Jvm.Cond.selects "HabitRegistryModel" ({ cls := "HabitRegistryModel", name := "peopleCount", desc := "()I" } : Jvm.MethodName) ({ cls := "HabitRegistryModel", name := "peopleCount", desc := "()I" } : Jvm.MethodName)) ∈ lw_all := lw_g (lw_at lw_m9 72 rfl) rfl
theorem q2068 : (Jvm.Cond.code ({ cls := "HabitRegistryModel", name := "peopleCount", desc := "()I" } : Jvm.MethodName) prog_15_method_22_code (1 : Nat) (Option.some Jvm.ClassFile.FieldType.int)) ∈ lw_all := lw_g (lw_at lw_m9 73 rfl) rfl
theorem q2070 : (Jvm.Cond.instanceMethod ({ cls := "HabitRegistryModel", name := "livingCount", desc := "()I" } : Jvm.MethodName)) ∈ lw_all := lw_g (lw_at lw_m9 75 rfl) rfl
theorem q2071 : (Jvm.Cond.selects "HabitRegistryModel" ({ cls := "HabitRegistryModel", name := "livingCount", desc := "()I" } : Jvm.MethodName) ({ cls := "HabitRegistryModel", name := "livingCount", desc := "()I" } : Jvm.MethodName)) ∈ lw_all := lw_g (lw_at lw_m9 76 rfl) rfl
theorem q2072 : (Jvm.Cond.code ({ cls := "HabitRegistryModel", name := "livingCount", desc := "()I" } : Jvm.MethodName) prog_15_method_24_code (1 : Nat) (Option.some Jvm.ClassFile.FieldType.int)) ∈ lw_all := lw_g (lw_at lw_m9 77 rfl) rfl
theorem q2073 : (Jvm.Cond.methodLink "HabitRegistryModel" (124 : Nat) ({ cls := "HabitRegistryModel", name := "living", desc := "()I" } : Jvm.MethodName)) ∈ lw_all := lw_g (lw_at lw_m9 78 rfl) rfl
theorem q2074 : (Jvm.Cond.privateMethod ({ cls := "HabitRegistryModel", name := "living", desc := "()I" } : Jvm.MethodName)) ∈ lw_tbl := lw_at lw_m9 79 rfl
theorem q2075 : (Jvm.Cond.instanceMethod ({ cls := "HabitRegistryModel", name := "living", desc := "()I" } : Jvm.MethodName)) ∈ lw_all := lw_g (lw_at lw_m9 80 rfl) rfl
theorem q2076 : (Jvm.Cond.code ({ cls := "HabitRegistryModel", name := "living", desc := "()I" } : Jvm.MethodName) prog_15_method_23_code (3 : Nat) (Option.some Jvm.ClassFile.FieldType.int)) ∈ lw_all := lw_g (lw_at lw_m9 81 rfl) rfl
theorem q2078 : (Jvm.Cond.instanceMethod ({ cls := "HabitRegistryModel", name := "isAlive", desc := "(I)Z" } : Jvm.MethodName)) ∈ lw_all := lw_g (lw_at lw_m9 83 rfl) rfl
theorem q2079 : (Jvm.Cond.selects "HabitRegistryModel" ({ cls := "HabitRegistryModel", name := "isAlive", desc := "(I)Z" } : Jvm.MethodName) ({ cls := "HabitRegistryModel", name := "isAlive", desc := "(I)Z" } : Jvm.MethodName)) ∈ lw_all := lw_g (lw_at lw_m9 84 rfl) rfl
theorem q2080 : (Jvm.Cond.code ({ cls := "HabitRegistryModel", name := "isAlive", desc := "(I)Z" } : Jvm.MethodName) prog_15_method_26_code (2 : Nat) (Option.some Jvm.ClassFile.FieldType.boolean)) ∈ lw_all := lw_g (lw_at lw_m9 85 rfl) rfl
theorem q2081 : (Jvm.Cond.methodLink "HabitRegistryModel" (128 : Nat) ({ cls := "HabitRegistryModel", name := "isNobody", desc := "(I)Z" } : Jvm.MethodName)) ∈ lw_all := lw_g (lw_at lw_m9 86 rfl) rfl
theorem q2082 : (Jvm.Cond.privateMethod ({ cls := "HabitRegistryModel", name := "isNobody", desc := "(I)Z" } : Jvm.MethodName)) ∈ lw_tbl := lw_at lw_m9 87 rfl
theorem q2083 : (Jvm.Cond.instanceMethod ({ cls := "HabitRegistryModel", name := "isNobody", desc := "(I)Z" } : Jvm.MethodName)) ∈ lw_all := lw_g (lw_at lw_m9 88 rfl) rfl
theorem q2084 : (Jvm.Cond.code ({ cls := "HabitRegistryModel", name := "isNobody", desc := "(I)Z" } : Jvm.MethodName) prog_15_method_25_code (2 : Nat) (Option.some Jvm.ClassFile.FieldType.boolean)) ∈ lw_all := lw_g (lw_at lw_m9 89 rfl) rfl
theorem q2086 : (Jvm.Cond.instanceMethod ({ cls := "HabitRegistryModel", name := "isFounder", desc := "(I)Z" } : Jvm.MethodName)) ∈ lw_all := lw_g (lw_at lw_m9 91 rfl) rfl
theorem q2087 : (Jvm.Cond.selects "HabitRegistryModel" ({ cls := "HabitRegistryModel", name := "isFounder", desc := "(I)Z" } : Jvm.MethodName) ({ cls := "HabitRegistryModel", name := "isFounder", desc := "(I)Z" } : Jvm.MethodName)) ∈ lw_all := lw_g (lw_at lw_m9 92 rfl) rfl
theorem q2088 : (Jvm.Cond.code ({ cls := "HabitRegistryModel", name := "isFounder", desc := "(I)Z" } : Jvm.MethodName) prog_15_method_27_code (2 : Nat) (Option.some Jvm.ClassFile.FieldType.boolean)) ∈ lw_all := lw_g (lw_at lw_m9 93 rfl) rfl
theorem q2090 : (Jvm.Cond.instanceMethod ({ cls := "HabitRegistryModel", name := "parentOf", desc := "(I)I" } : Jvm.MethodName)) ∈ lw_all := lw_g (lw_at lw_m9 95 rfl) rfl
theorem q2091 : (Jvm.Cond.selects "HabitRegistryModel" ({ cls := "HabitRegistryModel", name := "parentOf", desc := "(I)I" } : Jvm.MethodName) ({ cls := "HabitRegistryModel", name := "parentOf", desc := "(I)I" } : Jvm.MethodName)) ∈ lw_all := lw_g (lw_at lw_m9 96 rfl) rfl
theorem q2092 : (Jvm.Cond.code ({ cls := "HabitRegistryModel", name := "parentOf", desc := "(I)I" } : Jvm.MethodName) prog_15_method_28_code (2 : Nat) (Option.some Jvm.ClassFile.FieldType.int)) ∈ lw_all := lw_g (lw_at lw_m9 97 rfl) rfl
theorem q2094 : (Jvm.Cond.instanceMethod ({ cls := "HabitRegistryModel", name := "childCount", desc := "(I)I" } : Jvm.MethodName)) ∈ lw_all := lw_g (lw_at lw_m9 99 rfl) rfl
theorem q2095 : (Jvm.Cond.selects "HabitRegistryModel" ({ cls := "HabitRegistryModel", name := "childCount", desc := "(I)I" } : Jvm.MethodName) ({ cls := "HabitRegistryModel", name := "childCount", desc := "(I)I" } : Jvm.MethodName)) ∈ lw_all := lw_g (lw_at lw_m9 100 rfl) rfl
theorem q2096 : (Jvm.Cond.code ({ cls := "HabitRegistryModel", name := "childCount", desc := "(I)I" } : Jvm.MethodName) prog_15_method_29_code (4 : Nat) (Option.some Jvm.ClassFile.FieldType.int)) ∈ lw_all := lw_g (lw_at lw_m9 101 rfl) rfl
theorem q2098 : (Jvm.Cond.instanceMethod ({ cls := "HabitRegistryModel", name := "childAt", desc := "(II)I" } : Jvm.MethodName)) ∈ lw_all := lw_g (lw_at lw_m9 103 rfl) rfl
theorem q2099 : (Jvm.Cond.selects "HabitRegistryModel" ({ cls := "HabitRegistryModel", name := "childAt", desc := "(II)I" } : Jvm.MethodName) ({ cls := "HabitRegistryModel", name := "childAt", desc := "(II)I" } : Jvm.MethodName)) ∈ lw_all := lw_g (lw_at lw_m9 104 rfl) rfl
theorem q2100 : (Jvm.Cond.code ({ cls := "HabitRegistryModel", name := "childAt", desc := "(II)I" } : Jvm.MethodName) prog_15_method_30_code (5 : Nat) (Option.some Jvm.ClassFile.FieldType.int)) ∈ lw_all := lw_g (lw_at lw_m9 105 rfl) rfl
theorem q2102 : (Jvm.Cond.instanceMethod ({ cls := "HabitRegistryModel", name := "generation", desc := "(I)I" } : Jvm.MethodName)) ∈ lw_all := lw_g (lw_at lw_m9 107 rfl) rfl
theorem q2103 : (Jvm.Cond.selects "HabitRegistryModel" ({ cls := "HabitRegistryModel", name := "generation", desc := "(I)I" } : Jvm.MethodName) ({ cls := "HabitRegistryModel", name := "generation", desc := "(I)I" } : Jvm.MethodName)) ∈ lw_all := lw_g (lw_at lw_m9 108 rfl) rfl
theorem q2104 : (Jvm.Cond.code ({ cls := "HabitRegistryModel", name := "generation", desc := "(I)I" } : Jvm.MethodName) prog_15_method_32_code (2 : Nat) (Option.some Jvm.ClassFile.FieldType.int)) ∈ lw_all := lw_g (lw_at lw_m9 109 rfl) rfl
theorem q2105 : (Jvm.Cond.methodLink "HabitRegistryModel" (131 : Nat) ({ cls := "HabitRegistryModel", name := "depth", desc := "(I)I" } : Jvm.MethodName)) ∈ lw_all := lw_g (lw_at lw_m9 110 rfl) rfl
theorem q2106 : (Jvm.Cond.privateMethod ({ cls := "HabitRegistryModel", name := "depth", desc := "(I)I" } : Jvm.MethodName)) ∈ lw_tbl := lw_at lw_m9 111 rfl
theorem q2107 : (Jvm.Cond.instanceMethod ({ cls := "HabitRegistryModel", name := "depth", desc := "(I)I" } : Jvm.MethodName)) ∈ lw_all := lw_g (lw_at lw_m9 112 rfl) rfl
theorem q2108 : (Jvm.Cond.code ({ cls := "HabitRegistryModel", name := "depth", desc := "(I)I" } : Jvm.MethodName) prog_15_method_31_code (4 : Nat) (Option.some Jvm.ClassFile.FieldType.int)) ∈ lw_all := lw_g (lw_at lw_m9 113 rfl) rfl
theorem q2110 : (Jvm.Cond.instanceMethod ({ cls := "HabitRegistryModel", name := "livingDescendants", desc := "(I)I" } : Jvm.MethodName)) ∈ lw_all := lw_g (lw_at lw_m9 115 rfl) rfl
theorem q2111 : (Jvm.Cond.selects "HabitRegistryModel" ({ cls := "HabitRegistryModel", name := "livingDescendants", desc := "(I)I" } : Jvm.MethodName) ({ cls := "HabitRegistryModel", name := "livingDescendants", desc := "(I)I" } : Jvm.MethodName)) ∈ lw_all := lw_g (lw_at lw_m9 116 rfl) rfl
theorem q2112 : (Jvm.Cond.code ({ cls := "HabitRegistryModel", name := "livingDescendants", desc := "(I)I" } : Jvm.MethodName) prog_15_method_34_code (4 : Nat) (Option.some Jvm.ClassFile.FieldType.int)) ∈ lw_all := lw_g (lw_at lw_m9 117 rfl) rfl
theorem q2113 : (Jvm.Cond.methodLink "HabitRegistryModel" (134 : Nat) ({ cls := "HabitRegistryModel", name := "isAbove", desc := "(II)Z" } : Jvm.MethodName)) ∈ lw_all := lw_g (lw_at lw_m9 118 rfl) rfl
theorem q2114 : (Jvm.Cond.privateMethod ({ cls := "HabitRegistryModel", name := "isAbove", desc := "(II)Z" } : Jvm.MethodName)) ∈ lw_tbl := lw_at lw_m9 119 rfl
theorem q2115 : (Jvm.Cond.instanceMethod ({ cls := "HabitRegistryModel", name := "isAbove", desc := "(II)Z" } : Jvm.MethodName)) ∈ lw_all := lw_g (lw_at lw_m9 120 rfl) rfl
theorem q2116 : (Jvm.Cond.code ({ cls := "HabitRegistryModel", name := "isAbove", desc := "(II)Z" } : Jvm.MethodName) prog_15_method_33_code (4 : Nat) (Option.some Jvm.ClassFile.FieldType.boolean)) ∈ lw_all := lw_g (lw_at lw_m9 121 rfl) rfl
theorem q2118 : (Jvm.Cond.instanceMethod ({ cls := "HabitRegistryModel", name := "isAncestor", desc := "(II)Z" } : Jvm.MethodName)) ∈ lw_all := lw_g (lw_at lw_m9 123 rfl) rfl
theorem q2119 : (Jvm.Cond.selects "HabitRegistryModel" ({ cls := "HabitRegistryModel", name := "isAncestor", desc := "(II)Z" } : Jvm.MethodName) ({ cls := "HabitRegistryModel", name := "isAncestor", desc := "(II)Z" } : Jvm.MethodName)) ∈ lw_all := lw_g (lw_at lw_m9 124 rfl) rfl
theorem q2120 : (Jvm.Cond.code ({ cls := "HabitRegistryModel", name := "isAncestor", desc := "(II)Z" } : Jvm.MethodName) prog_15_method_35_code (3 : Nat) (Option.some Jvm.ClassFile.FieldType.boolean)) ∈ lw_all := lw_g (lw_at lw_m9 125 rfl) rfl
theorem q2121 : (Jvm.Cond.methodLink "HabitRegistryModel" (138 : Nat) ({ cls := "HabitRegistryModel", name := "arePeople", desc := "(II)Z" } : Jvm.MethodName)) ∈ lw_all := lw_g (lw_at lw_m9 126 rfl) rfl
theorem q2122 : (Jvm.Cond.privateMethod ({ cls := "HabitRegistryModel", name := "arePeople", desc := "(II)Z" } : Jvm.MethodName)) ∈ lw_tbl := lw_at lw_m9 127 rfl
theorem q2123 : (Jvm.Cond.instanceMethod ({ cls := "HabitRegistryModel", name := "arePeople", desc := "(II)Z" } : Jvm.MethodName)) ∈ lw_all := lw_g (lw_at lw_m9 128 rfl) rfl
theorem q2124 : (Jvm.Cond.code ({ cls := "HabitRegistryModel", name := "arePeople", desc := "(II)Z" } : Jvm.MethodName) prog_15_method_10_code (3 : Nat) (Option.some Jvm.ClassFile.FieldType.boolean)) ∈ lw_all := lw_g (lw_at lw_m9 129 rfl) rfl
theorem q2126 : (Jvm.Cond.instanceMethod ({ cls := "HabitRegistryModel", name := "commonAncestor", desc := "(II)I" } : Jvm.MethodName)) ∈ lw_all := lw_g (lw_at lw_m9 131 rfl) rfl
theorem q2127 : (Jvm.Cond.selects "HabitRegistryModel" ({ cls := "HabitRegistryModel", name := "commonAncestor", desc := "(II)I" } : Jvm.MethodName) ({ cls := "HabitRegistryModel", name := "commonAncestor", desc := "(II)I" } : Jvm.MethodName)) ∈ lw_all := lw_g (lw_at lw_m9 132 rfl) rfl
theorem q2128 : (Jvm.Cond.code ({ cls := "HabitRegistryModel", name := "commonAncestor", desc := "(II)I" } : Jvm.MethodName) prog_15_method_39_code (3 : Nat) (Option.some Jvm.ClassFile.FieldType.int)) ∈ lw_all := lw_g (lw_at lw_m9 133 rfl) rfl
theorem q2129 : (Jvm.Cond.methodLink "HabitRegistryModel" (144 : Nat) ({ cls := "HabitRegistryModel", name := "areStrangers", desc := "(II)Z" } : Jvm.MethodName)) ∈ lw_all := lw_g (lw_at lw_m9 134 rfl) rfl
theorem q2130 : (Jvm.Cond.privateMethod ({ cls := "HabitRegistryModel", name := "areStrangers", desc := "(II)Z" } : Jvm.MethodName)) ∈ lw_tbl := lw_at lw_m9 135 rfl
theorem q2131 : (Jvm.Cond.instanceMethod ({ cls := "HabitRegistryModel", name := "areStrangers", desc := "(II)Z" } : Jvm.MethodName)) ∈ lw_all := lw_g (lw_at lw_m9 136 rfl) rfl
theorem q2132 : (Jvm.Cond.code ({ cls := "HabitRegistryModel", name := "areStrangers", desc := "(II)Z" } : Jvm.MethodName) prog_15_method_37_code (3 : Nat) (Option.some Jvm.ClassFile.FieldType.boolean)) ∈ lw_all := lw_g (lw_at lw_m9 137 rfl) rfl
theorem q2133 : (Jvm.Cond.methodLink "HabitRegistryModel" (141 : Nat) ({ cls := "HabitRegistryModel", name := "common", desc := "(II)I" } : Jvm.MethodName)) ∈ lw_all := lw_g (lw_at lw_m9 138 rfl) rfl
theorem q2134 : (Jvm.Cond.privateMethod ({ cls := "HabitRegistryModel", name := "common", desc := "(II)I" } : Jvm.MethodName)) ∈ lw_tbl := lw_at lw_m9 139 rfl
theorem q2135 : (Jvm.Cond.instanceMethod ({ cls := "HabitRegistryModel", name := "common", desc := "(II)I" } : Jvm.MethodName)) ∈ lw_all := lw_g (lw_at lw_m9 140 rfl) rfl
theorem q2136 : (Jvm.Cond.code ({ cls := "HabitRegistryModel", name := "common", desc := "(II)I" } : Jvm.MethodName) prog_15_method_36_code (4 : Nat) (Option.some Jvm.ClassFile.FieldType.int)) ∈ lw_all := lw_g (lw_at lw_m9 141 rfl) rfl
theorem q2138 : (Jvm.Cond.instanceMethod ({ cls := "HabitRegistryModel", name := "distance", desc := "(II)I" } : Jvm.MethodName)) ∈ lw_all := lw_g (lw_at lw_m9 143 rfl) rfl
theorem q2139 : (Jvm.Cond.selects "HabitRegistryModel" ({ cls := "HabitRegistryModel", name := "distance", desc := "(II)I" } : Jvm.MethodName) ({ cls := "HabitRegistryModel", name := "distance", desc := "(II)I" } : Jvm.MethodName)) ∈ lw_all := lw_g (lw_at lw_m9 144 rfl) rfl
theorem q2140 : (Jvm.Cond.code ({ cls := "HabitRegistryModel", name := "distance", desc := "(II)I" } : Jvm.MethodName) prog_15_method_40_code (3 : Nat) (Option.some Jvm.ClassFile.FieldType.int)) ∈ lw_all := lw_g (lw_at lw_m9 145 rfl) rfl
theorem q2141 : (Jvm.Cond.methodLink "HabitRegistryModel" (147 : Nat) ({ cls := "HabitRegistryModel", name := "apart", desc := "(II)I" } : Jvm.MethodName)) ∈ lw_all := lw_g (lw_at lw_m9 146 rfl) rfl
theorem q2142 : (Jvm.Cond.privateMethod ({ cls := "HabitRegistryModel", name := "apart", desc := "(II)I" } : Jvm.MethodName)) ∈ lw_tbl := lw_at lw_m9 147 rfl
theorem q2143 : (Jvm.Cond.instanceMethod ({ cls := "HabitRegistryModel", name := "apart", desc := "(II)I" } : Jvm.MethodName)) ∈ lw_all := lw_g (lw_at lw_m9 148 rfl) rfl
theorem q2144 : (Jvm.Cond.code ({ cls := "HabitRegistryModel", name := "apart", desc := "(II)I" } : Jvm.MethodName) prog_15_method_38_code (3 : Nat) (Option.some Jvm.ClassFile.FieldType.int)) ∈ lw_all := lw_g (lw_at lw_m9 149 rfl) rfl
theorem q2146 : (Jvm.Cond.instanceMethod ({ cls := "HabitRegistryModel", name := "distanceBySearch", desc := "(II)I" } : Jvm.MethodName)) ∈ lw_all := lw_g (lw_at lw_m9 151 rfl) rfl
theorem q2147 : (Jvm.Cond.selects "HabitRegistryModel" ({ cls := "HabitRegistryModel", name := "distanceBySearch", desc := "(II)I" } : Jvm.MethodName) ({ cls := "HabitRegistryModel", name := "distanceBySearch", desc := "(II)I" } : Jvm.MethodName)) ∈ lw_all := lw_g (lw_at lw_m9 152 rfl) rfl
theorem q2148 : (Jvm.Cond.code ({ cls := "HabitRegistryModel", name := "distanceBySearch", desc := "(II)I" } : Jvm.MethodName) prog_15_method_41_code (3 : Nat) (Option.some Jvm.ClassFile.FieldType.int)) ∈ lw_all := lw_g (lw_at lw_m9 153 rfl) rfl
theorem q2150 : (Jvm.Cond.instanceMethod ({ cls := "HabitRegistryModel", name := "heirOf", desc := "(I)I" } : Jvm.MethodName)) ∈ lw_all := lw_g (lw_at lw_m9 155 rfl) rfl
theorem q2151 : (Jvm.Cond.selects "HabitRegistryModel" ({ cls := "HabitRegistryModel", name := "heirOf", desc := "(I)I" } : Jvm.MethodName) ({ cls := "HabitRegistryModel", name := "heirOf", desc := "(I)I" } : Jvm.MethodName)) ∈ lw_all := lw_g (lw_at lw_m9 156 rfl) rfl
theorem q2152 : (Jvm.Cond.code ({ cls := "HabitRegistryModel", name := "heirOf", desc := "(I)I" } : Jvm.MethodName) prog_15_method_43_code (2 : Nat) (Option.some Jvm.ClassFile.FieldType.int)) ∈ lw_all := lw_g (lw_at lw_m9 157 rfl) rfl
theorem q2153 : (Jvm.Cond.methodLink "HabitRegistryModel" (150 : Nat) ({ cls := "HabitRegistryModel", name := "isHeirless", desc := "(I)Z" } : Jvm.MethodName)) ∈ lw_all := lw_g (lw_at lw_m9 158 rfl) rfl
theorem q2154 : (Jvm.Cond.privateMethod ({ cls := "HabitRegistryModel", name := "isHeirless", desc := "(I)Z" } : Jvm.MethodName)) ∈ lw_tbl := lw_at lw_m9 159 rfl
theorem q2155 : (Jvm.Cond.instanceMethod ({ cls := "HabitRegistryModel", name := "isHeirless", desc := "(I)Z" } : Jvm.MethodName)) ∈ lw_all := lw_g (lw_at lw_m9 160 rfl) rfl
theorem q2156 : (Jvm.Cond.code ({ cls := "HabitRegistryModel", name := "isHeirless", desc := "(I)Z" } : Jvm.MethodName) prog_15_method_42_code (2 : Nat) (Option.some Jvm.ClassFile.FieldType.boolean)) ∈ lw_all := lw_g (lw_at lw_m9 161 rfl) rfl
theorem q2158 : (Jvm.Cond.instanceMethod ({ cls := "HabitRegistryModel", name := "heirByComparison", desc := "(I)I" } : Jvm.MethodName)) ∈ lw_all := lw_g (lw_at lw_m9 163 rfl) rfl
theorem q2159 : (Jvm.Cond.selects "HabitRegistryModel" ({ cls := "HabitRegistryModel", name := "heirByComparison", desc := "(I)I" } : Jvm.MethodName) ({ cls := "HabitRegistryModel", name := "heirByComparison", desc := "(I)I" } : Jvm.MethodName)) ∈ lw_all := lw_g (lw_at lw_m9 164 rfl) rfl
theorem q2160 : (Jvm.Cond.code ({ cls := "HabitRegistryModel", name := "heirByComparison", desc := "(I)I" } : Jvm.MethodName) prog_15_method_44_code (2 : Nat) (Option.some Jvm.ClassFile.FieldType.int)) ∈ lw_all := lw_g (lw_at lw_m9 165 rfl) rfl
theorem q2162 : (Jvm.Cond.instanceMethod ({ cls := "HabitRegistryModel", name := "directHeirOf", desc := "(I)I" } : Jvm.MethodName)) ∈ lw_all := lw_g (lw_at lw_m9 167 rfl) rfl
theorem q2163 : (Jvm.Cond.selects "HabitRegistryModel" ({ cls := "HabitRegistryModel", name := "directHeirOf", desc := "(I)I" } : Jvm.MethodName) ({ cls := "HabitRegistryModel", name := "directHeirOf", desc := "(I)I" } : Jvm.MethodName)) ∈ lw_all := lw_g (lw_at lw_m9 168 rfl) rfl
theorem q2164 : (Jvm.Cond.code ({ cls := "HabitRegistryModel", name := "directHeirOf", desc := "(I)I" } : Jvm.MethodName) prog_15_method_45_code (2 : Nat) (Option.some Jvm.ClassFile.FieldType.int)) ∈ lw_all := lw_g (lw_at lw_m9 169 rfl) rfl
theorem q2166 : (Jvm.Cond.instanceMethod ({ cls := "HabitRegistryModel", name := "successionPosition", desc := "(I)I" } : Jvm.MethodName)) ∈ lw_all := lw_g (lw_at lw_m9 171 rfl) rfl
theorem q2167 : (Jvm.Cond.selects "HabitRegistryModel" ({ cls := "HabitRegistryModel", name := "successionPosition", desc := "(I)I" } : Jvm.MethodName) ({ cls := "HabitRegistryModel", name := "successionPosition", desc := "(I)I" } : Jvm.MethodName)) ∈ lw_all := lw_g (lw_at lw_m9 172 rfl) rfl
theorem q2168 : (Jvm.Cond.code ({ cls := "HabitRegistryModel", name := "successionPosition", desc := "(I)I" } : Jvm.MethodName) prog_15_method_46_code (5 : Nat) (Option.some Jvm.ClassFile.FieldType.int)) ∈ lw_all := lw_g (lw_at lw_m9 173 rfl) rfl
theorem q2170 : (Jvm.Cond.instanceMethod ({ cls := "HabitRegistryModel", name := "addHabit", desc := "(ICI)I" } : Jvm.MethodName)) ∈ lw_all := lw_g (lw_at lw_m9 175 rfl) rfl
theorem q2171 : (Jvm.Cond.selects "HabitRegistryModel" ({ cls := "HabitRegistryModel", name := "addHabit", desc := "(ICI)I" } : Jvm.MethodName) ({ cls := "HabitRegistryModel", name := "addHabit", desc := "(ICI)I" } : Jvm.MethodName)) ∈ lw_all := lw_g (lw_at lw_m9 176 rfl) rfl
theorem q2172 : (Jvm.Cond.code ({ cls := "HabitRegistryModel", name := "addHabit", desc := "(ICI)I" } : Jvm.MethodName) prog_15_method_55_code (6 : Nat) (Option.some Jvm.ClassFile.FieldType.int)) ∈ lw_all := lw_g (lw_at lw_m9 177 rfl) rfl
theorem q2173 : (Jvm.Cond.methodLink "HabitRegistryModel" (153 : Nat) ({ cls := "HabitRegistryModel", name := "kindOf0", desc := "(C)I" } : Jvm.MethodName)) ∈ lw_all := lw_g (lw_at lw_m9 178 rfl) rfl
theorem q2174 : (Jvm.Cond.static ({ cls := "HabitRegistryModel", name := "kindOf0", desc := "(C)I" } : Jvm.MethodName)) ∈ lw_all := lw_g (lw_at lw_m9 179 rfl) rfl
theorem q2175 : (Jvm.Cond.code ({ cls := "HabitRegistryModel", name := "kindOf0", desc := "(C)I" } : Jvm.MethodName) prog_15_method_52_code (1 : Nat) (Option.some Jvm.ClassFile.FieldType.int)) ∈ lw_all := lw_g (lw_at lw_m9 180 rfl) rfl
theorem q2177 : (Jvm.Cond.instanceMethod ({ cls := "HabitRegistryModel", name := "practise", desc := "(I)I" } : Jvm.MethodName)) ∈ lw_all := lw_g (lw_at lw_m9 182 rfl) rfl
theorem q2178 : (Jvm.Cond.selects "HabitRegistryModel" ({ cls := "HabitRegistryModel", name := "practise", desc := "(I)I" } : Jvm.MethodName) ({ cls := "HabitRegistryModel", name := "practise", desc := "(I)I" } : Jvm.MethodName)) ∈ lw_all := lw_g (lw_at lw_m9 183 rfl) rfl
theorem q2179 : (Jvm.Cond.code ({ cls := "HabitRegistryModel", name := "practise", desc := "(I)I" } : Jvm.MethodName) prog_15_method_56_code (2 : Nat) (Option.some Jvm.ClassFile.FieldType.int)) ∈ lw_all := lw_g (lw_at lw_m9 184 rfl) rfl
theorem q2180 : (Jvm.Cond.methodLink "HabitRegistryModel" (157 : Nat) ({ cls := "HabitRegistryModel", name := "isHabit", desc := "(I)Z" } : Jvm.MethodName)) ∈ lw_all := lw_g (lw_at lw_m9 185 rfl) rfl
theorem q2181 : (Jvm.Cond.privateMethod ({ cls := "HabitRegistryModel", name := "isHabit", desc := "(I)Z" } : Jvm.MethodName)) ∈ lw_tbl := lw_at lw_m9 186 rfl
theorem q2182 : (Jvm.Cond.instanceMethod ({ cls := "HabitRegistryModel", name := "isHabit", desc := "(I)Z" } : Jvm.MethodName)) ∈ lw_all := lw_g (lw_at lw_m9 187 rfl) rfl
theorem q2183 : (Jvm.Cond.code ({ cls := "HabitRegistryModel", name := "isHabit", desc := "(I)Z" } : Jvm.MethodName) prog_15_method_49_code (2 : Nat) (Option.some Jvm.ClassFile.FieldType.boolean)) ∈ lw_all := lw_g (lw_at lw_m9 188 rfl) rfl
theorem q2184 : (Jvm.Cond.methodLink "HabitRegistryModel" (160 : Nat) ({ cls := "HabitRegistryModel", name := "isGone", desc := "(I)Z" } : Jvm.MethodName)) ∈ lw_all := lw_g (lw_at lw_m9 189 rfl) rfl
theorem q2185 : (Jvm.Cond.privateMethod ({ cls := "HabitRegistryModel", name := "isGone", desc := "(I)Z" } : Jvm.MethodName)) ∈ lw_tbl := lw_at lw_m9 190 rfl
theorem q2186 : (Jvm.Cond.instanceMethod ({ cls := "HabitRegistryModel", name := "isGone", desc := "(I)Z" } : Jvm.MethodName)) ∈ lw_all := lw_g (lw_at lw_m9 191 rfl) rfl
theorem q2187 : (Jvm.Cond.code ({ cls := "HabitRegistryModel", name := "isGone", desc := "(I)Z" } : Jvm.MethodName) prog_15_method_50_code (2 : Nat) (Option.some Jvm.ClassFile.FieldType.boolean)) ∈ lw_all := lw_g (lw_at lw_m9 192 rfl) rfl
theorem q2189 : (Jvm.Cond.instanceMethod ({ cls := "HabitRegistryModel", name := "neglect", desc := "(I)I" } : Jvm.MethodName)) ∈ lw_all := lw_g (lw_at lw_m9 194 rfl) rfl
theorem q2190 : (Jvm.Cond.selects "HabitRegistryModel" ({ cls := "HabitRegistryModel", name := "neglect", desc := "(I)I" } : Jvm.MethodName) ({ cls := "HabitRegistryModel", name := "neglect", desc := "(I)I" } : Jvm.MethodName)) ∈ lw_all := lw_g (lw_at lw_m9 195 rfl) rfl
theorem q2191 : (Jvm.Cond.code ({ cls := "HabitRegistryModel", name := "neglect", desc := "(I)I" } : Jvm.MethodName) prog_15_method_58_code (2 : Nat) (Option.some Jvm.ClassFile.FieldType.int)) ∈ lw_all := lw_g (lw_at lw_m9 196 rfl) rfl
theorem q2192 : (Jvm.Cond.methodLink "HabitRegistryModel" (163 : Nat) ({ cls := "HabitRegistryModel", name := "weakens", desc := "(I)Z" } : Jvm.MethodName)) ∈ lw_all := lw_g (lw_at lw_m9 197 rfl) rfl
theorem q2193 : (Jvm.Cond.privateMethod ({ cls := "HabitRegistryModel", name := "weakens", desc := "(I)Z" } : Jvm.MethodName)) ∈ lw_tbl := lw_at lw_m9 198 rfl
theorem q2194 : (Jvm.Cond.instanceMethod ({ cls := "HabitRegistryModel", name := "weakens", desc := "(I)Z" } : Jvm.MethodName)) ∈ lw_all := lw_g (lw_at lw_m9 199 rfl) rfl
theorem q2195 : (Jvm.Cond.code ({ cls := "HabitRegistryModel", name := "weakens", desc := "(I)Z" } : Jvm.MethodName) prog_15_method_57_code (2 : Nat) (Option.some Jvm.ClassFile.FieldType.boolean)) ∈ lw_all := lw_g (lw_at lw_m9 200 rfl) rfl
theorem q2197 : (Jvm.Cond.instanceMethod ({ cls := "HabitRegistryModel", name := "entail", desc := "(I)I" } : Jvm.MethodName)) ∈ lw_all := lw_g (lw_at lw_m9 202 rfl) rfl
theorem q2198 : (Jvm.Cond.selects "HabitRegistryModel" ({ cls := "HabitRegistryModel", name := "entail", desc := "(I)I" } : Jvm.MethodName) ({ cls := "HabitRegistryModel", name := "entail", desc := "(I)I" } : Jvm.MethodName)) ∈ lw_all := lw_g (lw_at lw_m9 203 rfl) rfl
theorem q2199 : (Jvm.Cond.code ({ cls := "HabitRegistryModel", name := "entail", desc := "(I)I" } : Jvm.MethodName) prog_15_method_59_code (3 : Nat) (Option.some Jvm.ClassFile.FieldType.int)) ∈ lw_all := lw_g (lw_at lw_m9 204 rfl) rfl
theorem q2201 : (Jvm.Cond.instanceMethod ({ cls := "HabitRegistryModel", name := "breakEntail", desc := "(I)I" } : Jvm.MethodName)) ∈ lw_all := lw_g (lw_at lw_m9 206 rfl) rfl
theorem q2202 : (Jvm.Cond.selects "HabitRegistryModel" ({ cls := "HabitRegistryModel", name := "breakEntail", desc := "(I)I" } : Jvm.MethodName) ({ cls := "HabitRegistryModel", name := "breakEntail", desc := "(I)I" } : Jvm.MethodName)) ∈ lw_all := lw_g (lw_at lw_m9 207 rfl) rfl
theorem q2203 : (Jvm.Cond.code ({ cls := "HabitRegistryModel", name := "breakEntail", desc := "(I)I" } : Jvm.MethodName) prog_15_method_60_code (2 : Nat) (Option.some Jvm.ClassFile.FieldType.int)) ∈ lw_all := lw_g (lw_at lw_m9 208 rfl) rfl
theorem q2205 : (Jvm.Cond.instanceMethod ({ cls := "HabitRegistryModel", name := "give", desc := "(II)I" } : Jvm.MethodName)) ∈ lw_all := lw_g (lw_at lw_m9 210 rfl) rfl
theorem q2206 : (Jvm.Cond.selects "HabitRegistryModel" ({ cls := "HabitRegistryModel", name := "give", desc := "(II)I" } : Jvm.MethodName) ({ cls := "HabitRegistryModel", name := "give", desc := "(II)I" } : Jvm.MethodName)) ∈ lw_all := lw_g (lw_at lw_m9 211 rfl) rfl
theorem q2207 : (Jvm.Cond.code ({ cls := "HabitRegistryModel", name := "give", desc := "(II)I" } : Jvm.MethodName) prog_15_method_61_code (6 : Nat) (Option.some Jvm.ClassFile.FieldType.int)) ∈ lw_all := lw_g (lw_at lw_m9 212 rfl) rfl
theorem q2209 : (Jvm.Cond.instanceMethod ({ cls := "HabitRegistryModel", name := "habitCount", desc := "()I" } : Jvm.MethodName)) ∈ lw_all := lw_g (lw_at lw_m9 214 rfl) rfl
theorem q2210 : (Jvm.Cond.selects "HabitRegistryModel" ({ cls := "HabitRegistryModel", name := "habitCount", desc := "()I" } : Jvm.MethodName) ({ cls := "HabitRegistryModel", name := "habitCount", desc := "()I" } : Jvm.MethodName)) ∈ lw_all := lw_g (lw_at lw_m9 215 rfl) rfl
theorem q2211 : (Jvm.Cond.code ({ cls := "HabitRegistryModel", name := "habitCount", desc := "()I" } : Jvm.MethodName) prog_15_method_62_code (1 : Nat) (Option.some Jvm.ClassFile.FieldType.int)) ∈ lw_all := lw_g (lw_at lw_m9 216 rfl) rfl
theorem q2213 : (Jvm.Cond.instanceMethod ({ cls := "HabitRegistryModel", name := "kindOf", desc := "(I)C" } : Jvm.MethodName)) ∈ lw_all := lw_g (lw_at lw_m9 218 rfl) rfl
theorem q2214 : (Jvm.Cond.selects "HabitRegistryModel" ({ cls := "HabitRegistryModel", name := "kindOf", desc := "(I)C" } : Jvm.MethodName) ({ cls := "HabitRegistryModel", name := "kindOf", desc := "(I)C" } : Jvm.MethodName)) ∈ lw_all := lw_g (lw_at lw_m9 219 rfl) rfl
theorem q2215 : (Jvm.Cond.code ({ cls := "HabitRegistryModel", name := "kindOf", desc := "(I)C" } : Jvm.MethodName) prog_15_method_64_code (2 : Nat) (Option.some Jvm.ClassFile.FieldType.char)) ∈ lw_all := lw_g (lw_at lw_m9 220 rfl) rfl
theorem q2216 : (Jvm.Cond.methodLink "HabitRegistryModel" (166 : Nat) ({ cls := "HabitRegistryModel", name := "isNone", desc := "(I)Z" } : Jvm.MethodName)) ∈ lw_all := lw_g (lw_at lw_m9 221 rfl) rfl
theorem q2217 : (Jvm.Cond.privateMethod ({ cls := "HabitRegistryModel", name := "isNone", desc := "(I)Z" } : Jvm.MethodName)) ∈ lw_tbl := lw_at lw_m9 222 rfl
theorem q2218 : (Jvm.Cond.instanceMethod ({ cls := "HabitRegistryModel", name := "isNone", desc := "(I)Z" } : Jvm.MethodName)) ∈ lw_all := lw_g (lw_at lw_m9 223 rfl) rfl
theorem q2219 : (Jvm.Cond.code ({ cls := "HabitRegistryModel", name := "isNone", desc := "(I)Z" } : Jvm.MethodName) prog_15_method_63_code (2 : Nat) (Option.some Jvm.ClassFile.FieldType.boolean)) ∈ lw_all := lw_g (lw_at lw_m9 224 rfl) rfl
theorem q2220 : (Jvm.Cond.methodLink "HabitRegistryModel" (169 : Nat) ({ cls := "HabitRegistryModel", name := "letterOf", desc := "(I)C" } : Jvm.MethodName)) ∈ lw_all := lw_g (lw_at lw_m9 225 rfl) rfl
theorem q2221 : (Jvm.Cond.static ({ cls := "HabitRegistryModel", name := "letterOf", desc := "(I)C" } : Jvm.MethodName)) ∈ lw_all := lw_g (lw_at lw_m9 226 rfl) rfl
theorem q2222 : (Jvm.Cond.code ({ cls := "HabitRegistryModel", name := "letterOf", desc := "(I)C" } : Jvm.MethodName) prog_15_method_53_code (1 : Nat) (Option.some Jvm.ClassFile.FieldType.char)) ∈ lw_all := lw_g (lw_at lw_m9 227 rfl) rfl
theorem q2224 : (Jvm.Cond.instanceMethod ({ cls := "HabitRegistryModel", name := "strengthOf", desc := "(I)I" } : Jvm.MethodName)) ∈ lw_all := lw_g (lw_at lw_m9 229 rfl) rfl
theorem q2225 : (Jvm.Cond.selects "HabitRegistryModel" ({ cls := "HabitRegistryModel", name := "strengthOf", desc := "(I)I" } : Jvm.MethodName) ({ cls := "HabitRegistryModel", name := "strengthOf", desc := "(I)I" } : Jvm.MethodName)) ∈ lw_all := lw_g (lw_at lw_m9 230 rfl) rfl
theorem q2226 : (Jvm.Cond.code ({ cls := "HabitRegistryModel", name := "strengthOf", desc := "(I)I" } : Jvm.MethodName) prog_15_method_65_code (2 : Nat) (Option.some Jvm.ClassFile.FieldType.int)) ∈ lw_all := lw_g (lw_at lw_m9 231 rfl) rfl
theorem q2228 : (Jvm.Cond.instanceMethod ({ cls := "HabitRegistryModel", name := "holderOf", desc := "(I)I" } : Jvm.MethodName)) ∈ lw_all := lw_g (lw_at lw_m9 233 rfl) rfl
theorem q2229 : (Jvm.Cond.selects "HabitRegistryModel" ({ cls := "HabitRegistryModel", name := "holderOf", desc := "(I)I" } : Jvm.MethodName) ({ cls := "HabitRegistryModel", name := "holderOf", desc := "(I)I" } : Jvm.MethodName)) ∈ lw_all := lw_g (lw_at lw_m9 234 rfl) rfl
theorem q2230 : (Jvm.Cond.code ({ cls := "HabitRegistryModel", name := "holderOf", desc := "(I)I" } : Jvm.MethodName) prog_15_method_66_code (2 : Nat) (Option.some Jvm.ClassFile.FieldType.int)) ∈ lw_all := lw_g (lw_at lw_m9 235 rfl) rfl
theorem q2232 : (Jvm.Cond.instanceMethod ({ cls := "HabitRegistryModel", name := "isExtinct", desc := "(I)Z" } : Jvm.MethodName)) ∈ lw_all := lw_g (lw_at lw_m9 237 rfl) rfl
theorem q2233 : (Jvm.Cond.selects "HabitRegistryModel" ({ cls := "HabitRegistryModel", name := "isExtinct", desc := "(I)Z" } : Jvm.MethodName) ({ cls := "HabitRegistryModel", name := "isExtinct", desc := "(I)Z" } : Jvm.MethodName)) ∈ lw_all := lw_g (lw_at lw_m9 238 rfl) rfl
theorem q2234 : (Jvm.Cond.code ({ cls := "HabitRegistryModel", name := "isExtinct", desc := "(I)Z" } : Jvm.MethodName) prog_15_method_67_code (2 : Nat) (Option.some Jvm.ClassFile.FieldType.boolean)) ∈ lw_all := lw_g (lw_at lw_m9 239 rfl) rfl
theorem q2236 : (Jvm.Cond.instanceMethod ({ cls := "HabitRegistryModel", name := "isEntailed", desc := "(I)Z" } : Jvm.MethodName)) ∈ lw_all := lw_g (lw_at lw_m10 1 rfl) rfl
theorem q2237 : (Jvm.Cond.selects "HabitRegistryModel" ({ cls := "HabitRegistryModel", name := "isEntailed", desc := "(I)Z" } : Jvm.MethodName) ({ cls := "HabitRegistryModel", name := "isEntailed", desc := "(I)Z" } : Jvm.MethodName)) ∈ lw_all := lw_g (lw_at lw_m10 2 rfl) rfl
theorem q2238 : (Jvm.Cond.code ({ cls := "HabitRegistryModel", name := "isEntailed", desc := "(I)Z" } : Jvm.MethodName) prog_15_method_68_code (2 : Nat) (Option.some Jvm.ClassFile.FieldType.boolean)) ∈ lw_all := lw_g (lw_at lw_m10 3 rfl) rfl
theorem q2240 : (Jvm.Cond.instanceMethod ({ cls := "HabitRegistryModel", name := "isPractised", desc := "(I)Z" } : Jvm.MethodName)) ∈ lw_all := lw_g (lw_at lw_m10 5 rfl) rfl
theorem q2241 : (Jvm.Cond.selects "HabitRegistryModel" ({ cls := "HabitRegistryModel", name := "isPractised", desc := "(I)Z" } : Jvm.MethodName) ({ cls := "HabitRegistryModel", name := "isPractised", desc := "(I)Z" } : Jvm.MethodName)) ∈ lw_all := lw_g (lw_at lw_m10 6 rfl) rfl
theorem q2242 : (Jvm.Cond.code ({ cls := "HabitRegistryModel", name := "isPractised", desc := "(I)Z" } : Jvm.MethodName) prog_15_method_69_code (2 : Nat) (Option.some Jvm.ClassFile.FieldType.boolean)) ∈ lw_all := lw_g (lw_at lw_m10 7 rfl) rfl
theorem q2244 : (Jvm.Cond.instanceMethod ({ cls := "HabitRegistryModel", name := "habitOf", desc := "(IC)I" } : Jvm.MethodName)) ∈ lw_all := lw_g (lw_at lw_m10 9 rfl) rfl
theorem q2245 : (Jvm.Cond.selects "HabitRegistryModel" ({ cls := "HabitRegistryModel", name := "habitOf", desc := "(IC)I" } : Jvm.MethodName) ({ cls := "HabitRegistryModel", name := "habitOf", desc := "(IC)I" } : Jvm.MethodName)) ∈ lw_all := lw_g (lw_at lw_m10 10 rfl) rfl
theorem q2246 : (Jvm.Cond.code ({ cls := "HabitRegistryModel", name := "habitOf", desc := "(IC)I" } : Jvm.MethodName) prog_15_method_70_code (4 : Nat) (Option.some Jvm.ClassFile.FieldType.int)) ∈ lw_all := lw_g (lw_at lw_m10 11 rfl) rfl
theorem q2248 : (Jvm.Cond.instanceMethod ({ cls := "HabitRegistryModel", name := "habitStrength", desc := "(I)I" } : Jvm.MethodName)) ∈ lw_all := lw_g (lw_at lw_m10 13 rfl) rfl
theorem q2249 : (Jvm.Cond.selects "HabitRegistryModel" ({ cls := "HabitRegistryModel", name := "habitStrength", desc := "(I)I" } : Jvm.MethodName) ({ cls := "HabitRegistryModel", name := "habitStrength", desc := "(I)I" } : Jvm.MethodName)) ∈ lw_all := lw_g (lw_at lw_m10 14 rfl) rfl
theorem q2250 : (Jvm.Cond.code ({ cls := "HabitRegistryModel", name := "habitStrength", desc := "(I)I" } : Jvm.MethodName) prog_15_method_72_code (2 : Nat) (Option.some Jvm.ClassFile.FieldType.int)) ∈ lw_all := lw_g (lw_at lw_m10 15 rfl) rfl
theorem q2251 : (Jvm.Cond.methodLink "HabitRegistryModel" (173 : Nat) ({ cls := "HabitRegistryModel", name := "sumOf", desc := "(I)I" } : Jvm.MethodName)) ∈ lw_all := lw_g (lw_at lw_m10 16 rfl) rfl
theorem q2252 : (Jvm.Cond.privateMethod ({ cls := "HabitRegistryModel", name := "sumOf", desc := "(I)I" } : Jvm.MethodName)) ∈ lw_tbl := lw_at lw_m10 17 rfl
theorem q2253 : (Jvm.Cond.instanceMethod ({ cls := "HabitRegistryModel", name := "sumOf", desc := "(I)I" } : Jvm.MethodName)) ∈ lw_all := lw_g (lw_at lw_m10 18 rfl) rfl
theorem q2254 : (Jvm.Cond.code ({ cls := "HabitRegistryModel", name := "sumOf", desc := "(I)I" } : Jvm.MethodName) prog_15_method_71_code (4 : Nat) (Option.some Jvm.ClassFile.FieldType.int)) ∈ lw_all := lw_g (lw_at lw_m10 19 rfl) rfl
theorem q2256 : (Jvm.Cond.instanceMethod ({ cls := "HabitRegistryModel", name := "passYears", desc := "(I)I" } : Jvm.MethodName)) ∈ lw_all := lw_g (lw_at lw_m10 21 rfl) rfl
theorem q2257 : (Jvm.Cond.selects "HabitRegistryModel" ({ cls := "HabitRegistryModel", name := "passYears", desc := "(I)I" } : Jvm.MethodName) ({ cls := "HabitRegistryModel", name := "passYears", desc := "(I)I" } : Jvm.MethodName)) ∈ lw_all := lw_g (lw_at lw_m10 22 rfl) rfl
theorem q2258 : (Jvm.Cond.code ({ cls := "HabitRegistryModel", name := "passYears", desc := "(I)I" } : Jvm.MethodName) prog_15_method_74_code (4 : Nat) (Option.some Jvm.ClassFile.FieldType.int)) ∈ lw_all := lw_g (lw_at lw_m10 23 rfl) rfl
theorem q2259 : (Jvm.Cond.methodLink "HabitRegistryModel" (176 : Nat) ({ cls := "HabitRegistryModel", name := "yearGoes", desc := "()I" } : Jvm.MethodName)) ∈ lw_all := lw_g (lw_at lw_m10 24 rfl) rfl
theorem q2260 : (Jvm.Cond.privateMethod ({ cls := "HabitRegistryModel", name := "yearGoes", desc := "()I" } : Jvm.MethodName)) ∈ lw_tbl := lw_at lw_m10 25 rfl
theorem q2261 : (Jvm.Cond.instanceMethod ({ cls := "HabitRegistryModel", name := "yearGoes", desc := "()I" } : Jvm.MethodName)) ∈ lw_all := lw_g (lw_at lw_m10 26 rfl) rfl
theorem q2262 : (Jvm.Cond.code ({ cls := "HabitRegistryModel", name := "yearGoes", desc := "()I" } : Jvm.MethodName) prog_15_method_73_code (3 : Nat) (Option.some Jvm.ClassFile.FieldType.int)) ∈ lw_all := lw_g (lw_at lw_m10 27 rfl) rfl
theorem q2264 : (Jvm.Cond.instanceMethod ({ cls := "HabitRegistryModel", name := "year", desc := "()I" } : Jvm.MethodName)) ∈ lw_all := lw_g (lw_at lw_m10 29 rfl) rfl
theorem q2265 : (Jvm.Cond.selects "HabitRegistryModel" ({ cls := "HabitRegistryModel", name := "year", desc := "()I" } : Jvm.MethodName) ({ cls := "HabitRegistryModel", name := "year", desc := "()I" } : Jvm.MethodName)) ∈ lw_all := lw_g (lw_at lw_m10 30 rfl) rfl
theorem q2266 : (Jvm.Cond.code ({ cls := "HabitRegistryModel", name := "year", desc := "()I" } : Jvm.MethodName) prog_15_method_75_code (1 : Nat) (Option.some Jvm.ClassFile.FieldType.int)) ∈ lw_all := lw_g (lw_at lw_m10 31 rfl) rfl
theorem q2268 : (Jvm.Cond.instanceMethod ({ cls := "HabitRegistryModel", name := "yearsLeft", desc := "(I)I" } : Jvm.MethodName)) ∈ lw_all := lw_g (lw_at lw_m10 33 rfl) rfl
theorem q2269 : (Jvm.Cond.selects "HabitRegistryModel" ({ cls := "HabitRegistryModel", name := "yearsLeft", desc := "(I)I" } : Jvm.MethodName) ({ cls := "HabitRegistryModel", name := "yearsLeft", desc := "(I)I" } : Jvm.MethodName)) ∈ lw_all := lw_g (lw_at lw_m10 34 rfl) rfl
theorem q2270 : (Jvm.Cond.code ({ cls := "HabitRegistryModel", name := "yearsLeft", desc := "(I)I" } : Jvm.MethodName) prog_15_method_76_code (2 : Nat) (Option.some Jvm.ClassFile.FieldType.int)) ∈ lw_all := lw_g (lw_at lw_m10 35 rfl) rfl
theorem q2272 : (Jvm.Cond.instanceMethod ({ cls := "HabitRegistryModel", name := "lapsedCount", desc := "()I" } : Jvm.MethodName)) ∈ lw_all := lw_g (lw_at lw_m10 37 rfl) rfl
theorem q2273 : (Jvm.Cond.selects "HabitRegistryModel" ({ cls := "HabitRegistryModel", name := "lapsedCount", desc := "()I" } : Jvm.MethodName) ({ cls := "HabitRegistryModel", name := "lapsedCount", desc := "()I" } : Jvm.MethodName)) ∈ lw_all := lw_g (lw_at lw_m10 38 rfl) rfl
theorem q2274 : (Jvm.Cond.code ({ cls := "HabitRegistryModel", name := "lapsedCount", desc := "()I" } : Jvm.MethodName) prog_15_method_77_code (1 : Nat) (Option.some Jvm.ClassFile.FieldType.int)) ∈ lw_all := lw_g (lw_at lw_m10 39 rfl) rfl
theorem q2276 : (Jvm.Cond.instanceMethod ({ cls := "HabitRegistryModel", name := "mergedCount", desc := "()I" } : Jvm.MethodName)) ∈ lw_all := lw_g (lw_at lw_m10 41 rfl) rfl
theorem q2277 : (Jvm.Cond.selects "HabitRegistryModel" ({ cls := "HabitRegistryModel", name := "mergedCount", desc := "()I" } : Jvm.MethodName) ({ cls := "HabitRegistryModel", name := "mergedCount", desc := "()I" } : Jvm.MethodName)) ∈ lw_all := lw_g (lw_at lw_m10 42 rfl) rfl
theorem q2278 : (Jvm.Cond.code ({ cls := "HabitRegistryModel", name := "mergedCount", desc := "()I" } : Jvm.MethodName) prog_15_method_78_code (1 : Nat) (Option.some Jvm.ClassFile.FieldType.int)) ∈ lw_all := lw_g (lw_at lw_m10 43 rfl) rfl
theorem q2280 : (Jvm.Cond.instanceMethod ({ cls := "HabitRegistryModel", name := "brokenCount", desc := "()I" } : Jvm.MethodName)) ∈ lw_all := lw_g (lw_at lw_m10 45 rfl) rfl
theorem q2281 : (Jvm.Cond.selects "HabitRegistryModel" ({ cls := "HabitRegistryModel", name := "brokenCount", desc := "()I" } : Jvm.MethodName) ({ cls := "HabitRegistryModel", name := "brokenCount", desc := "()I" } : Jvm.MethodName)) ∈ lw_all := lw_g (lw_at lw_m10 46 rfl) rfl
theorem q2282 : (Jvm.Cond.code ({ cls := "HabitRegistryModel", name := "brokenCount", desc := "()I" } : Jvm.MethodName) prog_15_method_79_code (1 : Nat) (Option.some Jvm.ClassFile.FieldType.int)) ∈ lw_all := lw_g (lw_at lw_m10 47 rfl) rfl
theorem q2284 : (Jvm.Cond.instanceMethod ({ cls := "HabitRegistryModel", name := "totalStrength", desc := "()I" } : Jvm.MethodName)) ∈ lw_all := lw_g (lw_at lw_m10 49 rfl) rfl
theorem q2285 : (Jvm.Cond.selects "HabitRegistryModel" ({ cls := "HabitRegistryModel", name := "totalStrength", desc := "()I" } : Jvm.MethodName) ({ cls := "HabitRegistryModel", name := "totalStrength", desc := "()I" } : Jvm.MethodName)) ∈ lw_all := lw_g (lw_at lw_m10 50 rfl) rfl
theorem q2286 : (Jvm.Cond.code ({ cls := "HabitRegistryModel", name := "totalStrength", desc := "()I" } : Jvm.MethodName) prog_15_method_81_code (1 : Nat) (Option.some Jvm.ClassFile.FieldType.int)) ∈ lw_all := lw_g (lw_at lw_m10 51 rfl) rfl
theorem q2287 : (Jvm.Cond.methodLink "HabitRegistryModel" (179 : Nat) ({ cls := "HabitRegistryModel", name := "total", desc := "()I" } : Jvm.MethodName)) ∈ lw_all := lw_g (lw_at lw_m10 52 rfl) rfl
theorem q2288 : (Jvm.Cond.privateMethod ({ cls := "HabitRegistryModel", name := "total", desc := "()I" } : Jvm.MethodName)) ∈ lw_tbl := lw_at lw_m10 53 rfl
theorem q2289 : (Jvm.Cond.instanceMethod ({ cls := "HabitRegistryModel", name := "total", desc := "()I" } : Jvm.MethodName)) ∈ lw_all := lw_g (lw_at lw_m10 54 rfl) rfl
theorem q2290 : (Jvm.Cond.code ({ cls := "HabitRegistryModel", name := "total", desc := "()I" } : Jvm.MethodName) prog_15_method_80_code (3 : Nat) (Option.some Jvm.ClassFile.FieldType.int)) ∈ lw_all := lw_g (lw_at lw_m10 55 rfl) rfl
theorem q2292 : (Jvm.Cond.instanceMethod ({ cls := "HabitRegistryModel", name := "totalStrengthByPeople", desc := "()I" } : Jvm.MethodName)) ∈ lw_all := lw_g (lw_at lw_m10 57 rfl) rfl
theorem q2293 : (Jvm.Cond.selects "HabitRegistryModel" ({ cls := "HabitRegistryModel", name := "totalStrengthByPeople", desc := "()I" } : Jvm.MethodName) ({ cls := "HabitRegistryModel", name := "totalStrengthByPeople", desc := "()I" } : Jvm.MethodName)) ∈ lw_all := lw_g (lw_at lw_m10 58 rfl) rfl
theorem q2294 : (Jvm.Cond.code ({ cls := "HabitRegistryModel", name := "totalStrengthByPeople", desc := "()I" } : Jvm.MethodName) prog_15_method_82_code (1 : Nat) (Option.some Jvm.ClassFile.FieldType.int)) ∈ lw_all := lw_g (lw_at lw_m10 59 rfl) rfl
theorem q2296 : (Jvm.Cond.instanceMethod ({ cls := "HabitRegistryModel", name := "habitByStrength", desc := "(I)I" } : Jvm.MethodName)) ∈ lw_all := lw_g (lw_at lw_m10 61 rfl) rfl
theorem q2297 : (Jvm.Cond.selects "HabitRegistryModel" ({ cls := "HabitRegistryModel", name := "habitByStrength", desc := "(I)I" } : Jvm.MethodName) ({ cls := "HabitRegistryModel", name := "habitByStrength", desc := "(I)I" } : Jvm.MethodName)) ∈ lw_all := lw_g (lw_at lw_m10 62 rfl) rfl
theorem q2298 : (Jvm.Cond.code ({ cls := "HabitRegistryModel", name := "habitByStrength", desc := "(I)I" } : Jvm.MethodName) prog_15_method_83_code (5 : Nat) (Option.some Jvm.ClassFile.FieldType.int)) ∈ lw_all := lw_g (lw_at lw_m10 63 rfl) rfl
theorem q2300 : (Jvm.Cond.instanceMethod ({ cls := "HabitRegistryModel", name := "personByStrength", desc := "(I)I" } : Jvm.MethodName)) ∈ lw_all := lw_g (lw_at lw_m10 65 rfl) rfl
theorem q2301 : (Jvm.Cond.selects "HabitRegistryModel" ({ cls := "HabitRegistryModel", name := "personByStrength", desc := "(I)I" } : Jvm.MethodName) ({ cls := "HabitRegistryModel", name := "personByStrength", desc := "(I)I" } : Jvm.MethodName)) ∈ lw_all := lw_g (lw_at lw_m10 66 rfl) rfl
theorem q2302 : (Jvm.Cond.code ({ cls := "HabitRegistryModel", name := "personByStrength", desc := "(I)I" } : Jvm.MethodName) prog_15_method_85_code (5 : Nat) (Option.some Jvm.ClassFile.FieldType.int)) ∈ lw_all := lw_g (lw_at lw_m10 67 rfl) rfl
theorem q2303 : (Jvm.Cond.methodLink "HabitRegistryModel" (182 : Nat) ({ cls := "HabitRegistryModel", name := "isAhead", desc := "(II)Z" } : Jvm.MethodName)) ∈ lw_all := lw_g (lw_at lw_m10 68 rfl) rfl
theorem q2304 : (Jvm.Cond.privateMethod ({ cls := "HabitRegistryModel", name := "isAhead", desc := "(II)Z" } : Jvm.MethodName)) ∈ lw_tbl := lw_at lw_m10 69 rfl
theorem q2305 : (Jvm.Cond.instanceMethod ({ cls := "HabitRegistryModel", name := "isAhead", desc := "(II)Z" } : Jvm.MethodName)) ∈ lw_all := lw_g (lw_at lw_m10 70 rfl) rfl
theorem q2306 : (Jvm.Cond.code ({ cls := "HabitRegistryModel", name := "isAhead", desc := "(II)Z" } : Jvm.MethodName) prog_15_method_84_code (5 : Nat) (Option.some Jvm.ClassFile.FieldType.boolean)) ∈ lw_all := lw_g (lw_at lw_m10 71 rfl) rfl
theorem q2308 : (Jvm.Cond.instanceMethod ({ cls := "HabitRegistryModel", name := "meanStrength", desc := "()D" } : Jvm.MethodName)) ∈ lw_all := lw_g (lw_at lw_m10 73 rfl) rfl
theorem q2309 : (Jvm.Cond.selects "HabitRegistryModel" ({ cls := "HabitRegistryModel", name := "meanStrength", desc := "()D" } : Jvm.MethodName) ({ cls := "HabitRegistryModel", name := "meanStrength", desc := "()D" } : Jvm.MethodName)) ∈ lw_all := lw_g (lw_at lw_m10 74 rfl) rfl
theorem q2310 : (Jvm.Cond.code ({ cls := "HabitRegistryModel", name := "meanStrength", desc := "()D" } : Jvm.MethodName) prog_15_method_87_code (1 : Nat) (Option.some Jvm.ClassFile.FieldType.double)) ∈ lw_all := lw_g (lw_at lw_m10 75 rfl) rfl
theorem q2311 : (Jvm.Cond.methodLink "HabitRegistryModel" (185 : Nat) ({ cls := "HabitRegistryModel", name := "lasting", desc := "()I" } : Jvm.MethodName)) ∈ lw_all := lw_g (lw_at lw_m10 76 rfl) rfl
theorem q2312 : (Jvm.Cond.privateMethod ({ cls := "HabitRegistryModel", name := "lasting", desc := "()I" } : Jvm.MethodName)) ∈ lw_tbl := lw_at lw_m10 77 rfl
theorem q2313 : (Jvm.Cond.instanceMethod ({ cls := "HabitRegistryModel", name := "lasting", desc := "()I" } : Jvm.MethodName)) ∈ lw_all := lw_g (lw_at lw_m10 78 rfl) rfl
theorem q2314 : (Jvm.Cond.code ({ cls := "HabitRegistryModel", name := "lasting", desc := "()I" } : Jvm.MethodName) prog_15_method_86_code (3 : Nat) (Option.some Jvm.ClassFile.FieldType.int)) ∈ lw_all := lw_g (lw_at lw_m10 79 rfl) rfl
theorem q2316 : (Jvm.Cond.instanceMethod ({ cls := "HabitRegistryModel", name := "livingShare", desc := "()F" } : Jvm.MethodName)) ∈ lw_all := lw_g (lw_at lw_m10 81 rfl) rfl
theorem q2317 : (Jvm.Cond.selects "HabitRegistryModel" ({ cls := "HabitRegistryModel", name := "livingShare", desc := "()F" } : Jvm.MethodName) ({ cls := "HabitRegistryModel", name := "livingShare", desc := "()F" } : Jvm.MethodName)) ∈ lw_all := lw_g (lw_at lw_m10 82 rfl) rfl
theorem q2318 : (Jvm.Cond.code ({ cls := "HabitRegistryModel", name := "livingShare", desc := "()F" } : Jvm.MethodName) prog_15_method_88_code (1 : Nat) (Option.some Jvm.ClassFile.FieldType.float)) ∈ lw_all := lw_g (lw_at lw_m10 83 rfl) rfl
theorem q2320 : (Jvm.Cond.instanceMethod ({ cls := "HabitRegistryModel", name := "isConsistent", desc := "()Z" } : Jvm.MethodName)) ∈ lw_all := lw_g (lw_at lw_m10 85 rfl) rfl
theorem q2321 : (Jvm.Cond.selects "HabitRegistryModel" ({ cls := "HabitRegistryModel", name := "isConsistent", desc := "()Z" } : Jvm.MethodName) ({ cls := "HabitRegistryModel", name := "isConsistent", desc := "()Z" } : Jvm.MethodName)) ∈ lw_all := lw_g (lw_at lw_m10 86 rfl) rfl
theorem q2322 : (Jvm.Cond.code ({ cls := "HabitRegistryModel", name := "isConsistent", desc := "()Z" } : Jvm.MethodName) prog_15_method_89_code (1 : Nat) (Option.some Jvm.ClassFile.FieldType.boolean)) ∈ lw_all := lw_g (lw_at lw_m10 87 rfl) rfl
theorem q2324 : (Jvm.Cond.instanceMethod ({ cls := "HabitRegistryModel", name := "writePerson", desc := "(I)I" } : Jvm.MethodName)) ∈ lw_all := lw_g (lw_at lw_m10 89 rfl) rfl
theorem q2325 : (Jvm.Cond.selects "HabitRegistryModel" ({ cls := "HabitRegistryModel", name := "writePerson", desc := "(I)I" } : Jvm.MethodName) ({ cls := "HabitRegistryModel", name := "writePerson", desc := "(I)I" } : Jvm.MethodName)) ∈ lw_all := lw_g (lw_at lw_m10 90 rfl) rfl
theorem q2326 : (Jvm.Cond.code ({ cls := "HabitRegistryModel", name := "writePerson", desc := "(I)I" } : Jvm.MethodName) prog_15_method_92_code (4 : Nat) (Option.some Jvm.ClassFile.FieldType.int)) ∈ lw_all := lw_g (lw_at lw_m10 91 rfl) rfl
theorem q2327 : (Jvm.Cond.methodLink "HabitRegistryModel" (194 : Nat) ({ cls := "HabitRegistryModel", name := "writesNumber", desc := "(I)V" } : Jvm.MethodName)) ∈ lw_all := lw_g (lw_at lw_m10 92 rfl) rfl
theorem q2328 : (Jvm.Cond.privateMethod ({ cls := "HabitRegistryModel", name := "writesNumber", desc := "(I)V" } : Jvm.MethodName)) ∈ lw_tbl := lw_at lw_m10 93 rfl
theorem q2329 : (Jvm.Cond.instanceMethod ({ cls := "HabitRegistryModel", name := "writesNumber", desc := "(I)V" } : Jvm.MethodName)) ∈ lw_all := lw_g (lw_at lw_m10 94 rfl) rfl
theorem q2330 : (Jvm.Cond.code ({ cls := "HabitRegistryModel", name := "writesNumber", desc := "(I)V" } : Jvm.MethodName) prog_15_method_91_code (2 : Nat) (Option.none : Option Jvm.ClassFile.FieldType)) ∈ lw_all := lw_g (lw_at lw_m10 95 rfl) rfl
theorem q2331 : (Jvm.Cond.methodLink "HabitRegistryModel" (191 : Nat) ({ cls := "HabitRegistryModel", name := "writes", desc := "(I)V" } : Jvm.MethodName)) ∈ lw_all := lw_g (lw_at lw_m10 96 rfl) rfl
theorem q2332 : (Jvm.Cond.privateMethod ({ cls := "HabitRegistryModel", name := "writes", desc := "(I)V" } : Jvm.MethodName)) ∈ lw_tbl := lw_at lw_m10 97 rfl
theorem q2333 : (Jvm.Cond.instanceMethod ({ cls := "HabitRegistryModel", name := "writes", desc := "(I)V" } : Jvm.MethodName)) ∈ lw_all := lw_g (lw_at lw_m10 98 rfl) rfl
theorem q2334 : (Jvm.Cond.code ({ cls := "HabitRegistryModel", name := "writes", desc := "(I)V" } : Jvm.MethodName) prog_15_method_90_code (2 : Nat) (Option.none : Option Jvm.ClassFile.FieldType)) ∈ lw_all := lw_g (lw_at lw_m10 99 rfl) rfl
theorem q2336 : (Jvm.Cond.instanceMethod ({ cls := "HabitRegistryModel", name := "writeLine", desc := "(I)I" } : Jvm.MethodName)) ∈ lw_all := lw_g (lw_at lw_m10 101 rfl) rfl
theorem q2337 : (Jvm.Cond.selects "HabitRegistryModel" ({ cls := "HabitRegistryModel", name := "writeLine", desc := "(I)I" } : Jvm.MethodName) ({ cls := "HabitRegistryModel", name := "writeLine", desc := "(I)I" } : Jvm.MethodName)) ∈ lw_all := lw_g (lw_at lw_m10 102 rfl) rfl
theorem q2338 : (Jvm.Cond.code ({ cls := "HabitRegistryModel", name := "writeLine", desc := "(I)I" } : Jvm.MethodName) prog_15_method_93_code (3 : Nat) (Option.some Jvm.ClassFile.FieldType.int)) ∈ lw_all := lw_g (lw_at lw_m10 103 rfl) rfl
theorem q2340 : (Jvm.Cond.instanceMethod ({ cls := "HabitRegistryModel", name := "outputAt", desc := "(I)C" } : Jvm.MethodName)) ∈ lw_all := lw_g (lw_at lw_m10 105 rfl) rfl
theorem q2341 : (Jvm.Cond.selects "HabitRegistryModel" ({ cls := "HabitRegistryModel", name := "outputAt", desc := "(I)C" } : Jvm.MethodName) ({ cls := "HabitRegistryModel", name := "outputAt", desc := "(I)C" } : Jvm.MethodName)) ∈ lw_all := lw_g (lw_at lw_m10 106 rfl) rfl
theorem q2342 : (Jvm.Cond.code ({ cls := "HabitRegistryModel", name := "outputAt", desc := "(I)C" } : Jvm.MethodName) prog_15_method_94_code (2 : Nat) (Option.some Jvm.ClassFile.FieldType.char)) ∈ lw_all := lw_g (lw_at lw_m10 107 rfl) rfl
theorem q2344 : (Jvm.Cond.instanceMethod ({ cls := "HabitRegistryModel", name := "appendInput", desc := "(C)I" } : Jvm.MethodName)) ∈ lw_all := lw_g (lw_at lw_m10 109 rfl) rfl
theorem q2345 : (Jvm.Cond.selects "HabitRegistryModel" ({ cls := "HabitRegistryModel", name := "appendInput", desc := "(C)I" } : Jvm.MethodName) ({ cls := "HabitRegistryModel", name := "appendInput", desc := "(C)I" } : Jvm.MethodName)) ∈ lw_all := lw_g (lw_at lw_m10 110 rfl) rfl
theorem q2346 : (Jvm.Cond.code ({ cls := "HabitRegistryModel", name := "appendInput", desc := "(C)I" } : Jvm.MethodName) prog_15_method_95_code (2 : Nat) (Option.some Jvm.ClassFile.FieldType.int)) ∈ lw_all := lw_g (lw_at lw_m10 111 rfl) rfl
theorem q2348 : (Jvm.Cond.instanceMethod ({ cls := "HabitRegistryModel", name := "execute", desc := "()I" } : Jvm.MethodName)) ∈ lw_all := lw_g (lw_at lw_m10 113 rfl) rfl
theorem q2349 : (Jvm.Cond.selects "HabitRegistryModel" ({ cls := "HabitRegistryModel", name := "execute", desc := "()I" } : Jvm.MethodName) ({ cls := "HabitRegistryModel", name := "execute", desc := "()I" } : Jvm.MethodName)) ∈ lw_all := lw_g (lw_at lw_m10 114 rfl) rfl
theorem q2350 : (Jvm.Cond.code ({ cls := "HabitRegistryModel", name := "execute", desc := "()I" } : Jvm.MethodName) prog_15_method_104_code (4 : Nat) (Option.some Jvm.ClassFile.FieldType.int)) ∈ lw_all := lw_g (lw_at lw_m10 115 rfl) rfl
theorem q2351 : (Jvm.Cond.methodLink "HabitRegistryModel" (253 : Nat) ({ cls := "HabitRegistryModel", name := "isText", desc := "()Z" } : Jvm.MethodName)) ∈ lw_all := lw_g (lw_at lw_m10 116 rfl) rfl
theorem q2352 : (Jvm.Cond.privateMethod ({ cls := "HabitRegistryModel", name := "isText", desc := "()Z" } : Jvm.MethodName)) ∈ lw_tbl := lw_at lw_m10 117 rfl
theorem q2353 : (Jvm.Cond.instanceMethod ({ cls := "HabitRegistryModel", name := "isText", desc := "()Z" } : Jvm.MethodName)) ∈ lw_all := lw_g (lw_at lw_m10 118 rfl) rfl
theorem q2354 : (Jvm.Cond.code ({ cls := "HabitRegistryModel", name := "isText", desc := "()Z" } : Jvm.MethodName) prog_15_method_101_code (1 : Nat) (Option.some Jvm.ClassFile.FieldType.boolean)) ∈ lw_all := lw_g (lw_at lw_m10 119 rfl) rfl
theorem q2355 : (Jvm.Cond.methodLink "HabitRegistryModel" (218 : Nat) ({ cls := "HabitRegistryModel", name := "commandHere", desc := "()Z" } : Jvm.MethodName)) ∈ lw_all := lw_g (lw_at lw_m10 120 rfl) rfl
theorem q2356 : (Jvm.Cond.privateMethod ({ cls := "HabitRegistryModel", name := "commandHere", desc := "()Z" } : Jvm.MethodName)) ∈ lw_tbl := lw_at lw_m10 121 rfl
theorem q2357 : (Jvm.Cond.instanceMethod ({ cls := "HabitRegistryModel", name := "commandHere", desc := "()Z" } : Jvm.MethodName)) ∈ lw_all := lw_g (lw_at lw_m10 122 rfl) rfl
theorem q2358 : (Jvm.Cond.code ({ cls := "HabitRegistryModel", name := "commandHere", desc := "()Z" } : Jvm.MethodName) prog_15_method_100_code (2 : Nat) (Option.some Jvm.ClassFile.FieldType.boolean)) ∈ lw_all := lw_g (lw_at lw_m10 123 rfl) rfl
theorem q2359 : (Jvm.Cond.methodLink "HabitRegistryModel" (203 : Nat) ({ cls := "HabitRegistryModel", name := "here", desc := "()I" } : Jvm.MethodName)) ∈ lw_all := lw_g (lw_at lw_m10 124 rfl) rfl
theorem q2360 : (Jvm.Cond.privateMethod ({ cls := "HabitRegistryModel", name := "here", desc := "()I" } : Jvm.MethodName)) ∈ lw_tbl := lw_at lw_m10 125 rfl
theorem q2361 : (Jvm.Cond.instanceMethod ({ cls := "HabitRegistryModel", name := "here", desc := "()I" } : Jvm.MethodName)) ∈ lw_all := lw_g (lw_at lw_m10 126 rfl) rfl
theorem q2362 : (Jvm.Cond.code ({ cls := "HabitRegistryModel", name := "here", desc := "()I" } : Jvm.MethodName) prog_15_method_96_code (1 : Nat) (Option.some Jvm.ClassFile.FieldType.int)) ∈ lw_all := lw_g (lw_at lw_m10 127 rfl) rfl
theorem q2363 : (Jvm.Cond.methodLink "HabitRegistryModel" (206 : Nat) ({ cls := "HabitRegistryModel", name := "skips", desc := "(I)Z" } : Jvm.MethodName)) ∈ lw_all := lw_g (lw_at lw_m10 128 rfl) rfl
theorem q2364 : (Jvm.Cond.privateMethod ({ cls := "HabitRegistryModel", name := "skips", desc := "(I)Z" } : Jvm.MethodName)) ∈ lw_tbl := lw_at lw_m10 129 rfl
theorem q2365 : (Jvm.Cond.instanceMethod ({ cls := "HabitRegistryModel", name := "skips", desc := "(I)Z" } : Jvm.MethodName)) ∈ lw_all := lw_g (lw_at lw_m10 130 rfl) rfl
theorem q2366 : (Jvm.Cond.code ({ cls := "HabitRegistryModel", name := "skips", desc := "(I)Z" } : Jvm.MethodName) prog_15_method_97_code (2 : Nat) (Option.some Jvm.ClassFile.FieldType.boolean)) ∈ lw_all := lw_g (lw_at lw_m10 131 rfl) rfl
theorem q2367 : (Jvm.Cond.methodLink "HabitRegistryModel" (212 : Nat) ({ cls := "HabitRegistryModel", name := "figures", desc := "(II)Z" } : Jvm.MethodName)) ∈ lw_all := lw_g (lw_at lw_m10 132 rfl) rfl
theorem q2368 : (Jvm.Cond.privateMethod ({ cls := "HabitRegistryModel", name := "figures", desc := "(II)Z" } : Jvm.MethodName)) ∈ lw_tbl := lw_at lw_m10 133 rfl
theorem q2369 : (Jvm.Cond.instanceMethod ({ cls := "HabitRegistryModel", name := "figures", desc := "(II)Z" } : Jvm.MethodName)) ∈ lw_all := lw_g (lw_at lw_m10 134 rfl) rfl
theorem q2370 : (Jvm.Cond.code ({ cls := "HabitRegistryModel", name := "figures", desc := "(II)Z" } : Jvm.MethodName) prog_15_method_98_code (4 : Nat) (Option.some Jvm.ClassFile.FieldType.boolean)) ∈ lw_all := lw_g (lw_at lw_m10 135 rfl) rfl
theorem q2371 : (Jvm.Cond.methodLink "HabitRegistryModel" (215 : Nat) ({ cls := "HabitRegistryModel", name := "kindHere", desc := "(I)Z" } : Jvm.MethodName)) ∈ lw_all := lw_g (lw_at lw_m10 136 rfl) rfl
theorem q2372 : (Jvm.Cond.privateMethod ({ cls := "HabitRegistryModel", name := "kindHere", desc := "(I)Z" } : Jvm.MethodName)) ∈ lw_tbl := lw_at lw_m10 137 rfl
theorem q2373 : (Jvm.Cond.instanceMethod ({ cls := "HabitRegistryModel", name := "kindHere", desc := "(I)Z" } : Jvm.MethodName)) ∈ lw_all := lw_g (lw_at lw_m10 138 rfl) rfl
theorem q2374 : (Jvm.Cond.code ({ cls := "HabitRegistryModel", name := "kindHere", desc := "(I)Z" } : Jvm.MethodName) prog_15_method_99_code (2 : Nat) (Option.some Jvm.ClassFile.FieldType.boolean)) ∈ lw_all := lw_g (lw_at lw_m10 139 rfl) rfl
theorem q2375 : (Jvm.Cond.methodLink "HabitRegistryModel" (256 : Nat) ({ cls := "HabitRegistryModel", name := "carries", desc := "(I)I" } : Jvm.MethodName)) ∈ lw_all := lw_g (lw_at lw_m10 140 rfl) rfl
theorem q2376 : (Jvm.Cond.privateMethod ({ cls := "HabitRegistryModel", name := "carries", desc := "(I)I" } : Jvm.MethodName)) ∈ lw_tbl := lw_at lw_m10 141 rfl
theorem q2377 : (Jvm.Cond.instanceMethod ({ cls := "HabitRegistryModel", name := "carries", desc := "(I)I" } : Jvm.MethodName)) ∈ lw_all := lw_g (lw_at lw_m10 142 rfl) rfl
theorem q2378 : (Jvm.Cond.code ({ cls := "HabitRegistryModel", name := "carries", desc := "(I)I" } : Jvm.MethodName) prog_15_method_102_code (3 : Nat) (Option.some Jvm.ClassFile.FieldType.int)) ∈ lw_all := lw_g (lw_at lw_m10 143 rfl) rfl
theorem q2379 : (Jvm.Cond.methodLink "HabitRegistryModel" (222 : Nat) ({ cls := "HabitRegistryModel", name := "addFounder", desc := "()I" } : Jvm.MethodName)) ∈ lw_all := lw_g (lw_at lw_m10 144 rfl) rfl
theorem q2380 : (Jvm.Cond.methodLink "HabitRegistryModel" (225 : Nat) ({ cls := "HabitRegistryModel", name := "addChild", desc := "(I)I" } : Jvm.MethodName)) ∈ lw_all := lw_g (lw_at lw_m10 145 rfl) rfl
theorem q2381 : (Jvm.Cond.methodLink "HabitRegistryModel" (228 : Nat) ({ cls := "HabitRegistryModel", name := "bury", desc := "(I)I" } : Jvm.MethodName)) ∈ lw_all := lw_g (lw_at lw_m10 146 rfl) rfl
theorem q2382 : (Jvm.Cond.methodLink "HabitRegistryModel" (231 : Nat) ({ cls := "HabitRegistryModel", name := "addHabit", desc := "(ICI)I" } : Jvm.MethodName)) ∈ lw_all := lw_g (lw_at lw_m10 147 rfl) rfl
theorem q2383 : (Jvm.Cond.methodLink "HabitRegistryModel" (235 : Nat) ({ cls := "HabitRegistryModel", name := "practise", desc := "(I)I" } : Jvm.MethodName)) ∈ lw_all := lw_g (lw_at lw_m10 148 rfl) rfl
theorem q2384 : (Jvm.Cond.methodLink "HabitRegistryModel" (238 : Nat) ({ cls := "HabitRegistryModel", name := "neglect", desc := "(I)I" } : Jvm.MethodName)) ∈ lw_all := lw_g (lw_at lw_m10 149 rfl) rfl
theorem q2385 : (Jvm.Cond.methodLink "HabitRegistryModel" (241 : Nat) ({ cls := "HabitRegistryModel", name := "entail", desc := "(I)I" } : Jvm.MethodName)) ∈ lw_all := lw_g (lw_at lw_m10 150 rfl) rfl
theorem q2386 : (Jvm.Cond.methodLink "HabitRegistryModel" (244 : Nat) ({ cls := "HabitRegistryModel", name := "breakEntail", desc := "(I)I" } : Jvm.MethodName)) ∈ lw_all := lw_g (lw_at lw_m10 151 rfl) rfl
theorem q2387 : (Jvm.Cond.methodLink "HabitRegistryModel" (247 : Nat) ({ cls := "HabitRegistryModel", name := "give", desc := "(II)I" } : Jvm.MethodName)) ∈ lw_all := lw_g (lw_at lw_m10 152 rfl) rfl
theorem q2388 : (Jvm.Cond.methodLink "HabitRegistryModel" (250 : Nat) ({ cls := "HabitRegistryModel", name := "passYears", desc := "(I)I" } : Jvm.MethodName)) ∈ lw_all := lw_g (lw_at lw_m10 153 rfl) rfl
theorem q2389 : (Jvm.Cond.methodLink "HabitRegistryModel" (259 : Nat) ({ cls := "HabitRegistryModel", name := "rejectsInput", desc := "(I)I" } : Jvm.MethodName)) ∈ lw_all := lw_g (lw_at lw_m10 154 rfl) rfl
theorem q2390 : (Jvm.Cond.privateMethod ({ cls := "HabitRegistryModel", name := "rejectsInput", desc := "(I)I" } : Jvm.MethodName)) ∈ lw_tbl := lw_at lw_m10 155 rfl
theorem q2391 : (Jvm.Cond.instanceMethod ({ cls := "HabitRegistryModel", name := "rejectsInput", desc := "(I)I" } : Jvm.MethodName)) ∈ lw_all := lw_g (lw_at lw_m10 156 rfl) rfl
theorem q2392 : (Jvm.Cond.code ({ cls := "HabitRegistryModel", name := "rejectsInput", desc := "(I)I" } : Jvm.MethodName) prog_15_method_103_code (3 : Nat) (Option.some Jvm.ClassFile.FieldType.int)) ∈ lw_all := lw_g (lw_at lw_m10 157 rfl) rfl
theorem q2394 : (Jvm.Cond.instanceMethod ({ cls := "HabitRegistryModel", name := "syntaxErrorOffset", desc := "()I" } : Jvm.MethodName)) ∈ lw_all := lw_g (lw_at lw_m10 159 rfl) rfl
theorem q2395 : (Jvm.Cond.selects "HabitRegistryModel" ({ cls := "HabitRegistryModel", name := "syntaxErrorOffset", desc := "()I" } : Jvm.MethodName) ({ cls := "HabitRegistryModel", name := "syntaxErrorOffset", desc := "()I" } : Jvm.MethodName)) ∈ lw_all := lw_g (lw_at lw_m10 160 rfl) rfl
theorem q2396 : (Jvm.Cond.code ({ cls := "HabitRegistryModel", name := "syntaxErrorOffset", desc := "()I" } : Jvm.MethodName) prog_15_method_105_code (1 : Nat) (Option.some Jvm.ClassFile.FieldType.int)) ∈ lw_all := lw_g (lw_at lw_m10 161 rfl) rfl
theorem q2398 : (Jvm.Cond.instanceMethod ({ cls := "HabitRegistryModel", name := "rejectionReason", desc := "()I" } : Jvm.MethodName)) ∈ lw_all := lw_g (lw_at lw_m10 163 rfl) rfl
theorem q2399 : (Jvm.Cond.selects "HabitRegistryModel" ({ cls := "HabitRegistryModel", name := "rejectionReason", desc := "()I" } : Jvm.MethodName) ({ cls := "HabitRegistryModel", name := "rejectionReason", desc := "()I" } : Jvm.MethodName)) ∈ lw_all := lw_g (lw_at lw_m10 164 rfl) rfl
theorem q2400 : (Jvm.Cond.code ({ cls := "HabitRegistryModel", name := "rejectionReason", desc := "()I" } : Jvm.MethodName) prog_15_method_106_code (1 : Nat) (Option.some Jvm.ClassFile.FieldType.int)) ∈ lw_all := lw_g (lw_at lw_m10 165 rfl) rfl
theorem q2402 : (Jvm.Cond.instanceMethod ({ cls := "HabitRegistryModel", name := "rejectionDetail", desc := "()I" } : Jvm.MethodName)) ∈ lw_all := lw_g (lw_at lw_m10 167 rfl) rfl
theorem q2403 : (Jvm.Cond.selects "HabitRegistryModel" ({ cls := "HabitRegistryModel", name := "rejectionDetail", desc := "()I" } : Jvm.MethodName) ({ cls := "HabitRegistryModel", name := "rejectionDetail", desc := "()I" } : Jvm.MethodName)) ∈ lw_all := lw_g (lw_at lw_m10 168 rfl) rfl
theorem q2404 : (Jvm.Cond.code ({ cls := "HabitRegistryModel", name := "rejectionDetail", desc := "()I" } : Jvm.MethodName) prog_15_method_107_code (1 : Nat) (Option.some Jvm.ClassFile.FieldType.int)) ∈ lw_all := lw_g (lw_at lw_m10 169 rfl) rfl
theorem q2406 : (Jvm.Cond.instanceMethod ({ cls := "HabitRegistryModel", name := "causeReason", desc := "()I" } : Jvm.MethodName)) ∈ lw_all := lw_g (lw_at lw_m10 171 rfl) rfl
theorem q2407 : (Jvm.Cond.selects "HabitRegistryModel" ({ cls := "HabitRegistryModel", name := "causeReason", desc := "()I" } : Jvm.MethodName) ({ cls := "HabitRegistryModel", name := "causeReason", desc := "()I" } : Jvm.MethodName)) ∈ lw_all := lw_g (lw_at lw_m10 172 rfl) rfl
theorem q2408 : (Jvm.Cond.code ({ cls := "HabitRegistryModel", name := "causeReason", desc := "()I" } : Jvm.MethodName) prog_15_method_108_code (1 : Nat) (Option.some Jvm.ClassFile.FieldType.int)) ∈ lw_all := lw_g (lw_at lw_m10 173 rfl) rfl
theorem q2410 : (Jvm.Cond.instanceMethod ({ cls := "HabitRegistryModel", name := "undo", desc := "()I" } : Jvm.MethodName)) ∈ lw_all := lw_g (lw_at lw_m10 175 rfl) rfl
theorem q2411 : (Jvm.Cond.selects "HabitRegistryModel" ({ cls := "HabitRegistryModel", name := "undo", desc := "()I" } : Jvm.MethodName) ({ cls := "HabitRegistryModel", name := "undo", desc := "()I" } : Jvm.MethodName)) ∈ lw_all := lw_g (lw_at lw_m10 176 rfl) rfl
theorem q2412 : (Jvm.Cond.code ({ cls := "HabitRegistryModel", name := "undo", desc := "()I" } : Jvm.MethodName) prog_15_method_109_code (1 : Nat) (Option.some Jvm.ClassFile.FieldType.int)) ∈ lw_all := lw_g (lw_at lw_m10 177 rfl) rfl
theorem q2414 : (Jvm.Cond.instanceMethod ({ cls := "HabitRegistryModel", name := "undoCount", desc := "()I" } : Jvm.MethodName)) ∈ lw_all := lw_g (lw_at lw_m10 179 rfl) rfl
theorem q2415 : (Jvm.Cond.selects "HabitRegistryModel" ({ cls := "HabitRegistryModel", name := "undoCount", desc := "()I" } : Jvm.MethodName) ({ cls := "HabitRegistryModel", name := "undoCount", desc := "()I" } : Jvm.MethodName)) ∈ lw_all := lw_g (lw_at lw_m10 180 rfl) rfl
theorem q2416 : (Jvm.Cond.code ({ cls := "HabitRegistryModel", name := "undoCount", desc := "()I" } : Jvm.MethodName) prog_15_method_110_code (1 : Nat) (Option.some Jvm.ClassFile.FieldType.int)) ∈ lw_all := lw_g (lw_at lw_m10 181 rfl) rfl
theorem q2418 : (Jvm.Cond.instanceMethod ({ cls := "HabitRegistryModel", name := "saveSnapshot", desc := "()I" } : Jvm.MethodName)) ∈ lw_all := lw_g (lw_at lw_m10 183 rfl) rfl
theorem q2419 : (Jvm.Cond.selects "HabitRegistryModel" ({ cls := "HabitRegistryModel", name := "saveSnapshot", desc := "()I" } : Jvm.MethodName) ({ cls := "HabitRegistryModel", name := "saveSnapshot", desc := "()I" } : Jvm.MethodName)) ∈ lw_all := lw_g (lw_at lw_m10 184 rfl) rfl
theorem q2420 : (Jvm.Cond.code ({ cls := "HabitRegistryModel", name := "saveSnapshot", desc := "()I" } : Jvm.MethodName) prog_15_method_111_code (1 : Nat) (Option.some Jvm.ClassFile.FieldType.int)) ∈ lw_all := lw_g (lw_at lw_m10 185 rfl) rfl
theorem q2422 : (Jvm.Cond.instanceMethod ({ cls := "HabitRegistryModel", name := "restoreSnapshot", desc := "()I" } : Jvm.MethodName)) ∈ lw_all := lw_g (lw_at lw_m10 187 rfl) rfl
theorem q2423 : (Jvm.Cond.selects "HabitRegistryModel" ({ cls := "HabitRegistryModel", name := "restoreSnapshot", desc := "()I" } : Jvm.MethodName) ({ cls := "HabitRegistryModel", name := "restoreSnapshot", desc := "()I" } : Jvm.MethodName)) ∈ lw_all := lw_g (lw_at lw_m10 188 rfl) rfl
theorem q2424 : (Jvm.Cond.code ({ cls := "HabitRegistryModel", name := "restoreSnapshot", desc := "()I" } : Jvm.MethodName) prog_15_method_112_code (1 : Nat) (Option.some Jvm.ClassFile.FieldType.int)) ∈ lw_all := lw_g (lw_at lw_m10 189 rfl) rfl
theorem q2448 : (Jvm.Cond.castable "HabitRegistryModel" "java/lang/Object") ∈ lw_tbl := lw_at lw_m10 213 rfl
theorem in_X3 : ∀ w ∈ wsX30, w ∈ lw_all := lw_in wsX30 [1934, 1936, 1938, 1940, 1942, 1944, 1946, 1948, 1950, 1952, 1954, 1956, 1958, 1960, 1962, 1964, 1966, 1968, 1970, 1972] (by decide +kernel) (by decide +kernel)
/-! HabitRegistry$Person -/
def RX4 : String := "HabitRegistry$Person"
def TX4 : u_T := fun k => match k with
  | 0 => ("HabitRegistry$Person", "index", "I", true)
  | 1 => ("HabitRegistry$Person", "parent", "LHabitRegistry$Person;", true)
  | 2 => ("HabitRegistry$Person", "children", "Ljava/util/ArrayList;", true)
  | _ => ("HabitRegistry$Person", "alive", "Z", false)
def tyX4 : Nat → FieldType := fun k => match k with
  | 0 => .int
  | 1 => .object "HabitRegistry$Person"
  | 2 => .object "java/util/ArrayList"
  | _ => .boolean
abbrev wsX40 : List Cond := u_ws RX4 TX4 4
theorem nmX4 : ∀ a, a < 4 → ∀ b, b < 4 → a ≠ b → (TX4 a).2.1 ≠ (TX4 b).2.1 := by decide +kernel
theorem tyX4_ok : ∀ k, k < 4 → parseFieldDescriptor (TX4 k).2.2.1 = some (tyX4 k) := by decide +kernel
abbrev cX4_generation : ByteArray := prog_9_method_2_code
def yX4_generation : MethodName := ⟨RX4, "generation", "()I"⟩
abbrev cX4_firstLiving : ByteArray := prog_9_method_5_code
def yX4_firstLiving : MethodName := ⟨RX4, "firstLiving", "(LHabitRegistry$Person;)LHabitRegistry$Person;"⟩
abbrev cX4_isAncestorOf : ByteArray := prog_9_method_4_code
def yX4_isAncestorOf : MethodName := ⟨RX4, "isAncestorOf", "(LHabitRegistry$Person;)Z"⟩
abbrev cX4_branchBelow : ByteArray := prog_9_method_6_code
def yX4_branchBelow : MethodName := ⟨RX4, "branchBelow", "(LHabitRegistry$Person;)LHabitRegistry$Person;"⟩
abbrev cX4_founder : ByteArray := prog_9_method_3_code
def yX4_founder : MethodName := ⟨RX4, "founder", "()LHabitRegistry$Person;"⟩
abbrev cX4_init : ByteArray := prog_9_method_1_code
def yX4_init : MethodName := ⟨RX4, "<init>", "(ILHabitRegistry$Person;)V"⟩
theorem q93 : (Jvm.Cond.initialized "HabitRegistry$Person") ∈ lw_all := lw_g (lw_at lw_m1 18 rfl) rfl
theorem q310 : (Jvm.Cond.instanceMethod ({ cls := "HabitRegistry$Person", name := "generation", desc := "()I" } : Jvm.MethodName)) ∈ lw_all := lw_g (lw_at lw_m1 235 rfl) rfl
theorem q311 : (Jvm.Cond.selects "HabitRegistry$Person" ({ cls := "HabitRegistry$Person", name := "generation", desc := "()I" } : Jvm.MethodName) ({ cls := "HabitRegistry$Person", name := "generation", desc := "()I" } : Jvm.MethodName)) ∈ lw_all := lw_g (lw_at lw_m1 236 rfl) rfl
theorem q312 : (Jvm.Cond.code ({ cls := "HabitRegistry$Person", name := "generation", desc := "()I" } : Jvm.MethodName) prog_9_method_2_code (3 : Nat) (Option.some Jvm.ClassFile.FieldType.int)) ∈ lw_all := lw_g (lw_at lw_m1 237 rfl) rfl
theorem q488 : (Jvm.Cond.instanceMethod ({ cls := "HabitRegistry$Person", name := "firstLiving", desc := "(LHabitRegistry$Person;)LHabitRegistry$Person;" } : Jvm.MethodName)) ∈ lw_all := lw_g (lw_at lw_m2 173 rfl) rfl
theorem q489 : (Jvm.Cond.selects "HabitRegistry$Person" ({ cls := "HabitRegistry$Person", name := "firstLiving", desc := "(LHabitRegistry$Person;)LHabitRegistry$Person;" } : Jvm.MethodName) ({ cls := "HabitRegistry$Person", name := "firstLiving", desc := "(LHabitRegistry$Person;)LHabitRegistry$Person;" } : Jvm.MethodName)) ∈ lw_all := lw_g (lw_at lw_m2 174 rfl) rfl
theorem q490 : (Jvm.Cond.code ({ cls := "HabitRegistry$Person", name := "firstLiving", desc := "(LHabitRegistry$Person;)LHabitRegistry$Person;" } : Jvm.MethodName) prog_9_method_5_code (5 : Nat) (Option.some (Jvm.ClassFile.FieldType.object "HabitRegistry$Person"))) ∈ lw_all := lw_g (lw_at lw_m2 175 rfl) rfl
theorem q491 : (Jvm.Cond.methodLink "HabitRegistry$Person" (28 : Nat) ({ cls := "java/util/ArrayList", name := "size", desc := "()I" } : Jvm.MethodName)) ∈ lw_all := lw_g (lw_at lw_m2 176 rfl) rfl
theorem q492 : (Jvm.Cond.methodLink "HabitRegistry$Person" (32 : Nat) ({ cls := "java/util/ArrayList", name := "get", desc := "(I)Ljava/lang/Object;" } : Jvm.MethodName)) ∈ lw_all := lw_g (lw_at lw_m2 177 rfl) rfl
theorem q506 : (Jvm.Cond.classLink "HabitRegistry$Person" (11 : Nat) "HabitRegistry$Person") ∈ lw_all := lw_g (lw_at lw_m2 191 rfl) rfl
theorem q507 : (Jvm.Cond.methodLink "HabitRegistry$Person" (36 : Nat) ({ cls := "HabitRegistry$Person", name := "firstLiving", desc := "(LHabitRegistry$Person;)LHabitRegistry$Person;" } : Jvm.MethodName)) ∈ lw_all := lw_g (lw_at lw_m2 192 rfl) rfl
theorem q524 : (Jvm.Cond.instanceMethod ({ cls := "HabitRegistry$Person", name := "isAncestorOf", desc := "(LHabitRegistry$Person;)Z" } : Jvm.MethodName)) ∈ lw_all := lw_g (lw_at lw_m2 209 rfl) rfl
theorem q525 : (Jvm.Cond.selects "HabitRegistry$Person" ({ cls := "HabitRegistry$Person", name := "isAncestorOf", desc := "(LHabitRegistry$Person;)Z" } : Jvm.MethodName) ({ cls := "HabitRegistry$Person", name := "isAncestorOf", desc := "(LHabitRegistry$Person;)Z" } : Jvm.MethodName)) ∈ lw_all := lw_g (lw_at lw_m2 210 rfl) rfl
theorem q526 : (Jvm.Cond.code ({ cls := "HabitRegistry$Person", name := "isAncestorOf", desc := "(LHabitRegistry$Person;)Z" } : Jvm.MethodName) prog_9_method_4_code (3 : Nat) (Option.some Jvm.ClassFile.FieldType.boolean)) ∈ lw_all := lw_g (lw_at lw_m2 211 rfl) rfl
theorem q532 : (Jvm.Cond.instanceMethod ({ cls := "HabitRegistry$Person", name := "branchBelow", desc := "(LHabitRegistry$Person;)LHabitRegistry$Person;" } : Jvm.MethodName)) ∈ lw_all := lw_g (lw_at lw_m2 217 rfl) rfl
theorem q533 : (Jvm.Cond.selects "HabitRegistry$Person" ({ cls := "HabitRegistry$Person", name := "branchBelow", desc := "(LHabitRegistry$Person;)LHabitRegistry$Person;" } : Jvm.MethodName) ({ cls := "HabitRegistry$Person", name := "branchBelow", desc := "(LHabitRegistry$Person;)LHabitRegistry$Person;" } : Jvm.MethodName)) ∈ lw_all := lw_g (lw_at lw_m2 218 rfl) rfl
theorem q534 : (Jvm.Cond.code ({ cls := "HabitRegistry$Person", name := "branchBelow", desc := "(LHabitRegistry$Person;)LHabitRegistry$Person;" } : Jvm.MethodName) prog_9_method_6_code (3 : Nat) (Option.some (Jvm.ClassFile.FieldType.object "HabitRegistry$Person"))) ∈ lw_all := lw_g (lw_at lw_m2 219 rfl) rfl
theorem q536 : (Jvm.Cond.instanceMethod ({ cls := "HabitRegistry$Person", name := "founder", desc := "()LHabitRegistry$Person;" } : Jvm.MethodName)) ∈ lw_all := lw_g (lw_at lw_m2 221 rfl) rfl
theorem q537 : (Jvm.Cond.selects "HabitRegistry$Person" ({ cls := "HabitRegistry$Person", name := "founder", desc := "()LHabitRegistry$Person;" } : Jvm.MethodName) ({ cls := "HabitRegistry$Person", name := "founder", desc := "()LHabitRegistry$Person;" } : Jvm.MethodName)) ∈ lw_all := lw_g (lw_at lw_m2 222 rfl) rfl
theorem q538 : (Jvm.Cond.code ({ cls := "HabitRegistry$Person", name := "founder", desc := "()LHabitRegistry$Person;" } : Jvm.MethodName) prog_9_method_3_code (2 : Nat) (Option.some (Jvm.ClassFile.FieldType.object "HabitRegistry$Person"))) ∈ lw_all := lw_g (lw_at lw_m2 223 rfl) rfl
theorem q624 : (Jvm.Cond.instantiable "HabitRegistry$Person" (4 : Nat)) ∈ lw_all := lw_g (lw_at lw_m3 69 rfl) rfl
theorem q626 : (Jvm.Cond.instanceMethod ({ cls := "HabitRegistry$Person", name := "<init>", desc := "(ILHabitRegistry$Person;)V" } : Jvm.MethodName)) ∈ lw_all := lw_g (lw_at lw_m3 71 rfl) rfl
theorem q627 : (Jvm.Cond.code ({ cls := "HabitRegistry$Person", name := "<init>", desc := "(ILHabitRegistry$Person;)V" } : Jvm.MethodName) prog_9_method_1_code (3 : Nat) (Option.none : Option Jvm.ClassFile.FieldType)) ∈ lw_all := lw_g (lw_at lw_m3 72 rfl) rfl
theorem q628 : (Jvm.Cond.methodLink "HabitRegistry$Person" (1 : Nat) ({ cls := "java/lang/Object", name := "<init>", desc := "()V" } : Jvm.MethodName)) ∈ lw_all := lw_g (lw_at lw_m3 73 rfl) rfl
theorem q629 : (Jvm.Cond.classLink "HabitRegistry$Person" (7 : Nat) "java/util/ArrayList") ∈ lw_all := lw_g (lw_at lw_m3 74 rfl) rfl
theorem q630 : (Jvm.Cond.methodLink "HabitRegistry$Person" (9 : Nat) ({ cls := "java/util/ArrayList", name := "<init>", desc := "()V" } : Jvm.MethodName)) ∈ lw_all := lw_g (lw_at lw_m3 75 rfl) rfl
theorem q631 : (Jvm.Cond.fieldLink "HabitRegistry$Person" (20 : Nat) "HabitRegistry$Person" "index" "I") ∈ lw_all := lw_g (lw_at lw_m3 76 rfl) rfl
theorem q634 : (Jvm.Cond.fieldLink "HabitRegistry$Person" (24 : Nat) "HabitRegistry$Person" "parent" "LHabitRegistry$Person;") ∈ lw_all := lw_g (lw_at lw_m3 79 rfl) rfl
theorem q637 : (Jvm.Cond.fieldLink "HabitRegistry$Person" (10 : Nat) "HabitRegistry$Person" "children" "Ljava/util/ArrayList;") ∈ lw_all := lw_g (lw_at lw_m3 82 rfl) rfl
theorem q640 : (Jvm.Cond.fieldLink "HabitRegistry$Person" (16 : Nat) "HabitRegistry$Person" "alive" "Z") ∈ lw_all := lw_g (lw_at lw_m3 85 rfl) rfl
theorem q643 : (Jvm.Cond.laysFinal "HabitRegistry$Person" "HabitRegistry$Person" "index" "I") ∈ lw_all := lw_g (lw_at lw_m3 88 rfl) rfl
theorem q644 : (Jvm.Cond.soleField "HabitRegistry$Person" "index") ∈ lw_all := lw_g (lw_at lw_m3 89 rfl) rfl
theorem q645 : (Jvm.Cond.laysFinal "HabitRegistry$Person" "HabitRegistry$Person" "parent" "LHabitRegistry$Person;") ∈ lw_all := lw_g (lw_at lw_m3 90 rfl) rfl
theorem q646 : (Jvm.Cond.soleField "HabitRegistry$Person" "parent") ∈ lw_all := lw_g (lw_at lw_m3 91 rfl) rfl
theorem q647 : (Jvm.Cond.laysFinal "HabitRegistry$Person" "HabitRegistry$Person" "children" "Ljava/util/ArrayList;") ∈ lw_all := lw_g (lw_at lw_m3 92 rfl) rfl
theorem q648 : (Jvm.Cond.soleField "HabitRegistry$Person" "children") ∈ lw_all := lw_g (lw_at lw_m3 93 rfl) rfl
theorem q649 : (Jvm.Cond.lays "HabitRegistry$Person" "HabitRegistry$Person" "alive" "Z") ∈ lw_all := lw_g (lw_at lw_m3 94 rfl) rfl
theorem q650 : (Jvm.Cond.soleField "HabitRegistry$Person" "alive") ∈ lw_all := lw_g (lw_at lw_m3 95 rfl) rfl
theorem q651 : (Jvm.Cond.superclass "HabitRegistry$Person" "java/lang/Object") ∈ lw_all := lw_g (lw_at lw_m3 96 rfl) rfl
theorem q690 : (Jvm.Cond.selects "HabitRegistry$Person" ({ cls := "java/lang/Object", name := "getClass", desc := "()Ljava/lang/Class;" } : Jvm.MethodName) ({ cls := "java/lang/Object", name := "getClass", desc := "()Ljava/lang/Class;" } : Jvm.MethodName)) ∈ lw_all := lw_g (lw_at lw_m3 135 rfl) rfl
theorem q2449 : (Jvm.Cond.castable "HabitRegistry$Person" "java/lang/Object") ∈ lw_tbl := lw_at lw_m10 214 rfl
theorem in_X4 : ∀ w ∈ wsX40, w ∈ lw_all := lw_in wsX40 [643, 645, 647, 649] (by decide +kernel) (by decide +kernel)
/-! HabitRegistry$Habit -/
def RX5 : String := "HabitRegistry$Habit"
def TX5 : u_T := fun k => match k with
  | 0 => ("HabitRegistry$Habit", "index", "I", true)
  | 1 => ("HabitRegistry$Habit", "kind", "C", true)
  | 2 => ("HabitRegistry$Habit", "strength", "I", false)
  | 3 => ("HabitRegistry$Habit", "entailed", "Z", false)
  | 4 => ("HabitRegistry$Habit", "practised", "Z", false)
  | _ => ("HabitRegistry$Habit", "holder", "LHabitRegistry$Person;", false)
def tyX5 : Nat → FieldType := fun k => match k with
  | 0 => .int
  | 1 => .char
  | 2 => .int
  | 3 => .boolean
  | 4 => .boolean
  | _ => .object "HabitRegistry$Person"
abbrev wsX50 : List Cond := u_ws RX5 TX5 6
theorem nmX5 : ∀ a, a < 6 → ∀ b, b < 6 → a ≠ b → (TX5 a).2.1 ≠ (TX5 b).2.1 := by decide +kernel
theorem tyX5_ok : ∀ k, k < 6 → parseFieldDescriptor (TX5 k).2.2.1 = some (tyX5 k) := by decide +kernel
abbrev cX5_isExtinct : ByteArray := prog_6_method_2_code
def yX5_isExtinct : MethodName := ⟨RX5, "isExtinct", "()Z"⟩
abbrev cX5_init : ByteArray := prog_6_method_1_code
def yX5_init : MethodName := ⟨RX5, "<init>", "(ICI)V"⟩
abbrev cX5_end : ByteArray := prog_6_method_3_code
def yX5_end : MethodName := ⟨RX5, "end", "()V"⟩
abbrev cX5_isBefore : ByteArray := prog_6_method_4_code
def yX5_isBefore : MethodName := ⟨RX5, "isBefore", "(LHabitRegistry$Habit;)Z"⟩
theorem q98 : (Jvm.Cond.initialized "HabitRegistry$Habit") ∈ lw_all := lw_g (lw_at lw_m1 23 rfl) rfl
theorem q162 : (Jvm.Cond.instanceMethod ({ cls := "HabitRegistry$Habit", name := "isExtinct", desc := "()Z" } : Jvm.MethodName)) ∈ lw_all := lw_g (lw_at lw_m1 87 rfl) rfl
theorem q163 : (Jvm.Cond.selects "HabitRegistry$Habit" ({ cls := "HabitRegistry$Habit", name := "isExtinct", desc := "()Z" } : Jvm.MethodName) ({ cls := "HabitRegistry$Habit", name := "isExtinct", desc := "()Z" } : Jvm.MethodName)) ∈ lw_all := lw_g (lw_at lw_m1 88 rfl) rfl
theorem q164 : (Jvm.Cond.code ({ cls := "HabitRegistry$Habit", name := "isExtinct", desc := "()Z" } : Jvm.MethodName) prog_6_method_2_code (1 : Nat) (Option.some Jvm.ClassFile.FieldType.boolean)) ∈ lw_all := lw_g (lw_at lw_m1 89 rfl) rfl
theorem q688 : (Jvm.Cond.selects "HabitRegistry$Habit" ({ cls := "java/lang/Object", name := "getClass", desc := "()Ljava/lang/Class;" } : Jvm.MethodName) ({ cls := "java/lang/Object", name := "getClass", desc := "()Ljava/lang/Class;" } : Jvm.MethodName)) ∈ lw_all := lw_g (lw_at lw_m3 133 rfl) rfl
theorem q721 : (Jvm.Cond.instantiable "HabitRegistry$Habit" (6 : Nat)) ∈ lw_all := lw_g (lw_at lw_m3 166 rfl) rfl
theorem q723 : (Jvm.Cond.instanceMethod ({ cls := "HabitRegistry$Habit", name := "<init>", desc := "(ICI)V" } : Jvm.MethodName)) ∈ lw_all := lw_g (lw_at lw_m3 168 rfl) rfl
theorem q724 : (Jvm.Cond.code ({ cls := "HabitRegistry$Habit", name := "<init>", desc := "(ICI)V" } : Jvm.MethodName) prog_6_method_1_code (4 : Nat) (Option.none : Option Jvm.ClassFile.FieldType)) ∈ lw_all := lw_g (lw_at lw_m3 169 rfl) rfl
theorem q725 : (Jvm.Cond.methodLink "HabitRegistry$Habit" (1 : Nat) ({ cls := "java/lang/Object", name := "<init>", desc := "()V" } : Jvm.MethodName)) ∈ lw_all := lw_g (lw_at lw_m3 170 rfl) rfl
theorem q726 : (Jvm.Cond.fieldLink "HabitRegistry$Habit" (7 : Nat) "HabitRegistry$Habit" "index" "I") ∈ lw_all := lw_g (lw_at lw_m3 171 rfl) rfl
theorem q729 : (Jvm.Cond.fieldLink "HabitRegistry$Habit" (13 : Nat) "HabitRegistry$Habit" "kind" "C") ∈ lw_all := lw_g (lw_at lw_m3 174 rfl) rfl
theorem q732 : (Jvm.Cond.fieldLink "HabitRegistry$Habit" (17 : Nat) "HabitRegistry$Habit" "strength" "I") ∈ lw_all := lw_g (lw_at lw_m3 177 rfl) rfl
theorem q736 : (Jvm.Cond.fieldLink "HabitRegistry$Habit" (24 : Nat) "HabitRegistry$Habit" "entailed" "Z") ∈ lw_all := lw_g (lw_at lw_m3 181 rfl) rfl
theorem q739 : (Jvm.Cond.fieldLink "HabitRegistry$Habit" (28 : Nat) "HabitRegistry$Habit" "practised" "Z") ∈ lw_all := lw_g (lw_at lw_m3 184 rfl) rfl
theorem q741 : (Jvm.Cond.fieldLink "HabitRegistry$Habit" (20 : Nat) "HabitRegistry$Habit" "holder" "LHabitRegistry$Person;") ∈ lw_all := lw_g (lw_at lw_m3 186 rfl) rfl
theorem q744 : (Jvm.Cond.laysFinal "HabitRegistry$Habit" "HabitRegistry$Habit" "index" "I") ∈ lw_all := lw_g (lw_at lw_m3 189 rfl) rfl
theorem q745 : (Jvm.Cond.soleField "HabitRegistry$Habit" "index") ∈ lw_all := lw_g (lw_at lw_m3 190 rfl) rfl
theorem q746 : (Jvm.Cond.laysFinal "HabitRegistry$Habit" "HabitRegistry$Habit" "kind" "C") ∈ lw_all := lw_g (lw_at lw_m3 191 rfl) rfl
theorem q747 : (Jvm.Cond.soleField "HabitRegistry$Habit" "kind") ∈ lw_all := lw_g (lw_at lw_m3 192 rfl) rfl
theorem q748 : (Jvm.Cond.lays "HabitRegistry$Habit" "HabitRegistry$Habit" "strength" "I") ∈ lw_all := lw_g (lw_at lw_m3 193 rfl) rfl
theorem q749 : (Jvm.Cond.soleField "HabitRegistry$Habit" "strength") ∈ lw_all := lw_g (lw_at lw_m3 194 rfl) rfl
theorem q750 : (Jvm.Cond.lays "HabitRegistry$Habit" "HabitRegistry$Habit" "entailed" "Z") ∈ lw_all := lw_g (lw_at lw_m3 195 rfl) rfl
theorem q751 : (Jvm.Cond.soleField "HabitRegistry$Habit" "entailed") ∈ lw_all := lw_g (lw_at lw_m3 196 rfl) rfl
theorem q752 : (Jvm.Cond.lays "HabitRegistry$Habit" "HabitRegistry$Habit" "practised" "Z") ∈ lw_all := lw_g (lw_at lw_m3 197 rfl) rfl
theorem q753 : (Jvm.Cond.soleField "HabitRegistry$Habit" "practised") ∈ lw_all := lw_g (lw_at lw_m3 198 rfl) rfl
theorem q754 : (Jvm.Cond.lays "HabitRegistry$Habit" "HabitRegistry$Habit" "holder" "LHabitRegistry$Person;") ∈ lw_all := lw_g (lw_at lw_m3 199 rfl) rfl
theorem q755 : (Jvm.Cond.soleField "HabitRegistry$Habit" "holder") ∈ lw_all := lw_g (lw_at lw_m3 200 rfl) rfl
theorem q756 : (Jvm.Cond.superclass "HabitRegistry$Habit" "java/lang/Object") ∈ lw_all := lw_g (lw_at lw_m3 201 rfl) rfl
theorem q889 : (Jvm.Cond.instanceMethod ({ cls := "HabitRegistry$Habit", name := "end", desc := "()V" } : Jvm.MethodName)) ∈ lw_all := lw_g (lw_at lw_m4 94 rfl) rfl
theorem q890 : (Jvm.Cond.selects "HabitRegistry$Habit" ({ cls := "HabitRegistry$Habit", name := "end", desc := "()V" } : Jvm.MethodName) ({ cls := "HabitRegistry$Habit", name := "end", desc := "()V" } : Jvm.MethodName)) ∈ lw_all := lw_g (lw_at lw_m4 95 rfl) rfl
theorem q891 : (Jvm.Cond.code ({ cls := "HabitRegistry$Habit", name := "end", desc := "()V" } : Jvm.MethodName) prog_6_method_3_code (1 : Nat) (Option.none : Option Jvm.ClassFile.FieldType)) ∈ lw_all := lw_g (lw_at lw_m4 96 rfl) rfl
theorem q1395 : (Jvm.Cond.instanceMethod ({ cls := "HabitRegistry$Habit", name := "isBefore", desc := "(LHabitRegistry$Habit;)Z" } : Jvm.MethodName)) ∈ lw_all := lw_g (lw_at lw_m6 120 rfl) rfl
theorem q1396 : (Jvm.Cond.selects "HabitRegistry$Habit" ({ cls := "HabitRegistry$Habit", name := "isBefore", desc := "(LHabitRegistry$Habit;)Z" } : Jvm.MethodName) ({ cls := "HabitRegistry$Habit", name := "isBefore", desc := "(LHabitRegistry$Habit;)Z" } : Jvm.MethodName)) ∈ lw_all := lw_g (lw_at lw_m6 121 rfl) rfl
theorem q1397 : (Jvm.Cond.code ({ cls := "HabitRegistry$Habit", name := "isBefore", desc := "(LHabitRegistry$Habit;)Z" } : Jvm.MethodName) prog_6_method_4_code (2 : Nat) (Option.some Jvm.ClassFile.FieldType.boolean)) ∈ lw_all := lw_g (lw_at lw_m6 122 rfl) rfl
theorem q2450 : (Jvm.Cond.castable "HabitRegistry$Habit" "java/lang/Object") ∈ lw_tbl := lw_at lw_m10 215 rfl
theorem in_X5 : ∀ w ∈ wsX50, w ∈ lw_all := lw_in wsX50 [744, 746, 748, 750, 752, 754] (by decide +kernel) (by decide +kernel)
/-! HabitRegistry$Command -/
def RX6 : String := "HabitRegistry$Command"
def TX6 : u_T := fun k => match k with
  | 0 => ("HabitRegistry$Command", "kind", "C", true)
  | 1 => ("HabitRegistry$Command", "first", "I", true)
  | 2 => ("HabitRegistry$Command", "second", "I", true)
  | _ => ("HabitRegistry$Command", "habitKind", "C", true)
def tyX6 : Nat → FieldType := fun k => match k with
  | 0 => .char
  | 1 => .int
  | 2 => .int
  | _ => .char
abbrev wsX60 : List Cond := u_ws RX6 TX6 4
theorem nmX6 : ∀ a, a < 4 → ∀ b, b < 4 → a ≠ b → (TX6 a).2.1 ≠ (TX6 b).2.1 := by decide +kernel
theorem tyX6_ok : ∀ k, k < 4 → parseFieldDescriptor (TX6 k).2.2.1 = some (tyX6 k) := by decide +kernel
abbrev cX6_init : ByteArray := prog_3_method_1_code
def yX6_init : MethodName := ⟨RX6, "<init>", "(CIIC)V"⟩
abbrev cX6_run : ByteArray := prog_3_method_3_code
def yX6_run : MethodName := ⟨RX6, "run", "(LHabitRegistry$Data;)I"⟩
abbrev cX6_isAccepted : ByteArray := prog_3_method_2_code
def yX6_isAccepted : MethodName := ⟨RX6, "isAccepted", "(LHabitRegistry$Data;)Z"⟩
theorem q99 : (Jvm.Cond.initialized "HabitRegistry$Command") ∈ lw_all := lw_g (lw_at lw_m1 24 rfl) rfl
theorem q686 : (Jvm.Cond.selects "HabitRegistry$Command" ({ cls := "java/lang/Object", name := "getClass", desc := "()Ljava/lang/Class;" } : Jvm.MethodName) ({ cls := "java/lang/Object", name := "getClass", desc := "()Ljava/lang/Class;" } : Jvm.MethodName)) ∈ lw_all := lw_g (lw_at lw_m3 131 rfl) rfl
theorem q772 : (Jvm.Cond.instantiable "HabitRegistry$Command" (4 : Nat)) ∈ lw_all := lw_g (lw_at lw_m3 217 rfl) rfl
theorem q774 : (Jvm.Cond.instanceMethod ({ cls := "HabitRegistry$Command", name := "<init>", desc := "(CIIC)V" } : Jvm.MethodName)) ∈ lw_all := lw_g (lw_at lw_m3 219 rfl) rfl
theorem q775 : (Jvm.Cond.code ({ cls := "HabitRegistry$Command", name := "<init>", desc := "(CIIC)V" } : Jvm.MethodName) prog_3_method_1_code (5 : Nat) (Option.none : Option Jvm.ClassFile.FieldType)) ∈ lw_all := lw_g (lw_at lw_m3 220 rfl) rfl
theorem q776 : (Jvm.Cond.methodLink "HabitRegistry$Command" (1 : Nat) ({ cls := "java/lang/Object", name := "<init>", desc := "()V" } : Jvm.MethodName)) ∈ lw_all := lw_g (lw_at lw_m3 221 rfl) rfl
theorem q777 : (Jvm.Cond.fieldLink "HabitRegistry$Command" (7 : Nat) "HabitRegistry$Command" "kind" "C") ∈ lw_all := lw_g (lw_at lw_m3 222 rfl) rfl
theorem q778 : (Jvm.Cond.fieldLink "HabitRegistry$Command" (13 : Nat) "HabitRegistry$Command" "first" "I") ∈ lw_all := lw_g (lw_at lw_m3 223 rfl) rfl
theorem q779 : (Jvm.Cond.fieldLink "HabitRegistry$Command" (17 : Nat) "HabitRegistry$Command" "second" "I") ∈ lw_all := lw_g (lw_at lw_m3 224 rfl) rfl
theorem q780 : (Jvm.Cond.fieldLink "HabitRegistry$Command" (20 : Nat) "HabitRegistry$Command" "habitKind" "C") ∈ lw_all := lw_g (lw_at lw_m3 225 rfl) rfl
theorem q781 : (Jvm.Cond.laysFinal "HabitRegistry$Command" "HabitRegistry$Command" "kind" "C") ∈ lw_all := lw_g (lw_at lw_m3 226 rfl) rfl
theorem q782 : (Jvm.Cond.soleField "HabitRegistry$Command" "kind") ∈ lw_all := lw_g (lw_at lw_m3 227 rfl) rfl
theorem q783 : (Jvm.Cond.laysFinal "HabitRegistry$Command" "HabitRegistry$Command" "first" "I") ∈ lw_all := lw_g (lw_at lw_m3 228 rfl) rfl
theorem q784 : (Jvm.Cond.soleField "HabitRegistry$Command" "first") ∈ lw_all := lw_g (lw_at lw_m3 229 rfl) rfl
theorem q785 : (Jvm.Cond.laysFinal "HabitRegistry$Command" "HabitRegistry$Command" "second" "I") ∈ lw_all := lw_g (lw_at lw_m3 230 rfl) rfl
theorem q786 : (Jvm.Cond.soleField "HabitRegistry$Command" "second") ∈ lw_all := lw_g (lw_at lw_m3 231 rfl) rfl
theorem q787 : (Jvm.Cond.laysFinal "HabitRegistry$Command" "HabitRegistry$Command" "habitKind" "C") ∈ lw_all := lw_g (lw_at lw_m3 232 rfl) rfl
theorem q788 : (Jvm.Cond.soleField "HabitRegistry$Command" "habitKind") ∈ lw_all := lw_g (lw_at lw_m3 233 rfl) rfl
theorem q789 : (Jvm.Cond.superclass "HabitRegistry$Command" "java/lang/Object") ∈ lw_all := lw_g (lw_at lw_m3 234 rfl) rfl
theorem q791 : (Jvm.Cond.instanceMethod ({ cls := "HabitRegistry$Command", name := "run", desc := "(LHabitRegistry$Data;)I" } : Jvm.MethodName)) ∈ lw_all := lw_g (lw_at lw_m3 236 rfl) rfl
theorem q792 : (Jvm.Cond.selects "HabitRegistry$Command" ({ cls := "HabitRegistry$Command", name := "run", desc := "(LHabitRegistry$Data;)I" } : Jvm.MethodName) ({ cls := "HabitRegistry$Command", name := "run", desc := "(LHabitRegistry$Data;)I" } : Jvm.MethodName)) ∈ lw_all := lw_g (lw_at lw_m3 237 rfl) rfl
theorem q793 : (Jvm.Cond.code ({ cls := "HabitRegistry$Command", name := "run", desc := "(LHabitRegistry$Data;)I" } : Jvm.MethodName) prog_3_method_3_code (2 : Nat) (Option.some Jvm.ClassFile.FieldType.int)) ∈ lw_all := lw_g (lw_at lw_m3 238 rfl) rfl
theorem q794 : (Jvm.Cond.methodLink "HabitRegistry$Command" (40 : Nat) ({ cls := "HabitRegistry$Command", name := "isAccepted", desc := "(LHabitRegistry$Data;)Z" } : Jvm.MethodName)) ∈ lw_all := lw_g (lw_at lw_m3 239 rfl) rfl
theorem q795 : (Jvm.Cond.privateMethod ({ cls := "HabitRegistry$Command", name := "isAccepted", desc := "(LHabitRegistry$Data;)Z" } : Jvm.MethodName)) ∈ lw_tbl := lw_at lw_m4 0 rfl
theorem q796 : (Jvm.Cond.instanceMethod ({ cls := "HabitRegistry$Command", name := "isAccepted", desc := "(LHabitRegistry$Data;)Z" } : Jvm.MethodName)) ∈ lw_all := lw_g (lw_at lw_m4 1 rfl) rfl
theorem q797 : (Jvm.Cond.code ({ cls := "HabitRegistry$Command", name := "isAccepted", desc := "(LHabitRegistry$Data;)Z" } : Jvm.MethodName) prog_3_method_2_code (2 : Nat) (Option.some Jvm.ClassFile.FieldType.boolean)) ∈ lw_all := lw_g (lw_at lw_m4 2 rfl) rfl
theorem q798 : (Jvm.Cond.methodLink "HabitRegistry$Command" (23 : Nat) ({ cls := "HabitRegistry$Data", name := "hasPerson", desc := "(I)Z" } : Jvm.MethodName)) ∈ lw_all := lw_g (lw_at lw_m4 3 rfl) rfl
theorem q805 : (Jvm.Cond.methodLinkNest "HabitRegistry$Command" (29 : Nat) ({ cls := "HabitRegistry", name := "isStrength", desc := "(I)Z" } : Jvm.MethodName) "HabitRegistry") ∈ lw_tbl := lw_at lw_m4 10 rfl
theorem q809 : (Jvm.Cond.methodLink "HabitRegistry$Command" (34 : Nat) ({ cls := "HabitRegistry$Data", name := "hasHabit", desc := "(I)Z" } : Jvm.MethodName)) ∈ lw_all := lw_g (lw_at lw_m4 14 rfl) rfl
theorem q813 : (Jvm.Cond.methodLinkNest "HabitRegistry$Command" (37 : Nat) ({ cls := "HabitRegistry", name := "areYears", desc := "(I)Z" } : Jvm.MethodName) "HabitRegistry") ∈ lw_tbl := lw_at lw_m4 18 rfl
theorem q816 : (Jvm.Cond.classLink "HabitRegistry$Command" (44 : Nat) "HabitRegistry$BadCommand") ∈ lw_all := lw_g (lw_at lw_m4 21 rfl) rfl
theorem q825 : (Jvm.Cond.methodLink "HabitRegistry$Command" (46 : Nat) ({ cls := "HabitRegistry$BadCommand", name := "<init>", desc := "()V" } : Jvm.MethodName)) ∈ lw_all := lw_g (lw_at lw_m4 30 rfl) rfl
theorem q837 : (Jvm.Cond.methodLink "HabitRegistry$Command" (47 : Nat) ({ cls := "HabitRegistry$Data", name := "addFounder", desc := "()I" } : Jvm.MethodName)) ∈ lw_all := lw_g (lw_at lw_m4 42 rfl) rfl
theorem q872 : (Jvm.Cond.methodLink "HabitRegistry$Command" (51 : Nat) ({ cls := "HabitRegistry$Data", name := "addChild", desc := "(I)I" } : Jvm.MethodName)) ∈ lw_all := lw_g (lw_at lw_m4 77 rfl) rfl
theorem q880 : (Jvm.Cond.methodLink "HabitRegistry$Command" (55 : Nat) ({ cls := "HabitRegistry$Data", name := "bury", desc := "(I)I" } : Jvm.MethodName)) ∈ lw_all := lw_g (lw_at lw_m4 85 rfl) rfl
theorem q899 : (Jvm.Cond.methodLink "HabitRegistry$Command" (58 : Nat) ({ cls := "HabitRegistry$Data", name := "addHabit", desc := "(ICI)I" } : Jvm.MethodName)) ∈ lw_all := lw_g (lw_at lw_m4 104 rfl) rfl
theorem q907 : (Jvm.Cond.methodLink "HabitRegistry$Command" (62 : Nat) ({ cls := "HabitRegistry$Data", name := "practise", desc := "(I)I" } : Jvm.MethodName)) ∈ lw_all := lw_g (lw_at lw_m4 112 rfl) rfl
theorem q915 : (Jvm.Cond.methodLink "HabitRegistry$Command" (65 : Nat) ({ cls := "HabitRegistry$Data", name := "neglect", desc := "(I)I" } : Jvm.MethodName)) ∈ lw_all := lw_g (lw_at lw_m4 120 rfl) rfl
theorem q923 : (Jvm.Cond.methodLink "HabitRegistry$Command" (68 : Nat) ({ cls := "HabitRegistry$Data", name := "entail", desc := "(I)I" } : Jvm.MethodName)) ∈ lw_all := lw_g (lw_at lw_m4 128 rfl) rfl
theorem q927 : (Jvm.Cond.methodLink "HabitRegistry$Command" (71 : Nat) ({ cls := "HabitRegistry$Data", name := "breakEntail", desc := "(I)I" } : Jvm.MethodName)) ∈ lw_all := lw_g (lw_at lw_m4 132 rfl) rfl
theorem q931 : (Jvm.Cond.methodLink "HabitRegistry$Command" (74 : Nat) ({ cls := "HabitRegistry$Data", name := "give", desc := "(II)I" } : Jvm.MethodName)) ∈ lw_all := lw_g (lw_at lw_m4 136 rfl) rfl
theorem q935 : (Jvm.Cond.methodLink "HabitRegistry$Command" (78 : Nat) ({ cls := "HabitRegistry$Data", name := "passYears", desc := "(I)I" } : Jvm.MethodName)) ∈ lw_all := lw_g (lw_at lw_m4 140 rfl) rfl
theorem q2451 : (Jvm.Cond.castable "HabitRegistry$Command" "java/lang/Object") ∈ lw_tbl := lw_at lw_m10 216 rfl
theorem in_X6 : ∀ w ∈ wsX60, w ∈ lw_all := lw_in wsX60 [781, 783, 785, 787] (by decide +kernel) (by decide +kernel)
/-! HabitRegistry$Failure -/
def RX7 : String := "HabitRegistry$Failure"
abbrev cX7_init : ByteArray := prog_5_method_1_code
def yX7_init : MethodName := ⟨RX7, "<init>", "(LHabitRegistry$Failure;)V"⟩
abbrev cX7_originReason : ByteArray := prog_5_method_4_code
def yX7_originReason : MethodName := ⟨RX7, "originReason", "()I"⟩
theorem q100 : (Jvm.Cond.initialized "HabitRegistry$Failure") ∈ lw_all := lw_g (lw_at lw_m1 25 rfl) rfl
theorem q829 : (Jvm.Cond.instanceMethod ({ cls := "HabitRegistry$Failure", name := "<init>", desc := "(LHabitRegistry$Failure;)V" } : Jvm.MethodName)) ∈ lw_all := lw_g (lw_at lw_m4 34 rfl) rfl
theorem q830 : (Jvm.Cond.code ({ cls := "HabitRegistry$Failure", name := "<init>", desc := "(LHabitRegistry$Failure;)V" } : Jvm.MethodName) prog_5_method_1_code (2 : Nat) (Option.none : Option Jvm.ClassFile.FieldType)) ∈ lw_all := lw_g (lw_at lw_m4 35 rfl) rfl
theorem q831 : (Jvm.Cond.methodLink "HabitRegistry$Failure" (1 : Nat) ({ cls := "java/lang/Exception", name := "<init>", desc := "()V" } : Jvm.MethodName)) ∈ lw_all := lw_g (lw_at lw_m4 36 rfl) rfl
theorem q832 : (Jvm.Cond.fieldLink "HabitRegistry$Failure" (7 : Nat) "HabitRegistry$Failure" "origin" "LHabitRegistry$Failure;") ∈ lw_all := lw_g (lw_at lw_m4 37 rfl) rfl
theorem q834 : (Jvm.Cond.soleField "HabitRegistry$Failure" "origin") ∈ lw_all := lw_g (lw_at lw_m4 39 rfl) rfl
theorem q1838 : (Jvm.Cond.declares ({ cls := "HabitRegistry$Failure", name := "detail", desc := "()I" } : Jvm.MethodName)) ∈ lw_tbl := lw_at lw_m8 83 rfl
theorem q1839 : (Jvm.Cond.sameMethod "HabitRegistry$Failure" "HabitRegistry$Failure" "detail" "()I") ∈ lw_all := lw_g (lw_at lw_m8 84 rfl) rfl
theorem q1857 : (Jvm.Cond.declares ({ cls := "HabitRegistry$Failure", name := "reason", desc := "()I" } : Jvm.MethodName)) ∈ lw_tbl := lw_at lw_m8 102 rfl
theorem q1858 : (Jvm.Cond.sameMethod "HabitRegistry$Failure" "HabitRegistry$Failure" "reason" "()I") ∈ lw_all := lw_g (lw_at lw_m8 103 rfl) rfl
theorem q1883 : (Jvm.Cond.instanceMethod ({ cls := "HabitRegistry$Failure", name := "originReason", desc := "()I" } : Jvm.MethodName)) ∈ lw_all := lw_g (lw_at lw_m8 128 rfl) rfl
theorem q1884 : (Jvm.Cond.sameMethod "HabitRegistry$Failure" "HabitRegistry$Failure" "originReason" "()I") ∈ lw_all := lw_g (lw_at lw_m8 129 rfl) rfl
theorem q1888 : (Jvm.Cond.code ({ cls := "HabitRegistry$Failure", name := "originReason", desc := "()I" } : Jvm.MethodName) prog_5_method_4_code (1 : Nat) (Option.some Jvm.ClassFile.FieldType.int)) ∈ lw_all := lw_g (lw_at lw_m8 133 rfl) rfl
theorem q1889 : (Jvm.Cond.methodLink "HabitRegistry$Failure" (13 : Nat) ({ cls := "HabitRegistry$Failure", name := "reason", desc := "()I" } : Jvm.MethodName)) ∈ lw_all := lw_g (lw_at lw_m8 134 rfl) rfl
/-! HabitRegistry$BadCommand -/
def RX8 : String := "HabitRegistry$BadCommand"
def TX8 : u_T := fun k => match k with
  | 0 => ("HabitRegistry$Failure", "origin", "LHabitRegistry$Failure;", true)
  | 1 => ("java/lang/Throwable", "cause", "Ljava/lang/Throwable;", false)
  | 2 => ("java/lang/Throwable", "stackTrace", "[Ljava/lang/StackTraceElement;", false)
  | 3 => ("java/lang/Throwable", "suppressedExceptions", "Ljava/util/List;", false)
  | 4 => ("java/lang/Throwable", "detailMessage", "Ljava/lang/String;", false)
  | 5 => ("java/lang/Throwable", "backtrace", "Ljava/lang/Object;", false)
  | _ => ("java/lang/Throwable", "depth", "I", false)
def tyX8 : Nat → FieldType := fun k => match k with
  | 0 => .object "HabitRegistry$Failure"
  | 1 => .object "java/lang/Throwable"
  | 2 => .array (.object "java/lang/StackTraceElement")
  | 3 => .object "java/util/List"
  | 4 => .object "java/lang/String"
  | 5 => .object "java/lang/Object"
  | _ => .int
abbrev wsX80 : List Cond := u_ws RX8 TX8 7
theorem nmX8 : ∀ a, a < 7 → ∀ b, b < 7 → a ≠ b → (TX8 a).2.1 ≠ (TX8 b).2.1 := by decide +kernel
theorem tyX8_ok : ∀ k, k < 7 → parseFieldDescriptor (TX8 k).2.2.1 = some (tyX8 k) := by decide +kernel
abbrev cX8_init : ByteArray := prog_2_method_1_code
def yX8_init : MethodName := ⟨RX8, "<init>", "()V"⟩
abbrev cX8_detail : ByteArray := prog_2_method_3_code
def yX8_detail : MethodName := ⟨RX8, "detail", "()I"⟩
abbrev cX8_reason : ByteArray := prog_2_method_2_code
def yX8_reason : MethodName := ⟨RX8, "reason", "()I"⟩
theorem q101 : (Jvm.Cond.initialized "HabitRegistry$BadCommand") ∈ lw_all := lw_g (lw_at lw_m1 26 rfl) rfl
theorem q261 : (Jvm.Cond.selects "HabitRegistry$BadCommand" ({ cls := "java/lang/Throwable", name := "fillInStackTrace", desc := "()Ljava/lang/Throwable;" } : Jvm.MethodName) ({ cls := "java/lang/Throwable", name := "fillInStackTrace", desc := "()Ljava/lang/Throwable;" } : Jvm.MethodName)) ∈ lw_all := lw_g (lw_at lw_m1 186 rfl) rfl
theorem q685 : (Jvm.Cond.selects "HabitRegistry$BadCommand" ({ cls := "java/lang/Object", name := "getClass", desc := "()Ljava/lang/Class;" } : Jvm.MethodName) ({ cls := "java/lang/Object", name := "getClass", desc := "()Ljava/lang/Class;" } : Jvm.MethodName)) ∈ lw_all := lw_g (lw_at lw_m3 130 rfl) rfl
theorem q817 : (Jvm.Cond.instantiable "HabitRegistry$BadCommand" (7 : Nat)) ∈ lw_all := lw_g (lw_at lw_m4 22 rfl) rfl
theorem q818 : (Jvm.Cond.castable "HabitRegistry$BadCommand" "HabitRegistry$BadCommand") ∈ lw_tbl := lw_at lw_m4 23 rfl
theorem q819 : (Jvm.Cond.selects "HabitRegistry$BadCommand" ({ cls := "java/lang/Throwable", name := "fillInStackTrace", desc := "(I)Ljava/lang/Throwable;" } : Jvm.MethodName) ({ cls := "java/lang/Throwable", name := "fillInStackTrace", desc := "(I)Ljava/lang/Throwable;" } : Jvm.MethodName)) ∈ lw_all := lw_g (lw_at lw_m4 24 rfl) rfl
theorem q820 : (Jvm.Cond.lays "HabitRegistry$BadCommand" "java/lang/Throwable" "cause" "Ljava/lang/Throwable;") ∈ lw_all := lw_g (lw_at lw_m4 25 rfl) rfl
theorem q821 : (Jvm.Cond.lays "HabitRegistry$BadCommand" "java/lang/Throwable" "stackTrace" "[Ljava/lang/StackTraceElement;") ∈ lw_all := lw_g (lw_at lw_m4 26 rfl) rfl
theorem q822 : (Jvm.Cond.lays "HabitRegistry$BadCommand" "java/lang/Throwable" "suppressedExceptions" "Ljava/util/List;") ∈ lw_all := lw_g (lw_at lw_m4 27 rfl) rfl
theorem q823 : (Jvm.Cond.lays "HabitRegistry$BadCommand" "java/lang/Throwable" "detailMessage" "Ljava/lang/String;") ∈ lw_all := lw_g (lw_at lw_m4 28 rfl) rfl
theorem q824 : (Jvm.Cond.lays "HabitRegistry$BadCommand" "java/lang/Throwable" "backtrace" "Ljava/lang/Object;") ∈ lw_all := lw_g (lw_at lw_m4 29 rfl) rfl
theorem q826 : (Jvm.Cond.instanceMethod ({ cls := "HabitRegistry$BadCommand", name := "<init>", desc := "()V" } : Jvm.MethodName)) ∈ lw_all := lw_g (lw_at lw_m4 31 rfl) rfl
theorem q827 : (Jvm.Cond.code ({ cls := "HabitRegistry$BadCommand", name := "<init>", desc := "()V" } : Jvm.MethodName) prog_2_method_1_code (1 : Nat) (Option.none : Option Jvm.ClassFile.FieldType)) ∈ lw_all := lw_g (lw_at lw_m4 32 rfl) rfl
theorem q828 : (Jvm.Cond.methodLink "HabitRegistry$BadCommand" (1 : Nat) ({ cls := "HabitRegistry$Failure", name := "<init>", desc := "(LHabitRegistry$Failure;)V" } : Jvm.MethodName)) ∈ lw_all := lw_g (lw_at lw_m4 33 rfl) rfl
theorem q833 : (Jvm.Cond.laysFinal "HabitRegistry$BadCommand" "HabitRegistry$Failure" "origin" "LHabitRegistry$Failure;") ∈ lw_all := lw_g (lw_at lw_m4 38 rfl) rfl
theorem q835 : (Jvm.Cond.lays "HabitRegistry$BadCommand" "java/lang/Throwable" "depth" "I") ∈ lw_all := lw_g (lw_at lw_m4 40 rfl) rfl
theorem q836 : (Jvm.Cond.superclass "HabitRegistry$BadCommand" "HabitRegistry$Failure") ∈ lw_all := lw_g (lw_at lw_m4 41 rfl) rfl
theorem q1840 : (Jvm.Cond.selects "HabitRegistry$BadCommand" ({ cls := "HabitRegistry$Failure", name := "detail", desc := "()I" } : Jvm.MethodName) ({ cls := "HabitRegistry$BadCommand", name := "detail", desc := "()I" } : Jvm.MethodName)) ∈ lw_all := lw_g (lw_at lw_m8 85 rfl) rfl
theorem q1841 : (Jvm.Cond.instanceMethod ({ cls := "HabitRegistry$BadCommand", name := "detail", desc := "()I" } : Jvm.MethodName)) ∈ lw_all := lw_g (lw_at lw_m8 86 rfl) rfl
theorem q1842 : (Jvm.Cond.code ({ cls := "HabitRegistry$BadCommand", name := "detail", desc := "()I" } : Jvm.MethodName) prog_2_method_3_code (1 : Nat) (Option.some Jvm.ClassFile.FieldType.int)) ∈ lw_all := lw_g (lw_at lw_m8 87 rfl) rfl
theorem q1859 : (Jvm.Cond.selects "HabitRegistry$BadCommand" ({ cls := "HabitRegistry$Failure", name := "reason", desc := "()I" } : Jvm.MethodName) ({ cls := "HabitRegistry$BadCommand", name := "reason", desc := "()I" } : Jvm.MethodName)) ∈ lw_all := lw_g (lw_at lw_m8 104 rfl) rfl
theorem q1860 : (Jvm.Cond.instanceMethod ({ cls := "HabitRegistry$BadCommand", name := "reason", desc := "()I" } : Jvm.MethodName)) ∈ lw_all := lw_g (lw_at lw_m8 105 rfl) rfl
theorem q1861 : (Jvm.Cond.code ({ cls := "HabitRegistry$BadCommand", name := "reason", desc := "()I" } : Jvm.MethodName) prog_2_method_2_code (1 : Nat) (Option.some Jvm.ClassFile.FieldType.int)) ∈ lw_all := lw_g (lw_at lw_m8 106 rfl) rfl
theorem q1885 : (Jvm.Cond.selects "HabitRegistry$BadCommand" ({ cls := "HabitRegistry$Failure", name := "originReason", desc := "()I" } : Jvm.MethodName) ({ cls := "HabitRegistry$Failure", name := "originReason", desc := "()I" } : Jvm.MethodName)) ∈ lw_all := lw_g (lw_at lw_m8 130 rfl) rfl
theorem q2452 : (Jvm.Cond.castable "HabitRegistry$BadCommand" "java/lang/Object") ∈ lw_tbl := lw_at lw_m10 217 rfl
theorem in_X8 : ∀ w ∈ wsX80, w ∈ lw_all := lw_in wsX80 [833, 820, 821, 822, 823, 824, 835] (by decide +kernel) (by decide +kernel)
/-! HabitRegistry$Rejection -/
def RX9 : String := "HabitRegistry$Rejection"
def TX9 : u_T := fun k => match k with
  | 0 => ("HabitRegistry$Failure", "origin", "LHabitRegistry$Failure;", true)
  | 1 => ("java/lang/Throwable", "cause", "Ljava/lang/Throwable;", false)
  | 2 => ("java/lang/Throwable", "stackTrace", "[Ljava/lang/StackTraceElement;", false)
  | 3 => ("java/lang/Throwable", "suppressedExceptions", "Ljava/util/List;", false)
  | 4 => ("java/lang/Throwable", "detailMessage", "Ljava/lang/String;", false)
  | 5 => ("java/lang/Throwable", "backtrace", "Ljava/lang/Object;", false)
  | 6 => ("java/lang/Throwable", "depth", "I", false)
  | 7 => ("HabitRegistry$Rejection", "reason", "I", true)
  | _ => ("HabitRegistry$Rejection", "detail", "I", true)
def tyX9 : Nat → FieldType := fun k => match k with
  | 0 => .object "HabitRegistry$Failure"
  | 1 => .object "java/lang/Throwable"
  | 2 => .array (.object "java/lang/StackTraceElement")
  | 3 => .object "java/util/List"
  | 4 => .object "java/lang/String"
  | 5 => .object "java/lang/Object"
  | 6 => .int
  | 7 => .int
  | _ => .int
abbrev wsX90 : List Cond := u_ws RX9 TX9 9
theorem nmX9 : ∀ a, a < 9 → ∀ b, b < 9 → a ≠ b → (TX9 a).2.1 ≠ (TX9 b).2.1 := by decide +kernel
theorem tyX9_ok : ∀ k, k < 9 → parseFieldDescriptor (TX9 k).2.2.1 = some (tyX9 k) := by decide +kernel
abbrev cX9_init : ByteArray := prog_10_method_1_code
def yX9_init : MethodName := ⟨RX9, "<init>", "(II)V"⟩
abbrev cX9_init_2 : ByteArray := prog_10_method_2_code
def yX9_init_2 : MethodName := ⟨RX9, "<init>", "(IILHabitRegistry$Failure;)V"⟩
abbrev cX9_detail : ByteArray := prog_10_method_4_code
def yX9_detail : MethodName := ⟨RX9, "detail", "()I"⟩
abbrev cX9_reason : ByteArray := prog_10_method_3_code
def yX9_reason : MethodName := ⟨RX9, "reason", "()I"⟩
theorem q102 : (Jvm.Cond.initialized "HabitRegistry$Rejection") ∈ lw_all := lw_g (lw_at lw_m1 27 rfl) rfl
theorem q262 : (Jvm.Cond.selects "HabitRegistry$Rejection" ({ cls := "java/lang/Throwable", name := "fillInStackTrace", desc := "()Ljava/lang/Throwable;" } : Jvm.MethodName) ({ cls := "java/lang/Throwable", name := "fillInStackTrace", desc := "()Ljava/lang/Throwable;" } : Jvm.MethodName)) ∈ lw_all := lw_g (lw_at lw_m1 187 rfl) rfl
theorem q691 : (Jvm.Cond.selects "HabitRegistry$Rejection" ({ cls := "java/lang/Object", name := "getClass", desc := "()Ljava/lang/Class;" } : Jvm.MethodName) ({ cls := "java/lang/Object", name := "getClass", desc := "()Ljava/lang/Class;" } : Jvm.MethodName)) ∈ lw_all := lw_g (lw_at lw_m3 136 rfl) rfl
theorem q848 : (Jvm.Cond.instantiable "HabitRegistry$Rejection" (9 : Nat)) ∈ lw_all := lw_g (lw_at lw_m4 53 rfl) rfl
theorem q849 : (Jvm.Cond.castable "HabitRegistry$Rejection" "HabitRegistry$Rejection") ∈ lw_tbl := lw_at lw_m4 54 rfl
theorem q850 : (Jvm.Cond.selects "HabitRegistry$Rejection" ({ cls := "java/lang/Throwable", name := "fillInStackTrace", desc := "(I)Ljava/lang/Throwable;" } : Jvm.MethodName) ({ cls := "java/lang/Throwable", name := "fillInStackTrace", desc := "(I)Ljava/lang/Throwable;" } : Jvm.MethodName)) ∈ lw_all := lw_g (lw_at lw_m4 55 rfl) rfl
theorem q851 : (Jvm.Cond.lays "HabitRegistry$Rejection" "java/lang/Throwable" "cause" "Ljava/lang/Throwable;") ∈ lw_all := lw_g (lw_at lw_m4 56 rfl) rfl
theorem q852 : (Jvm.Cond.lays "HabitRegistry$Rejection" "java/lang/Throwable" "stackTrace" "[Ljava/lang/StackTraceElement;") ∈ lw_all := lw_g (lw_at lw_m4 57 rfl) rfl
theorem q853 : (Jvm.Cond.lays "HabitRegistry$Rejection" "java/lang/Throwable" "suppressedExceptions" "Ljava/util/List;") ∈ lw_all := lw_g (lw_at lw_m4 58 rfl) rfl
theorem q854 : (Jvm.Cond.lays "HabitRegistry$Rejection" "java/lang/Throwable" "detailMessage" "Ljava/lang/String;") ∈ lw_all := lw_g (lw_at lw_m4 59 rfl) rfl
theorem q855 : (Jvm.Cond.lays "HabitRegistry$Rejection" "java/lang/Throwable" "backtrace" "Ljava/lang/Object;") ∈ lw_all := lw_g (lw_at lw_m4 60 rfl) rfl
theorem q857 : (Jvm.Cond.instanceMethod ({ cls := "HabitRegistry$Rejection", name := "<init>", desc := "(II)V" } : Jvm.MethodName)) ∈ lw_all := lw_g (lw_at lw_m4 62 rfl) rfl
theorem q858 : (Jvm.Cond.code ({ cls := "HabitRegistry$Rejection", name := "<init>", desc := "(II)V" } : Jvm.MethodName) prog_10_method_1_code (3 : Nat) (Option.none : Option Jvm.ClassFile.FieldType)) ∈ lw_all := lw_g (lw_at lw_m4 63 rfl) rfl
theorem q859 : (Jvm.Cond.methodLink "HabitRegistry$Rejection" (1 : Nat) ({ cls := "HabitRegistry$Rejection", name := "<init>", desc := "(IILHabitRegistry$Failure;)V" } : Jvm.MethodName)) ∈ lw_all := lw_g (lw_at lw_m4 64 rfl) rfl
theorem q860 : (Jvm.Cond.instanceMethod ({ cls := "HabitRegistry$Rejection", name := "<init>", desc := "(IILHabitRegistry$Failure;)V" } : Jvm.MethodName)) ∈ lw_all := lw_g (lw_at lw_m4 65 rfl) rfl
theorem q861 : (Jvm.Cond.code ({ cls := "HabitRegistry$Rejection", name := "<init>", desc := "(IILHabitRegistry$Failure;)V" } : Jvm.MethodName) prog_10_method_2_code (4 : Nat) (Option.none : Option Jvm.ClassFile.FieldType)) ∈ lw_all := lw_g (lw_at lw_m4 66 rfl) rfl
theorem q862 : (Jvm.Cond.methodLink "HabitRegistry$Rejection" (7 : Nat) ({ cls := "HabitRegistry$Failure", name := "<init>", desc := "(LHabitRegistry$Failure;)V" } : Jvm.MethodName)) ∈ lw_all := lw_g (lw_at lw_m4 67 rfl) rfl
theorem q863 : (Jvm.Cond.fieldLink "HabitRegistry$Rejection" (12 : Nat) "HabitRegistry$Rejection" "reason" "I") ∈ lw_all := lw_g (lw_at lw_m4 68 rfl) rfl
theorem q864 : (Jvm.Cond.fieldLink "HabitRegistry$Rejection" (16 : Nat) "HabitRegistry$Rejection" "detail" "I") ∈ lw_all := lw_g (lw_at lw_m4 69 rfl) rfl
theorem q865 : (Jvm.Cond.laysFinal "HabitRegistry$Rejection" "HabitRegistry$Rejection" "reason" "I") ∈ lw_all := lw_g (lw_at lw_m4 70 rfl) rfl
theorem q866 : (Jvm.Cond.soleField "HabitRegistry$Rejection" "reason") ∈ lw_all := lw_g (lw_at lw_m4 71 rfl) rfl
theorem q867 : (Jvm.Cond.laysFinal "HabitRegistry$Rejection" "HabitRegistry$Rejection" "detail" "I") ∈ lw_all := lw_g (lw_at lw_m4 72 rfl) rfl
theorem q868 : (Jvm.Cond.soleField "HabitRegistry$Rejection" "detail") ∈ lw_all := lw_g (lw_at lw_m4 73 rfl) rfl
theorem q869 : (Jvm.Cond.laysFinal "HabitRegistry$Rejection" "HabitRegistry$Failure" "origin" "LHabitRegistry$Failure;") ∈ lw_all := lw_g (lw_at lw_m4 74 rfl) rfl
theorem q870 : (Jvm.Cond.lays "HabitRegistry$Rejection" "java/lang/Throwable" "depth" "I") ∈ lw_all := lw_g (lw_at lw_m4 75 rfl) rfl
theorem q871 : (Jvm.Cond.superclass "HabitRegistry$Rejection" "HabitRegistry$Failure") ∈ lw_all := lw_g (lw_at lw_m4 76 rfl) rfl
theorem q1843 : (Jvm.Cond.selects "HabitRegistry$Rejection" ({ cls := "HabitRegistry$Failure", name := "detail", desc := "()I" } : Jvm.MethodName) ({ cls := "HabitRegistry$Rejection", name := "detail", desc := "()I" } : Jvm.MethodName)) ∈ lw_all := lw_g (lw_at lw_m8 88 rfl) rfl
theorem q1844 : (Jvm.Cond.instanceMethod ({ cls := "HabitRegistry$Rejection", name := "detail", desc := "()I" } : Jvm.MethodName)) ∈ lw_all := lw_g (lw_at lw_m8 89 rfl) rfl
theorem q1845 : (Jvm.Cond.code ({ cls := "HabitRegistry$Rejection", name := "detail", desc := "()I" } : Jvm.MethodName) prog_10_method_4_code (1 : Nat) (Option.some Jvm.ClassFile.FieldType.int)) ∈ lw_all := lw_g (lw_at lw_m8 90 rfl) rfl
theorem q1862 : (Jvm.Cond.selects "HabitRegistry$Rejection" ({ cls := "HabitRegistry$Failure", name := "reason", desc := "()I" } : Jvm.MethodName) ({ cls := "HabitRegistry$Rejection", name := "reason", desc := "()I" } : Jvm.MethodName)) ∈ lw_all := lw_g (lw_at lw_m8 107 rfl) rfl
theorem q1863 : (Jvm.Cond.instanceMethod ({ cls := "HabitRegistry$Rejection", name := "reason", desc := "()I" } : Jvm.MethodName)) ∈ lw_all := lw_g (lw_at lw_m8 108 rfl) rfl
theorem q1864 : (Jvm.Cond.code ({ cls := "HabitRegistry$Rejection", name := "reason", desc := "()I" } : Jvm.MethodName) prog_10_method_3_code (1 : Nat) (Option.some Jvm.ClassFile.FieldType.int)) ∈ lw_all := lw_g (lw_at lw_m8 109 rfl) rfl
theorem q1886 : (Jvm.Cond.selects "HabitRegistry$Rejection" ({ cls := "HabitRegistry$Failure", name := "originReason", desc := "()I" } : Jvm.MethodName) ({ cls := "HabitRegistry$Failure", name := "originReason", desc := "()I" } : Jvm.MethodName)) ∈ lw_all := lw_g (lw_at lw_m8 131 rfl) rfl
theorem q2453 : (Jvm.Cond.castable "HabitRegistry$Rejection" "java/lang/Object") ∈ lw_tbl := lw_at lw_m10 218 rfl
theorem in_X9 : ∀ w ∈ wsX90, w ∈ lw_all := lw_in wsX90 [869, 851, 852, 853, 854, 855, 870, 865, 867] (by decide +kernel) (by decide +kernel)
theorem q541 : (Jvm.Cond.interfaceMethod "HabitRegistry$Order" "HabitRegistry$Order" "isBefore" "(LHabitRegistry$Person;LHabitRegistry$Person;)Z") ∈ lw_tbl := lw_at lw_m2 226 rfl
theorem q542 : (Jvm.Cond.declares ({ cls := "HabitRegistry$Order", name := "isBefore", desc := "(LHabitRegistry$Person;LHabitRegistry$Person;)Z" } : Jvm.MethodName)) ∈ lw_tbl := lw_at lw_m2 227 rfl
theorem q303 : (Jvm.Cond.interfaceMethod "HabitRegistry$Test" "HabitRegistry$Test" "holds" "(LHabitRegistry$Habit;)Z") ∈ lw_tbl := lw_at lw_m1 228 rfl
theorem q304 : (Jvm.Cond.declares ({ cls := "HabitRegistry$Test", name := "holds", desc := "(LHabitRegistry$Habit;)Z" } : Jvm.MethodName)) ∈ lw_tbl := lw_at lw_m1 229 rfl
theorem q307 : (Jvm.Cond.interfaceMethod "HabitRegistry$Value" "HabitRegistry$Value" "of" "(LHabitRegistry$Habit;)I") ∈ lw_tbl := lw_at lw_m1 232 rfl
theorem q308 : (Jvm.Cond.declares ({ cls := "HabitRegistry$Value", name := "of", desc := "(LHabitRegistry$Habit;)I" } : Jvm.MethodName)) ∈ lw_tbl := lw_at lw_m1 233 rfl
theorem q1479 : (Jvm.Cond.sameMethod "[B" "java/lang/Object" "clone" "()Ljava/lang/Object;") ∈ lw_all := lw_g (lw_at lw_m6 204 rfl) rfl
theorem q1482 : (Jvm.Cond.selects "[B" ({ cls := "[B", name := "clone", desc := "()Ljava/lang/Object;" } : Jvm.MethodName) ({ cls := "java/lang/Object", name := "clone", desc := "()Ljava/lang/Object;" } : Jvm.MethodName)) ∈ lw_all := lw_g (lw_at lw_m6 207 rfl) rfl
theorem q1483 : (Jvm.Cond.castable "[B" "java/lang/Cloneable") ∈ lw_tbl := lw_at lw_m6 208 rfl
theorem q2468 : (Jvm.Cond.castable "[B" "java/lang/Object") ∈ lw_tbl := lw_at lw_m10 233 rfl
theorem q2471 : (Jvm.Cond.castable "[C" "java/lang/Object") ∈ lw_tbl := lw_at lw_m10 236 rfl
theorem q2473 : (Jvm.Cond.castable "[D" "java/lang/Object") ∈ lw_tbl := lw_at lw_m10 238 rfl
theorem q2469 : (Jvm.Cond.castable "[I" "java/lang/Object") ∈ lw_tbl := lw_at lw_m10 234 rfl
theorem q2472 : (Jvm.Cond.castable "[J" "java/lang/Object") ∈ lw_tbl := lw_at lw_m10 237 rfl
theorem q2465 : (Jvm.Cond.sameMethod "[Ljava/lang/Object;" "java/lang/Object" "getClass" "()Ljava/lang/Class;") ∈ lw_all := lw_g (lw_at lw_m10 230 rfl) rfl
theorem q2466 : (Jvm.Cond.selects "[Ljava/lang/Object;" ({ cls := "java/lang/Object", name := "getClass", desc := "()Ljava/lang/Class;" } : Jvm.MethodName) ({ cls := "java/lang/Object", name := "getClass", desc := "()Ljava/lang/Class;" } : Jvm.MethodName)) ∈ lw_all := lw_g (lw_at lw_m10 231 rfl) rfl
theorem q2470 : (Jvm.Cond.castable "[Ljava/lang/Object;" "java/lang/Object") ∈ lw_tbl := lw_at lw_m10 235 rfl
theorem q110 : (Jvm.Cond.initialized "java/lang/Number") ∈ lw_all := lw_g (lw_at lw_m1 35 rfl) rfl
theorem q97 : (Jvm.Cond.initialized "java/lang/System") ∈ lw_all := lw_g (lw_at lw_m1 22 rfl) rfl
theorem q717 : (Jvm.Cond.static ({ cls := "java/lang/System", name := "arraycopy", desc := "(Ljava/lang/Object;ILjava/lang/Object;II)V" } : Jvm.MethodName)) ∈ lw_all := lw_g (lw_at lw_m3 162 rfl) rfl
theorem q718 : (Jvm.Cond.native ({ cls := "java/lang/System", name := "arraycopy", desc := "(Ljava/lang/Object;ILjava/lang/Object;II)V" } : Jvm.MethodName)) ∈ lw_all := lw_g (lw_at lw_m3 163 rfl) rfl
theorem q207 : (Jvm.Cond.interfaceMethod "java/util/Iterator" "java/util/Iterator" "hasNext" "()Z") ∈ lw_tbl := lw_at lw_m1 132 rfl
theorem q208 : (Jvm.Cond.declares ({ cls := "java/util/Iterator", name := "hasNext", desc := "()Z" } : Jvm.MethodName)) ∈ lw_tbl := lw_at lw_m1 133 rfl
theorem q217 : (Jvm.Cond.interfaceMethod "java/util/Iterator" "java/util/Iterator" "next" "()Ljava/lang/Object;") ∈ lw_tbl := lw_at lw_m1 142 rfl
theorem q218 : (Jvm.Cond.declares ({ cls := "java/util/Iterator", name := "next", desc := "()Ljava/lang/Object;" } : Jvm.MethodName)) ∈ lw_tbl := lw_at lw_m1 143 rfl
theorem q387 : (Jvm.Cond.arrayClass Jvm.ClassFile.FieldType.byte) ∈ lw_all := lw_g (lw_at lw_m2 72 rfl) rfl
theorem q605 : (Jvm.Cond.arrayClass Jvm.ClassFile.FieldType.int) ∈ lw_all := lw_g (lw_at lw_m3 50 rfl) rfl
theorem q711 : (Jvm.Cond.arrayOver (Jvm.ClassFile.FieldType.object "java/lang/Object")) ∈ lw_tbl := lw_at lw_m3 156 rfl
theorem q1975 : (Jvm.Cond.arrayClass Jvm.ClassFile.FieldType.char) ∈ lw_all := lw_g (lw_at lw_m8 220 rfl) rfl
theorem q2425 : (Jvm.Cond.arrayClass Jvm.ClassFile.FieldType.long) ∈ lw_all := lw_g (lw_at lw_m10 190 rfl) rfl
theorem q2426 : (Jvm.Cond.arrayClass Jvm.ClassFile.FieldType.double) ∈ lw_all := lw_g (lw_at lw_m10 191 rfl) rfl
