set_option maxRecDepth 100000
set_option maxRecDepth 100000
/-- the code has just these bytes from pc on -/
def DkAt (code : ByteArray) (pc : Nat) (bs : List UInt8) : Prop := ∀ (j : Nat) (b : UInt8), bs[j]? = some b → code.data.toList[pc + j]? = some b
/-- the piece W has the bytes bs from its place j on -/
def dkIn (W : List UInt8) (j : Nat) (bs : List UInt8) : Bool := decide ((W.drop j).take bs.length = bs)
theorem dk_seg {l W T : List UInt8} {o o2 : Nat} (h : l.drop o = W ++ T) (n : Nat) (hn : W.length = n) (ho : o + n = o2) : l.drop o2 = T := by
  subst ho
  rw [← List.drop_drop, h, List.drop_left' hn]
theorem dk_at {code : ByteArray} {W T bs : List UInt8} {o pc : Nat} (h : code.data.toList.drop o = W ++ T) (j : Nat) (hp : o + j = pc) (hw : dkIn W j bs = true) : DkAt code pc bs := by
  subst hp
  intro i b e
  have h1 := of_decide_eq_true hw
  have h2 : i < bs.length := (List.getElem?_eq_some_iff.mp e).1
  have h3 : W[j + i]? = some b := by
    rw [← h1, List.getElem?_take, if_pos h2, List.getElem?_drop] at e
    exact e
  have h4 : j + i < W.length := (List.getElem?_eq_some_iff.mp h3).1
  have h5 : (code.data.toList.drop o)[j + i]? = some b := by
    rw [h, List.getElem?_append_left h4]
    exact h3
  rw [List.getElem?_drop, ← Nat.add_assoc] at h5
  exact h5
theorem dk_u1 {A : ByteArray} {p : Nat} {b : UInt8} (h : A.data.toList[p]? = some b) : (Reader.u1 : Reader DecodeError Nat) A p = .ok (b.toNat, p + 1) := by
  obtain ⟨h1, h2⟩ := List.getElem?_eq_some_iff.mp h
  have h3 : p < A.size := by simpa using h1
  have h4 : A[p]'h3 = b := h2
  have e : (Reader.u1 : Reader DecodeError Nat) A p = (if h : p < A.size then .ok (A[p].toNat, p + 1) else .error (HasTruncated.truncated p)) := by
    show (do if h : p < A.size then do set (p + 1); Pure.pure A[p].toNat else MonadExcept.throw (HasTruncated.truncated p) : Reader DecodeError Nat) A p = _
    by_cases hi : p < A.size
    · rw [dif_pos hi, dif_pos hi]; rfl
    · rw [dif_neg hi, dif_neg hi]; rfl
  rw [e, dif_pos h3, h4]
theorem dk_bind {α β : Type} {r : Reader DecodeError α} {f : α → Reader DecodeError β} {A : ByteArray} {p s : Nat} {a : α} (h : r A p = .ok (a, s)) : (r >>= f) A p = f a A s := by
  show (do let (a, s) ← r A p; f a A s : Except DecodeError (β × Nat)) = _
  rw [h]
  rfl
theorem dk_map {α β : Type} {r : Reader DecodeError α} {g : α → β} {A : ByteArray} {p s : Nat} {a : α} (h : r A p = .ok (a, s)) : (g <$> r) A p = .ok (g a, s) := by
  show (do let (a, s) ← r A p; .ok (g a, s) : Except DecodeError (β × Nat)) = _
  rw [h]
  rfl
theorem dk_u2 {A : ByteArray} {p : Nat} {a b : UInt8} (h : A.data.toList[p]? = some a) (h2 : A.data.toList[p + 1]? = some b) : (Reader.u2 : Reader DecodeError Nat) A p = .ok (a.toNat * 256 + b.toNat, p + 2) := by
  show (Reader.u1 >>= fun hi => Reader.u1 >>= fun lo => Pure.pure (hi * 256 + lo) : Reader DecodeError Nat) A p = _
  rw [dk_bind (dk_u1 h), dk_bind (dk_u1 h2)]
  rfl
theorem dk_of {code : ByteArray} {pc n : Nat} {i : Instr} (h : Decoder.instr pc code pc = .ok (i, pc + n)) : decode code pc = .ok (i, n) := by
  have e : decode code pc = (match Decoder.instr pc code pc with | .error x => .error x | .ok (j, s) => .ok (j, s - pc)) := by
    show (do let (j, s) ← Decoder.instr pc code pc; Pure.pure (j, s - pc) : Except DecodeError (Instr × Nat)) = _
    cases Decoder.instr pc code pc <;> rfl
  rw [e, h]
  show Except.ok (i, pc + n - pc) = _
  rw [Nat.add_sub_cancel_left]
theorem dk_1 {code : ByteArray} {pc : Nat} (h : DkAt code pc [1]) : decode code pc = .ok (.aconst_null, 1) := dk_of ((dk_bind (dk_u1 (h 0 _ rfl))).trans rfl)
theorem dk_2 {code : ByteArray} {pc : Nat} (h : DkAt code pc [2]) : decode code pc = .ok (.iconst (-1), 1) := dk_of ((dk_bind (dk_u1 (h 0 _ rfl))).trans rfl)
theorem dk_3 {code : ByteArray} {pc : Nat} (h : DkAt code pc [3]) : decode code pc = .ok (.iconst 0, 1) := dk_of ((dk_bind (dk_u1 (h 0 _ rfl))).trans rfl)
theorem dk_4 {code : ByteArray} {pc : Nat} (h : DkAt code pc [4]) : decode code pc = .ok (.iconst 1, 1) := dk_of ((dk_bind (dk_u1 (h 0 _ rfl))).trans rfl)
theorem dk_5 {code : ByteArray} {pc : Nat} (h : DkAt code pc [5]) : decode code pc = .ok (.iconst 2, 1) := dk_of ((dk_bind (dk_u1 (h 0 _ rfl))).trans rfl)
theorem dk_6 {code : ByteArray} {pc : Nat} (h : DkAt code pc [6]) : decode code pc = .ok (.iconst 3, 1) := dk_of ((dk_bind (dk_u1 (h 0 _ rfl))).trans rfl)
theorem dk_7 {code : ByteArray} {pc : Nat} (h : DkAt code pc [7]) : decode code pc = .ok (.iconst 4, 1) := dk_of ((dk_bind (dk_u1 (h 0 _ rfl))).trans rfl)
theorem dk_8 {code : ByteArray} {pc : Nat} (h : DkAt code pc [8]) : decode code pc = .ok (.iconst 5, 1) := dk_of ((dk_bind (dk_u1 (h 0 _ rfl))).trans rfl)
theorem dk_9 {code : ByteArray} {pc : Nat} (h : DkAt code pc [9]) : decode code pc = .ok (.lconst 0, 1) := dk_of ((dk_bind (dk_u1 (h 0 _ rfl))).trans rfl)
theorem dk_10 {code : ByteArray} {pc : Nat} (h : DkAt code pc [10]) : decode code pc = .ok (.lconst 1, 1) := dk_of ((dk_bind (dk_u1 (h 0 _ rfl))).trans rfl)
theorem dk_11 {code : ByteArray} {pc : Nat} (h : DkAt code pc [11]) : decode code pc = .ok (.fconst 0, 1) := dk_of ((dk_bind (dk_u1 (h 0 _ rfl))).trans rfl)
theorem dk_16 {code : ByteArray} {pc : Nat} (a : UInt8) (h : DkAt code pc [16, a]) : decode code pc = .ok (.bipush (Reader.signed 8 a.toNat), 2) := dk_of ((dk_bind (dk_u1 (h 0 _ rfl))).trans ((dk_bind (dk_map (dk_u1 (h 1 _ rfl)))).trans rfl))
theorem dk_17 {code : ByteArray} {pc : Nat} (a b : UInt8) (h : DkAt code pc [17, a, b]) : decode code pc = .ok (.sipush (Reader.signed 16 (a.toNat * 256 + b.toNat)), 3) := dk_of ((dk_bind (dk_u1 (h 0 _ rfl))).trans ((dk_bind (dk_map (dk_u2 (h 1 _ rfl) (h 2 _ rfl)))).trans rfl))
theorem dk_18 {code : ByteArray} {pc : Nat} (a : UInt8) (h : DkAt code pc [18, a]) : decode code pc = .ok (.ldc a.toNat, 2) := dk_of ((dk_bind (dk_u1 (h 0 _ rfl))).trans ((dk_bind (dk_u1 (h 1 _ rfl))).trans rfl))
theorem dk_19 {code : ByteArray} {pc : Nat} (a b : UInt8) (h : DkAt code pc [19, a, b]) : decode code pc = .ok (.ldc_w (a.toNat * 256 + b.toNat), 3) := dk_of ((dk_bind (dk_u1 (h 0 _ rfl))).trans ((dk_bind (dk_u2 (h 1 _ rfl) (h 2 _ rfl))).trans rfl))
theorem dk_20 {code : ByteArray} {pc : Nat} (a b : UInt8) (h : DkAt code pc [20, a, b]) : decode code pc = .ok (.ldc2_w (a.toNat * 256 + b.toNat), 3) := dk_of ((dk_bind (dk_u1 (h 0 _ rfl))).trans ((dk_bind (dk_u2 (h 1 _ rfl) (h 2 _ rfl))).trans rfl))
theorem dk_21 {code : ByteArray} {pc : Nat} (a : UInt8) (h : DkAt code pc [21, a]) : decode code pc = .ok (.iload a.toNat, 2) := dk_of ((dk_bind (dk_u1 (h 0 _ rfl))).trans ((dk_bind (dk_u1 (h 1 _ rfl))).trans rfl))
theorem dk_22 {code : ByteArray} {pc : Nat} (a : UInt8) (h : DkAt code pc [22, a]) : decode code pc = .ok (.lload a.toNat, 2) := dk_of ((dk_bind (dk_u1 (h 0 _ rfl))).trans ((dk_bind (dk_u1 (h 1 _ rfl))).trans rfl))
theorem dk_23 {code : ByteArray} {pc : Nat} (a : UInt8) (h : DkAt code pc [23, a]) : decode code pc = .ok (.fload a.toNat, 2) := dk_of ((dk_bind (dk_u1 (h 0 _ rfl))).trans ((dk_bind (dk_u1 (h 1 _ rfl))).trans rfl))
theorem dk_25 {code : ByteArray} {pc : Nat} (a : UInt8) (h : DkAt code pc [25, a]) : decode code pc = .ok (.aload a.toNat, 2) := dk_of ((dk_bind (dk_u1 (h 0 _ rfl))).trans ((dk_bind (dk_u1 (h 1 _ rfl))).trans rfl))
theorem dk_26 {code : ByteArray} {pc : Nat} (h : DkAt code pc [26]) : decode code pc = .ok (.iload_n 0, 1) := dk_of ((dk_bind (dk_u1 (h 0 _ rfl))).trans rfl)
theorem dk_27 {code : ByteArray} {pc : Nat} (h : DkAt code pc [27]) : decode code pc = .ok (.iload_n 1, 1) := dk_of ((dk_bind (dk_u1 (h 0 _ rfl))).trans rfl)
theorem dk_28 {code : ByteArray} {pc : Nat} (h : DkAt code pc [28]) : decode code pc = .ok (.iload_n 2, 1) := dk_of ((dk_bind (dk_u1 (h 0 _ rfl))).trans rfl)
theorem dk_29 {code : ByteArray} {pc : Nat} (h : DkAt code pc [29]) : decode code pc = .ok (.iload_n 3, 1) := dk_of ((dk_bind (dk_u1 (h 0 _ rfl))).trans rfl)
theorem dk_33 {code : ByteArray} {pc : Nat} (h : DkAt code pc [33]) : decode code pc = .ok (.lload_n 3, 1) := dk_of ((dk_bind (dk_u1 (h 0 _ rfl))).trans rfl)
theorem dk_42 {code : ByteArray} {pc : Nat} (h : DkAt code pc [42]) : decode code pc = .ok (.aload_n 0, 1) := dk_of ((dk_bind (dk_u1 (h 0 _ rfl))).trans rfl)
theorem dk_43 {code : ByteArray} {pc : Nat} (h : DkAt code pc [43]) : decode code pc = .ok (.aload_n 1, 1) := dk_of ((dk_bind (dk_u1 (h 0 _ rfl))).trans rfl)
theorem dk_44 {code : ByteArray} {pc : Nat} (h : DkAt code pc [44]) : decode code pc = .ok (.aload_n 2, 1) := dk_of ((dk_bind (dk_u1 (h 0 _ rfl))).trans rfl)
theorem dk_45 {code : ByteArray} {pc : Nat} (h : DkAt code pc [45]) : decode code pc = .ok (.aload_n 3, 1) := dk_of ((dk_bind (dk_u1 (h 0 _ rfl))).trans rfl)
theorem dk_46 {code : ByteArray} {pc : Nat} (h : DkAt code pc [46]) : decode code pc = .ok (.iaload, 1) := dk_of ((dk_bind (dk_u1 (h 0 _ rfl))).trans rfl)
theorem dk_47 {code : ByteArray} {pc : Nat} (h : DkAt code pc [47]) : decode code pc = .ok (.laload, 1) := dk_of ((dk_bind (dk_u1 (h 0 _ rfl))).trans rfl)
theorem dk_49 {code : ByteArray} {pc : Nat} (h : DkAt code pc [49]) : decode code pc = .ok (.daload, 1) := dk_of ((dk_bind (dk_u1 (h 0 _ rfl))).trans rfl)
theorem dk_50 {code : ByteArray} {pc : Nat} (h : DkAt code pc [50]) : decode code pc = .ok (.aaload, 1) := dk_of ((dk_bind (dk_u1 (h 0 _ rfl))).trans rfl)
theorem dk_51 {code : ByteArray} {pc : Nat} (h : DkAt code pc [51]) : decode code pc = .ok (.baload, 1) := dk_of ((dk_bind (dk_u1 (h 0 _ rfl))).trans rfl)
theorem dk_54 {code : ByteArray} {pc : Nat} (a : UInt8) (h : DkAt code pc [54, a]) : decode code pc = .ok (.istore a.toNat, 2) := dk_of ((dk_bind (dk_u1 (h 0 _ rfl))).trans ((dk_bind (dk_u1 (h 1 _ rfl))).trans rfl))
theorem dk_56 {code : ByteArray} {pc : Nat} (a : UInt8) (h : DkAt code pc [56, a]) : decode code pc = .ok (.fstore a.toNat, 2) := dk_of ((dk_bind (dk_u1 (h 0 _ rfl))).trans ((dk_bind (dk_u1 (h 1 _ rfl))).trans rfl))
theorem dk_58 {code : ByteArray} {pc : Nat} (a : UInt8) (h : DkAt code pc [58, a]) : decode code pc = .ok (.astore a.toNat, 2) := dk_of ((dk_bind (dk_u1 (h 0 _ rfl))).trans ((dk_bind (dk_u1 (h 1 _ rfl))).trans rfl))
theorem dk_59 {code : ByteArray} {pc : Nat} (h : DkAt code pc [59]) : decode code pc = .ok (.istore_n 0, 1) := dk_of ((dk_bind (dk_u1 (h 0 _ rfl))).trans rfl)
theorem dk_60 {code : ByteArray} {pc : Nat} (h : DkAt code pc [60]) : decode code pc = .ok (.istore_n 1, 1) := dk_of ((dk_bind (dk_u1 (h 0 _ rfl))).trans rfl)
theorem dk_61 {code : ByteArray} {pc : Nat} (h : DkAt code pc [61]) : decode code pc = .ok (.istore_n 2, 1) := dk_of ((dk_bind (dk_u1 (h 0 _ rfl))).trans rfl)
theorem dk_62 {code : ByteArray} {pc : Nat} (h : DkAt code pc [62]) : decode code pc = .ok (.istore_n 3, 1) := dk_of ((dk_bind (dk_u1 (h 0 _ rfl))).trans rfl)
theorem dk_66 {code : ByteArray} {pc : Nat} (h : DkAt code pc [66]) : decode code pc = .ok (.lstore_n 3, 1) := dk_of ((dk_bind (dk_u1 (h 0 _ rfl))).trans rfl)
theorem dk_76 {code : ByteArray} {pc : Nat} (h : DkAt code pc [76]) : decode code pc = .ok (.astore_n 1, 1) := dk_of ((dk_bind (dk_u1 (h 0 _ rfl))).trans rfl)
theorem dk_77 {code : ByteArray} {pc : Nat} (h : DkAt code pc [77]) : decode code pc = .ok (.astore_n 2, 1) := dk_of ((dk_bind (dk_u1 (h 0 _ rfl))).trans rfl)
theorem dk_78 {code : ByteArray} {pc : Nat} (h : DkAt code pc [78]) : decode code pc = .ok (.astore_n 3, 1) := dk_of ((dk_bind (dk_u1 (h 0 _ rfl))).trans rfl)
theorem dk_79 {code : ByteArray} {pc : Nat} (h : DkAt code pc [79]) : decode code pc = .ok (.iastore, 1) := dk_of ((dk_bind (dk_u1 (h 0 _ rfl))).trans rfl)
theorem dk_80 {code : ByteArray} {pc : Nat} (h : DkAt code pc [80]) : decode code pc = .ok (.lastore, 1) := dk_of ((dk_bind (dk_u1 (h 0 _ rfl))).trans rfl)
theorem dk_82 {code : ByteArray} {pc : Nat} (h : DkAt code pc [82]) : decode code pc = .ok (.dastore, 1) := dk_of ((dk_bind (dk_u1 (h 0 _ rfl))).trans rfl)
theorem dk_83 {code : ByteArray} {pc : Nat} (h : DkAt code pc [83]) : decode code pc = .ok (.aastore, 1) := dk_of ((dk_bind (dk_u1 (h 0 _ rfl))).trans rfl)
theorem dk_84 {code : ByteArray} {pc : Nat} (h : DkAt code pc [84]) : decode code pc = .ok (.bastore, 1) := dk_of ((dk_bind (dk_u1 (h 0 _ rfl))).trans rfl)
theorem dk_87 {code : ByteArray} {pc : Nat} (h : DkAt code pc [87]) : decode code pc = .ok (.pop, 1) := dk_of ((dk_bind (dk_u1 (h 0 _ rfl))).trans rfl)
theorem dk_89 {code : ByteArray} {pc : Nat} (h : DkAt code pc [89]) : decode code pc = .ok (.dup, 1) := dk_of ((dk_bind (dk_u1 (h 0 _ rfl))).trans rfl)
theorem dk_90 {code : ByteArray} {pc : Nat} (h : DkAt code pc [90]) : decode code pc = .ok (.dup_x1, 1) := dk_of ((dk_bind (dk_u1 (h 0 _ rfl))).trans rfl)
theorem dk_92 {code : ByteArray} {pc : Nat} (h : DkAt code pc [92]) : decode code pc = .ok (.dup2, 1) := dk_of ((dk_bind (dk_u1 (h 0 _ rfl))).trans rfl)
theorem dk_93 {code : ByteArray} {pc : Nat} (h : DkAt code pc [93]) : decode code pc = .ok (.dup2_x1, 1) := dk_of ((dk_bind (dk_u1 (h 0 _ rfl))).trans rfl)
theorem dk_96 {code : ByteArray} {pc : Nat} (h : DkAt code pc [96]) : decode code pc = .ok (.iadd, 1) := dk_of ((dk_bind (dk_u1 (h 0 _ rfl))).trans rfl)
theorem dk_97 {code : ByteArray} {pc : Nat} (h : DkAt code pc [97]) : decode code pc = .ok (.ladd, 1) := dk_of ((dk_bind (dk_u1 (h 0 _ rfl))).trans rfl)
theorem dk_100 {code : ByteArray} {pc : Nat} (h : DkAt code pc [100]) : decode code pc = .ok (.isub, 1) := dk_of ((dk_bind (dk_u1 (h 0 _ rfl))).trans rfl)
theorem dk_104 {code : ByteArray} {pc : Nat} (h : DkAt code pc [104]) : decode code pc = .ok (.imul, 1) := dk_of ((dk_bind (dk_u1 (h 0 _ rfl))).trans rfl)
theorem dk_105 {code : ByteArray} {pc : Nat} (h : DkAt code pc [105]) : decode code pc = .ok (.lmul, 1) := dk_of ((dk_bind (dk_u1 (h 0 _ rfl))).trans rfl)
theorem dk_108 {code : ByteArray} {pc : Nat} (h : DkAt code pc [108]) : decode code pc = .ok (.idiv, 1) := dk_of ((dk_bind (dk_u1 (h 0 _ rfl))).trans rfl)
theorem dk_110 {code : ByteArray} {pc : Nat} (h : DkAt code pc [110]) : decode code pc = .ok (.fdiv, 1) := dk_of ((dk_bind (dk_u1 (h 0 _ rfl))).trans rfl)
theorem dk_112 {code : ByteArray} {pc : Nat} (h : DkAt code pc [112]) : decode code pc = .ok (.irem, 1) := dk_of ((dk_bind (dk_u1 (h 0 _ rfl))).trans rfl)
theorem dk_116 {code : ByteArray} {pc : Nat} (h : DkAt code pc [116]) : decode code pc = .ok (.ineg, 1) := dk_of ((dk_bind (dk_u1 (h 0 _ rfl))).trans rfl)
theorem dk_120 {code : ByteArray} {pc : Nat} (h : DkAt code pc [120]) : decode code pc = .ok (.ishl, 1) := dk_of ((dk_bind (dk_u1 (h 0 _ rfl))).trans rfl)
theorem dk_121 {code : ByteArray} {pc : Nat} (h : DkAt code pc [121]) : decode code pc = .ok (.lshl, 1) := dk_of ((dk_bind (dk_u1 (h 0 _ rfl))).trans rfl)
theorem dk_122 {code : ByteArray} {pc : Nat} (h : DkAt code pc [122]) : decode code pc = .ok (.ishr, 1) := dk_of ((dk_bind (dk_u1 (h 0 _ rfl))).trans rfl)
theorem dk_124 {code : ByteArray} {pc : Nat} (h : DkAt code pc [124]) : decode code pc = .ok (.iushr, 1) := dk_of ((dk_bind (dk_u1 (h 0 _ rfl))).trans rfl)
theorem dk_126 {code : ByteArray} {pc : Nat} (h : DkAt code pc [126]) : decode code pc = .ok (.iand, 1) := dk_of ((dk_bind (dk_u1 (h 0 _ rfl))).trans rfl)
theorem dk_127 {code : ByteArray} {pc : Nat} (h : DkAt code pc [127]) : decode code pc = .ok (.land, 1) := dk_of ((dk_bind (dk_u1 (h 0 _ rfl))).trans rfl)
theorem dk_128 {code : ByteArray} {pc : Nat} (h : DkAt code pc [128]) : decode code pc = .ok (.ior, 1) := dk_of ((dk_bind (dk_u1 (h 0 _ rfl))).trans rfl)
theorem dk_129 {code : ByteArray} {pc : Nat} (h : DkAt code pc [129]) : decode code pc = .ok (.lor, 1) := dk_of ((dk_bind (dk_u1 (h 0 _ rfl))).trans rfl)
theorem dk_130 {code : ByteArray} {pc : Nat} (h : DkAt code pc [130]) : decode code pc = .ok (.ixor, 1) := dk_of ((dk_bind (dk_u1 (h 0 _ rfl))).trans rfl)
theorem dk_131 {code : ByteArray} {pc : Nat} (h : DkAt code pc [131]) : decode code pc = .ok (.lxor, 1) := dk_of ((dk_bind (dk_u1 (h 0 _ rfl))).trans rfl)
theorem dk_132 {code : ByteArray} {pc : Nat} (a b : UInt8) (h : DkAt code pc [132, a, b]) : decode code pc = .ok (.iinc a.toNat (Reader.signed 8 b.toNat), 3) := dk_of ((dk_bind (dk_u1 (h 0 _ rfl))).trans ((dk_bind (dk_u1 (h 1 _ rfl))).trans ((dk_bind (dk_map (dk_u1 (h 2 _ rfl)))).trans rfl)))
theorem dk_133 {code : ByteArray} {pc : Nat} (h : DkAt code pc [133]) : decode code pc = .ok (.i2l, 1) := dk_of ((dk_bind (dk_u1 (h 0 _ rfl))).trans rfl)
theorem dk_134 {code : ByteArray} {pc : Nat} (h : DkAt code pc [134]) : decode code pc = .ok (.i2f, 1) := dk_of ((dk_bind (dk_u1 (h 0 _ rfl))).trans rfl)
theorem dk_141 {code : ByteArray} {pc : Nat} (h : DkAt code pc [141]) : decode code pc = .ok (.f2d, 1) := dk_of ((dk_bind (dk_u1 (h 0 _ rfl))).trans rfl)
theorem dk_145 {code : ByteArray} {pc : Nat} (h : DkAt code pc [145]) : decode code pc = .ok (.i2b, 1) := dk_of ((dk_bind (dk_u1 (h 0 _ rfl))).trans rfl)
theorem dk_146 {code : ByteArray} {pc : Nat} (h : DkAt code pc [146]) : decode code pc = .ok (.i2c, 1) := dk_of ((dk_bind (dk_u1 (h 0 _ rfl))).trans rfl)
theorem dk_148 {code : ByteArray} {pc : Nat} (h : DkAt code pc [148]) : decode code pc = .ok (.lcmp, 1) := dk_of ((dk_bind (dk_u1 (h 0 _ rfl))).trans rfl)
theorem dk_149 {code : ByteArray} {pc : Nat} (h : DkAt code pc [149]) : decode code pc = .ok (.fcmp .l, 1) := dk_of ((dk_bind (dk_u1 (h 0 _ rfl))).trans rfl)
theorem dk_151 {code : ByteArray} {pc : Nat} (h : DkAt code pc [151]) : decode code pc = .ok (.dcmp .l, 1) := dk_of ((dk_bind (dk_u1 (h 0 _ rfl))).trans rfl)
theorem dk_153 {code : ByteArray} {pc : Nat} (a b : UInt8) (h : DkAt code pc [153, a, b]) : decode code pc = .ok (.ifCond .eq (Reader.signed 16 (a.toNat * 256 + b.toNat)), 3) := dk_of ((dk_bind (dk_u1 (h 0 _ rfl))).trans ((dk_bind (dk_map (dk_u2 (h 1 _ rfl) (h 2 _ rfl)))).trans rfl))
theorem dk_154 {code : ByteArray} {pc : Nat} (a b : UInt8) (h : DkAt code pc [154, a, b]) : decode code pc = .ok (.ifCond .ne (Reader.signed 16 (a.toNat * 256 + b.toNat)), 3) := dk_of ((dk_bind (dk_u1 (h 0 _ rfl))).trans ((dk_bind (dk_map (dk_u2 (h 1 _ rfl) (h 2 _ rfl)))).trans rfl))
theorem dk_155 {code : ByteArray} {pc : Nat} (a b : UInt8) (h : DkAt code pc [155, a, b]) : decode code pc = .ok (.ifCond .lt (Reader.signed 16 (a.toNat * 256 + b.toNat)), 3) := dk_of ((dk_bind (dk_u1 (h 0 _ rfl))).trans ((dk_bind (dk_map (dk_u2 (h 1 _ rfl) (h 2 _ rfl)))).trans rfl))
theorem dk_156 {code : ByteArray} {pc : Nat} (a b : UInt8) (h : DkAt code pc [156, a, b]) : decode code pc = .ok (.ifCond .ge (Reader.signed 16 (a.toNat * 256 + b.toNat)), 3) := dk_of ((dk_bind (dk_u1 (h 0 _ rfl))).trans ((dk_bind (dk_map (dk_u2 (h 1 _ rfl) (h 2 _ rfl)))).trans rfl))
theorem dk_157 {code : ByteArray} {pc : Nat} (a b : UInt8) (h : DkAt code pc [157, a, b]) : decode code pc = .ok (.ifCond .gt (Reader.signed 16 (a.toNat * 256 + b.toNat)), 3) := dk_of ((dk_bind (dk_u1 (h 0 _ rfl))).trans ((dk_bind (dk_map (dk_u2 (h 1 _ rfl) (h 2 _ rfl)))).trans rfl))
theorem dk_158 {code : ByteArray} {pc : Nat} (a b : UInt8) (h : DkAt code pc [158, a, b]) : decode code pc = .ok (.ifCond .le (Reader.signed 16 (a.toNat * 256 + b.toNat)), 3) := dk_of ((dk_bind (dk_u1 (h 0 _ rfl))).trans ((dk_bind (dk_map (dk_u2 (h 1 _ rfl) (h 2 _ rfl)))).trans rfl))
theorem dk_159 {code : ByteArray} {pc : Nat} (a b : UInt8) (h : DkAt code pc [159, a, b]) : decode code pc = .ok (.if_icmp .eq (Reader.signed 16 (a.toNat * 256 + b.toNat)), 3) := dk_of ((dk_bind (dk_u1 (h 0 _ rfl))).trans ((dk_bind (dk_map (dk_u2 (h 1 _ rfl) (h 2 _ rfl)))).trans rfl))
theorem dk_160 {code : ByteArray} {pc : Nat} (a b : UInt8) (h : DkAt code pc [160, a, b]) : decode code pc = .ok (.if_icmp .ne (Reader.signed 16 (a.toNat * 256 + b.toNat)), 3) := dk_of ((dk_bind (dk_u1 (h 0 _ rfl))).trans ((dk_bind (dk_map (dk_u2 (h 1 _ rfl) (h 2 _ rfl)))).trans rfl))
theorem dk_161 {code : ByteArray} {pc : Nat} (a b : UInt8) (h : DkAt code pc [161, a, b]) : decode code pc = .ok (.if_icmp .lt (Reader.signed 16 (a.toNat * 256 + b.toNat)), 3) := dk_of ((dk_bind (dk_u1 (h 0 _ rfl))).trans ((dk_bind (dk_map (dk_u2 (h 1 _ rfl) (h 2 _ rfl)))).trans rfl))
theorem dk_162 {code : ByteArray} {pc : Nat} (a b : UInt8) (h : DkAt code pc [162, a, b]) : decode code pc = .ok (.if_icmp .ge (Reader.signed 16 (a.toNat * 256 + b.toNat)), 3) := dk_of ((dk_bind (dk_u1 (h 0 _ rfl))).trans ((dk_bind (dk_map (dk_u2 (h 1 _ rfl) (h 2 _ rfl)))).trans rfl))
theorem dk_163 {code : ByteArray} {pc : Nat} (a b : UInt8) (h : DkAt code pc [163, a, b]) : decode code pc = .ok (.if_icmp .gt (Reader.signed 16 (a.toNat * 256 + b.toNat)), 3) := dk_of ((dk_bind (dk_u1 (h 0 _ rfl))).trans ((dk_bind (dk_map (dk_u2 (h 1 _ rfl) (h 2 _ rfl)))).trans rfl))
theorem dk_164 {code : ByteArray} {pc : Nat} (a b : UInt8) (h : DkAt code pc [164, a, b]) : decode code pc = .ok (.if_icmp .le (Reader.signed 16 (a.toNat * 256 + b.toNat)), 3) := dk_of ((dk_bind (dk_u1 (h 0 _ rfl))).trans ((dk_bind (dk_map (dk_u2 (h 1 _ rfl) (h 2 _ rfl)))).trans rfl))
theorem dk_165 {code : ByteArray} {pc : Nat} (a b : UInt8) (h : DkAt code pc [165, a, b]) : decode code pc = .ok (.if_acmp .eq (Reader.signed 16 (a.toNat * 256 + b.toNat)), 3) := dk_of ((dk_bind (dk_u1 (h 0 _ rfl))).trans ((dk_bind (dk_map (dk_u2 (h 1 _ rfl) (h 2 _ rfl)))).trans rfl))
theorem dk_166 {code : ByteArray} {pc : Nat} (a b : UInt8) (h : DkAt code pc [166, a, b]) : decode code pc = .ok (.if_acmp .ne (Reader.signed 16 (a.toNat * 256 + b.toNat)), 3) := dk_of ((dk_bind (dk_u1 (h 0 _ rfl))).trans ((dk_bind (dk_map (dk_u2 (h 1 _ rfl) (h 2 _ rfl)))).trans rfl))
theorem dk_167 {code : ByteArray} {pc : Nat} (a b : UInt8) (h : DkAt code pc [167, a, b]) : decode code pc = .ok (.goto (Reader.signed 16 (a.toNat * 256 + b.toNat)), 3) := dk_of ((dk_bind (dk_u1 (h 0 _ rfl))).trans ((dk_bind (dk_map (dk_u2 (h 1 _ rfl) (h 2 _ rfl)))).trans rfl))
theorem dk_172 {code : ByteArray} {pc : Nat} (h : DkAt code pc [172]) : decode code pc = .ok (.ireturn, 1) := dk_of ((dk_bind (dk_u1 (h 0 _ rfl))).trans rfl)
theorem dk_173 {code : ByteArray} {pc : Nat} (h : DkAt code pc [173]) : decode code pc = .ok (.lreturn, 1) := dk_of ((dk_bind (dk_u1 (h 0 _ rfl))).trans rfl)
theorem dk_174 {code : ByteArray} {pc : Nat} (h : DkAt code pc [174]) : decode code pc = .ok (.freturn, 1) := dk_of ((dk_bind (dk_u1 (h 0 _ rfl))).trans rfl)
theorem dk_176 {code : ByteArray} {pc : Nat} (h : DkAt code pc [176]) : decode code pc = .ok (.areturn, 1) := dk_of ((dk_bind (dk_u1 (h 0 _ rfl))).trans rfl)
theorem dk_177 {code : ByteArray} {pc : Nat} (h : DkAt code pc [177]) : decode code pc = .ok (.return_, 1) := dk_of ((dk_bind (dk_u1 (h 0 _ rfl))).trans rfl)
theorem dk_178 {code : ByteArray} {pc : Nat} (a b : UInt8) (h : DkAt code pc [178, a, b]) : decode code pc = .ok (.getstatic (a.toNat * 256 + b.toNat), 3) := dk_of ((dk_bind (dk_u1 (h 0 _ rfl))).trans ((dk_bind (dk_u2 (h 1 _ rfl) (h 2 _ rfl))).trans rfl))
theorem dk_180 {code : ByteArray} {pc : Nat} (a b : UInt8) (h : DkAt code pc [180, a, b]) : decode code pc = .ok (.getfield (a.toNat * 256 + b.toNat), 3) := dk_of ((dk_bind (dk_u1 (h 0 _ rfl))).trans ((dk_bind (dk_u2 (h 1 _ rfl) (h 2 _ rfl))).trans rfl))
theorem dk_181 {code : ByteArray} {pc : Nat} (a b : UInt8) (h : DkAt code pc [181, a, b]) : decode code pc = .ok (.putfield (a.toNat * 256 + b.toNat), 3) := dk_of ((dk_bind (dk_u1 (h 0 _ rfl))).trans ((dk_bind (dk_u2 (h 1 _ rfl) (h 2 _ rfl))).trans rfl))
theorem dk_182 {code : ByteArray} {pc : Nat} (a b : UInt8) (h : DkAt code pc [182, a, b]) : decode code pc = .ok (.invokevirtual (a.toNat * 256 + b.toNat), 3) := dk_of ((dk_bind (dk_u1 (h 0 _ rfl))).trans ((dk_bind (dk_u2 (h 1 _ rfl) (h 2 _ rfl))).trans rfl))
theorem dk_183 {code : ByteArray} {pc : Nat} (a b : UInt8) (h : DkAt code pc [183, a, b]) : decode code pc = .ok (.invokespecial (a.toNat * 256 + b.toNat), 3) := dk_of ((dk_bind (dk_u1 (h 0 _ rfl))).trans ((dk_bind (dk_u2 (h 1 _ rfl) (h 2 _ rfl))).trans rfl))
theorem dk_184 {code : ByteArray} {pc : Nat} (a b : UInt8) (h : DkAt code pc [184, a, b]) : decode code pc = .ok (.invokestatic (a.toNat * 256 + b.toNat), 3) := dk_of ((dk_bind (dk_u1 (h 0 _ rfl))).trans ((dk_bind (dk_u2 (h 1 _ rfl) (h 2 _ rfl))).trans rfl))
theorem dk_187 {code : ByteArray} {pc : Nat} (a b : UInt8) (h : DkAt code pc [187, a, b]) : decode code pc = .ok (.new (a.toNat * 256 + b.toNat), 3) := dk_of ((dk_bind (dk_u1 (h 0 _ rfl))).trans ((dk_bind (dk_u2 (h 1 _ rfl) (h 2 _ rfl))).trans rfl))
theorem dk_188_4 {code : ByteArray} {pc : Nat} (h : DkAt code pc [188, 4]) : decode code pc = .ok (.newarray .boolean, 2) := dk_of ((dk_bind (dk_u1 (h 0 _ rfl))).trans ((dk_bind (dk_u1 (h 1 _ rfl))).trans rfl))
theorem dk_188_7 {code : ByteArray} {pc : Nat} (h : DkAt code pc [188, 7]) : decode code pc = .ok (.newarray .double, 2) := dk_of ((dk_bind (dk_u1 (h 0 _ rfl))).trans ((dk_bind (dk_u1 (h 1 _ rfl))).trans rfl))
theorem dk_188_8 {code : ByteArray} {pc : Nat} (h : DkAt code pc [188, 8]) : decode code pc = .ok (.newarray .byte, 2) := dk_of ((dk_bind (dk_u1 (h 0 _ rfl))).trans ((dk_bind (dk_u1 (h 1 _ rfl))).trans rfl))
theorem dk_188_10 {code : ByteArray} {pc : Nat} (h : DkAt code pc [188, 10]) : decode code pc = .ok (.newarray .int, 2) := dk_of ((dk_bind (dk_u1 (h 0 _ rfl))).trans ((dk_bind (dk_u1 (h 1 _ rfl))).trans rfl))
theorem dk_188_11 {code : ByteArray} {pc : Nat} (h : DkAt code pc [188, 11]) : decode code pc = .ok (.newarray .long, 2) := dk_of ((dk_bind (dk_u1 (h 0 _ rfl))).trans ((dk_bind (dk_u1 (h 1 _ rfl))).trans rfl))
theorem dk_189 {code : ByteArray} {pc : Nat} (a b : UInt8) (h : DkAt code pc [189, a, b]) : decode code pc = .ok (.anewarray (a.toNat * 256 + b.toNat), 3) := dk_of ((dk_bind (dk_u1 (h 0 _ rfl))).trans ((dk_bind (dk_u2 (h 1 _ rfl) (h 2 _ rfl))).trans rfl))
theorem dk_190 {code : ByteArray} {pc : Nat} (h : DkAt code pc [190]) : decode code pc = .ok (.arraylength, 1) := dk_of ((dk_bind (dk_u1 (h 0 _ rfl))).trans rfl)
theorem dk_191 {code : ByteArray} {pc : Nat} (h : DkAt code pc [191]) : decode code pc = .ok (.athrow, 1) := dk_of ((dk_bind (dk_u1 (h 0 _ rfl))).trans rfl)
theorem dk_192 {code : ByteArray} {pc : Nat} (a b : UInt8) (h : DkAt code pc [192, a, b]) : decode code pc = .ok (.checkcast (a.toNat * 256 + b.toNat), 3) := dk_of ((dk_bind (dk_u1 (h 0 _ rfl))).trans ((dk_bind (dk_u2 (h 1 _ rfl) (h 2 _ rfl))).trans rfl))
theorem dk_193 {code : ByteArray} {pc : Nat} (a b : UInt8) (h : DkAt code pc [193, a, b]) : decode code pc = .ok (.instanceof (a.toNat * 256 + b.toNat), 3) := dk_of ((dk_bind (dk_u1 (h 0 _ rfl))).trans ((dk_bind (dk_u2 (h 1 _ rfl) (h 2 _ rfl))).trans rfl))
theorem dk_198 {code : ByteArray} {pc : Nat} (a b : UInt8) (h : DkAt code pc [198, a, b]) : decode code pc = .ok (.ifnull (Reader.signed 16 (a.toNat * 256 + b.toNat)), 3) := dk_of ((dk_bind (dk_u1 (h 0 _ rfl))).trans ((dk_bind (dk_map (dk_u2 (h 1 _ rfl) (h 2 _ rfl)))).trans rfl))
theorem dk_199 {code : ByteArray} {pc : Nat} (a b : UInt8) (h : DkAt code pc [199, a, b]) : decode code pc = .ok (.ifnonnull (Reader.signed 16 (a.toNat * 256 + b.toNat)), 3) := dk_of ((dk_bind (dk_u1 (h 0 _ rfl))).trans ((dk_bind (dk_map (dk_u2 (h 1 _ rfl) (h 2 _ rfl)))).trans rfl))

theorem dJ0_init_0 : decode cJ0_init 0 = .ok (.aload_n 0, 1) := by decide +kernel
theorem dJ0_init_1 : decode cJ0_init 1 = .ok (.invokespecial 1, 3) := by decide +kernel
theorem dJ0_init_4 : decode cJ0_init 4 = .ok (.return_, 1) := by decide +kernel
def dkwJ0_isEmpty_0 : List UInt8 := [42, 182, 0, 7, 154, 0, 7, 4, 167, 0, 4, 3, 172]
abbrev dktJ0_isEmpty_0 : List UInt8 := dkwJ0_isEmpty_0 ++ []
theorem dksJ0_isEmpty_0 : cJ0_isEmpty.data.toList.drop 0 = dktJ0_isEmpty_0 := by decide +kernel
theorem dJ0_isEmpty_0 : decode cJ0_isEmpty 0 = .ok (.aload_n 0, 1) := dk_42 (dk_at dksJ0_isEmpty_0 0 rfl rfl)
theorem dJ0_isEmpty_1 : decode cJ0_isEmpty 1 = .ok (.invokevirtual 7, 3) := dk_182 0 7 (dk_at dksJ0_isEmpty_0 1 rfl rfl)
theorem dJ0_isEmpty_4 : decode cJ0_isEmpty 4 = .ok (.ifCond .ne 7, 3) := dk_154 0 7 (dk_at dksJ0_isEmpty_0 4 rfl rfl)
theorem dJ0_isEmpty_7 : decode cJ0_isEmpty 7 = .ok (.iconst 1, 1) := dk_4 (dk_at dksJ0_isEmpty_0 7 rfl rfl)
theorem dJ0_isEmpty_8 : decode cJ0_isEmpty 8 = .ok (.goto 4, 3) := dk_167 0 4 (dk_at dksJ0_isEmpty_0 8 rfl rfl)
theorem dJ0_isEmpty_11 : decode cJ0_isEmpty 11 = .ok (.iconst 0, 1) := dk_3 (dk_at dksJ0_isEmpty_0 11 rfl rfl)
theorem dJ0_isEmpty_12 : decode cJ0_isEmpty 12 = .ok (.ireturn, 1) := dk_172 (dk_at dksJ0_isEmpty_0 12 rfl rfl)
def dkwJ1_init_0 : List UInt8 := [42, 183, 0, 1, 42, 3, 181, 0, 7, 177]
abbrev dktJ1_init_0 : List UInt8 := dkwJ1_init_0 ++ []
theorem dksJ1_init_0 : cJ1_init.data.toList.drop 0 = dktJ1_init_0 := by decide +kernel
theorem dJ1_init_0 : decode cJ1_init 0 = .ok (.aload_n 0, 1) := dk_42 (dk_at dksJ1_init_0 0 rfl rfl)
theorem dJ1_init_1 : decode cJ1_init 1 = .ok (.invokespecial 1, 3) := dk_183 0 1 (dk_at dksJ1_init_0 1 rfl rfl)
theorem dJ1_init_4 : decode cJ1_init 4 = .ok (.aload_n 0, 1) := dk_42 (dk_at dksJ1_init_0 4 rfl rfl)
theorem dJ1_init_5 : decode cJ1_init 5 = .ok (.iconst 0, 1) := dk_3 (dk_at dksJ1_init_0 5 rfl rfl)
theorem dJ1_init_6 : decode cJ1_init 6 = .ok (.putfield 7, 3) := dk_181 0 7 (dk_at dksJ1_init_0 6 rfl rfl)
theorem dJ1_init_9 : decode cJ1_init 9 = .ok (.return_, 1) := dk_177 (dk_at dksJ1_init_0 9 rfl rfl)
def dkwJ1_listIterator_0 : List UInt8 := [42, 3, 182, 0, 47, 176]
abbrev dktJ1_listIterator_0 : List UInt8 := dkwJ1_listIterator_0 ++ []
theorem dksJ1_listIterator_0 : cJ1_listIterator.data.toList.drop 0 = dktJ1_listIterator_0 := by decide +kernel
theorem dJ1_listIterator_0 : decode cJ1_listIterator 0 = .ok (.aload_n 0, 1) := dk_42 (dk_at dksJ1_listIterator_0 0 rfl rfl)
theorem dJ1_listIterator_1 : decode cJ1_listIterator 1 = .ok (.iconst 0, 1) := dk_3 (dk_at dksJ1_listIterator_0 1 rfl rfl)
theorem dJ1_listIterator_2 : decode cJ1_listIterator 2 = .ok (.invokevirtual 47, 3) := dk_182 0 47 (dk_at dksJ1_listIterator_0 2 rfl rfl)
theorem dJ1_listIterator_5 : decode cJ1_listIterator 5 = .ok (.areturn, 1) := dk_176 (dk_at dksJ1_listIterator_0 5 rfl rfl)
def dkwJ2_init_0 : List UInt8 := [42, 183, 0, 1, 42, 178, 0, 39, 181, 0, 9, 177]
abbrev dktJ2_init_0 : List UInt8 := dkwJ2_init_0 ++ []
theorem dksJ2_init_0 : cJ2_init.data.toList.drop 0 = dktJ2_init_0 := by decide +kernel
theorem dJ2_init_0 : decode cJ2_init 0 = .ok (.aload_n 0, 1) := dk_42 (dk_at dksJ2_init_0 0 rfl rfl)
theorem dJ2_init_1 : decode cJ2_init 1 = .ok (.invokespecial 1, 3) := dk_183 0 1 (dk_at dksJ2_init_0 1 rfl rfl)
theorem dJ2_init_4 : decode cJ2_init 4 = .ok (.aload_n 0, 1) := dk_42 (dk_at dksJ2_init_0 4 rfl rfl)
theorem dJ2_init_5 : decode cJ2_init 5 = .ok (.getstatic 39, 3) := dk_178 0 39 (dk_at dksJ2_init_0 5 rfl rfl)
theorem dJ2_init_8 : decode cJ2_init 8 = .ok (.putfield 9, 3) := dk_181 0 9 (dk_at dksJ2_init_0 8 rfl rfl)
theorem dJ2_init_11 : decode cJ2_init 11 = .ok (.return_, 1) := dk_177 (dk_at dksJ2_init_0 11 rfl rfl)
theorem dJ2_size_0 : decode cJ2_size 0 = .ok (.aload_n 0, 1) := by decide +kernel
theorem dJ2_size_1 : decode cJ2_size 1 = .ok (.getfield 48, 3) := by decide +kernel
theorem dJ2_size_4 : decode cJ2_size 4 = .ok (.ireturn, 1) := by decide +kernel
def dkwJ2_iterator_0 : List UInt8 := [187, 1, 11, 89, 42, 183, 1, 13, 176]
abbrev dktJ2_iterator_0 : List UInt8 := dkwJ2_iterator_0 ++ []
theorem dksJ2_iterator_0 : cJ2_iterator.data.toList.drop 0 = dktJ2_iterator_0 := by decide +kernel
theorem dJ2_iterator_0 : decode cJ2_iterator 0 = .ok (.new 267, 3) := dk_187 1 11 (dk_at dksJ2_iterator_0 0 rfl rfl)
theorem dJ2_iterator_3 : decode cJ2_iterator 3 = .ok (.dup, 1) := dk_89 (dk_at dksJ2_iterator_0 3 rfl rfl)
theorem dJ2_iterator_4 : decode cJ2_iterator 4 = .ok (.aload_n 0, 1) := dk_42 (dk_at dksJ2_iterator_0 4 rfl rfl)
theorem dJ2_iterator_5 : decode cJ2_iterator 5 = .ok (.invokespecial 269, 3) := dk_183 1 13 (dk_at dksJ2_iterator_0 5 rfl rfl)
theorem dJ2_iterator_8 : decode cJ2_iterator 8 = .ok (.areturn, 1) := dk_176 (dk_at dksJ2_iterator_0 8 rfl rfl)
def dkwJ2_listIterator_0 : List UInt8 := [42, 27, 182, 0, 135, 187, 1, 6, 89, 42, 27, 183, 1, 8, 176]
abbrev dktJ2_listIterator_0 : List UInt8 := dkwJ2_listIterator_0 ++ []
theorem dksJ2_listIterator_0 : cJ2_listIterator.data.toList.drop 0 = dktJ2_listIterator_0 := by decide +kernel
theorem dJ2_listIterator_0 : decode cJ2_listIterator 0 = .ok (.aload_n 0, 1) := dk_42 (dk_at dksJ2_listIterator_0 0 rfl rfl)
theorem dJ2_listIterator_1 : decode cJ2_listIterator 1 = .ok (.iload_n 1, 1) := dk_27 (dk_at dksJ2_listIterator_0 1 rfl rfl)
theorem dJ2_listIterator_2 : decode cJ2_listIterator 2 = .ok (.invokevirtual 135, 3) := dk_182 0 135 (dk_at dksJ2_listIterator_0 2 rfl rfl)
theorem dJ2_listIterator_5 : decode cJ2_listIterator 5 = .ok (.new 262, 3) := dk_187 1 6 (dk_at dksJ2_listIterator_0 5 rfl rfl)
theorem dJ2_listIterator_8 : decode cJ2_listIterator 8 = .ok (.dup, 1) := dk_89 (dk_at dksJ2_listIterator_0 8 rfl rfl)
theorem dJ2_listIterator_9 : decode cJ2_listIterator 9 = .ok (.aload_n 0, 1) := dk_42 (dk_at dksJ2_listIterator_0 9 rfl rfl)
theorem dJ2_listIterator_10 : decode cJ2_listIterator 10 = .ok (.iload_n 1, 1) := dk_27 (dk_at dksJ2_listIterator_0 10 rfl rfl)
theorem dJ2_listIterator_11 : decode cJ2_listIterator 11 = .ok (.invokespecial 264, 3) := dk_183 1 8 (dk_at dksJ2_listIterator_0 11 rfl rfl)
theorem dJ2_listIterator_14 : decode cJ2_listIterator 14 = .ok (.areturn, 1) := dk_176 (dk_at dksJ2_listIterator_0 14 rfl rfl)
def dkwJ2_get_0 : List UInt8 := [27, 42, 180, 0, 48, 184, 0, 118, 87, 42, 27, 182, 0, 123, 176]
abbrev dktJ2_get_0 : List UInt8 := dkwJ2_get_0 ++ []
theorem dksJ2_get_0 : cJ2_get.data.toList.drop 0 = dktJ2_get_0 := by decide +kernel
theorem dJ2_get_0 : decode cJ2_get 0 = .ok (.iload_n 1, 1) := dk_27 (dk_at dksJ2_get_0 0 rfl rfl)
theorem dJ2_get_1 : decode cJ2_get 1 = .ok (.aload_n 0, 1) := dk_42 (dk_at dksJ2_get_0 1 rfl rfl)
theorem dJ2_get_2 : decode cJ2_get 2 = .ok (.getfield 48, 3) := dk_180 0 48 (dk_at dksJ2_get_0 2 rfl rfl)
theorem dJ2_get_5 : decode cJ2_get 5 = .ok (.invokestatic 118, 3) := dk_184 0 118 (dk_at dksJ2_get_0 5 rfl rfl)
theorem dJ2_get_8 : decode cJ2_get 8 = .ok (.pop, 1) := dk_87 (dk_at dksJ2_get_0 8 rfl rfl)
theorem dJ2_get_9 : decode cJ2_get 9 = .ok (.aload_n 0, 1) := dk_42 (dk_at dksJ2_get_0 9 rfl rfl)
theorem dJ2_get_10 : decode cJ2_get 10 = .ok (.iload_n 1, 1) := dk_27 (dk_at dksJ2_get_0 10 rfl rfl)
theorem dJ2_get_11 : decode cJ2_get 11 = .ok (.invokevirtual 123, 3) := dk_182 0 123 (dk_at dksJ2_get_0 11 rfl rfl)
theorem dJ2_get_14 : decode cJ2_get 14 = .ok (.areturn, 1) := dk_176 (dk_at dksJ2_get_0 14 rfl rfl)
def dkwJ2_elementData_0 : List UInt8 := [42, 180, 0, 9, 27, 50, 176]
abbrev dktJ2_elementData_0 : List UInt8 := dkwJ2_elementData_0 ++ []
theorem dksJ2_elementData_0 : cJ2_elementData.data.toList.drop 0 = dktJ2_elementData_0 := by decide +kernel
theorem dJ2_elementData_0 : decode cJ2_elementData 0 = .ok (.aload_n 0, 1) := dk_42 (dk_at dksJ2_elementData_0 0 rfl rfl)
theorem dJ2_elementData_1 : decode cJ2_elementData 1 = .ok (.getfield 9, 3) := dk_180 0 9 (dk_at dksJ2_elementData_0 1 rfl rfl)
theorem dJ2_elementData_4 : decode cJ2_elementData 4 = .ok (.iload_n 1, 1) := dk_27 (dk_at dksJ2_elementData_0 4 rfl rfl)
theorem dJ2_elementData_5 : decode cJ2_elementData 5 = .ok (.aaload, 1) := dk_50 (dk_at dksJ2_elementData_0 5 rfl rfl)
theorem dJ2_elementData_6 : decode cJ2_elementData 6 = .ok (.areturn, 1) := dk_176 (dk_at dksJ2_elementData_0 6 rfl rfl)
def dkwJ2_add_1 : List UInt8 := [172]
abbrev dktJ2_add_1 : List UInt8 := dkwJ2_add_1 ++ []
def dkwJ2_add_0 : List UInt8 := [42, 89, 180, 0, 63, 4, 96, 181, 0, 63, 42, 43, 42, 180, 0, 9, 42, 180, 0, 48, 182, 0, 131, 4]
abbrev dktJ2_add_0 : List UInt8 := dkwJ2_add_0 ++ dktJ2_add_1
theorem dksJ2_add_0 : cJ2_add.data.toList.drop 0 = dktJ2_add_0 := by decide +kernel
theorem dksJ2_add_1 : cJ2_add.data.toList.drop 24 = dktJ2_add_1 := dk_seg dksJ2_add_0 24 rfl rfl
theorem dJ2_add_0 : decode cJ2_add 0 = .ok (.aload_n 0, 1) := dk_42 (dk_at dksJ2_add_0 0 rfl rfl)
theorem dJ2_add_1 : decode cJ2_add 1 = .ok (.dup, 1) := dk_89 (dk_at dksJ2_add_0 1 rfl rfl)
theorem dJ2_add_2 : decode cJ2_add 2 = .ok (.getfield 63, 3) := dk_180 0 63 (dk_at dksJ2_add_0 2 rfl rfl)
theorem dJ2_add_5 : decode cJ2_add 5 = .ok (.iconst 1, 1) := dk_4 (dk_at dksJ2_add_0 5 rfl rfl)
theorem dJ2_add_6 : decode cJ2_add 6 = .ok (.iadd, 1) := dk_96 (dk_at dksJ2_add_0 6 rfl rfl)
theorem dJ2_add_7 : decode cJ2_add 7 = .ok (.putfield 63, 3) := dk_181 0 63 (dk_at dksJ2_add_0 7 rfl rfl)
theorem dJ2_add_10 : decode cJ2_add 10 = .ok (.aload_n 0, 1) := dk_42 (dk_at dksJ2_add_0 10 rfl rfl)
theorem dJ2_add_11 : decode cJ2_add 11 = .ok (.aload_n 1, 1) := dk_43 (dk_at dksJ2_add_0 11 rfl rfl)
theorem dJ2_add_12 : decode cJ2_add 12 = .ok (.aload_n 0, 1) := dk_42 (dk_at dksJ2_add_0 12 rfl rfl)
theorem dJ2_add_13 : decode cJ2_add 13 = .ok (.getfield 9, 3) := dk_180 0 9 (dk_at dksJ2_add_0 13 rfl rfl)
theorem dJ2_add_16 : decode cJ2_add 16 = .ok (.aload_n 0, 1) := dk_42 (dk_at dksJ2_add_0 16 rfl rfl)
theorem dJ2_add_17 : decode cJ2_add 17 = .ok (.getfield 48, 3) := dk_180 0 48 (dk_at dksJ2_add_0 17 rfl rfl)
theorem dJ2_add_20 : decode cJ2_add 20 = .ok (.invokevirtual 131, 3) := dk_182 0 131 (dk_at dksJ2_add_0 20 rfl rfl)
theorem dJ2_add_23 : decode cJ2_add 23 = .ok (.iconst 1, 1) := dk_4 (dk_at dksJ2_add_0 23 rfl rfl)
theorem dJ2_add_24 : decode cJ2_add 24 = .ok (.ireturn, 1) := dk_172 (dk_at dksJ2_add_1 0 rfl rfl)
def dkwJ2_add_2_0 : List UInt8 := [29, 44, 190, 160, 0, 8, 42, 182, 0, 129, 77, 44, 29, 43, 83, 42, 29, 4, 96, 181, 0, 48, 177]
abbrev dktJ2_add_2_0 : List UInt8 := dkwJ2_add_2_0 ++ []
theorem dksJ2_add_2_0 : cJ2_add_2.data.toList.drop 0 = dktJ2_add_2_0 := by decide +kernel
theorem dJ2_add_2_0 : decode cJ2_add_2 0 = .ok (.iload_n 3, 1) := dk_29 (dk_at dksJ2_add_2_0 0 rfl rfl)
theorem dJ2_add_2_1 : decode cJ2_add_2 1 = .ok (.aload_n 2, 1) := dk_44 (dk_at dksJ2_add_2_0 1 rfl rfl)
theorem dJ2_add_2_2 : decode cJ2_add_2 2 = .ok (.arraylength, 1) := dk_190 (dk_at dksJ2_add_2_0 2 rfl rfl)
theorem dJ2_add_2_3 : decode cJ2_add_2 3 = .ok (.if_icmp .ne 8, 3) := dk_160 0 8 (dk_at dksJ2_add_2_0 3 rfl rfl)
theorem dJ2_add_2_6 : decode cJ2_add_2 6 = .ok (.aload_n 0, 1) := dk_42 (dk_at dksJ2_add_2_0 6 rfl rfl)
theorem dJ2_add_2_7 : decode cJ2_add_2 7 = .ok (.invokevirtual 129, 3) := dk_182 0 129 (dk_at dksJ2_add_2_0 7 rfl rfl)
theorem dJ2_add_2_10 : decode cJ2_add_2 10 = .ok (.astore_n 2, 1) := dk_77 (dk_at dksJ2_add_2_0 10 rfl rfl)
theorem dJ2_add_2_11 : decode cJ2_add_2 11 = .ok (.aload_n 2, 1) := dk_44 (dk_at dksJ2_add_2_0 11 rfl rfl)
theorem dJ2_add_2_12 : decode cJ2_add_2 12 = .ok (.iload_n 3, 1) := dk_29 (dk_at dksJ2_add_2_0 12 rfl rfl)
theorem dJ2_add_2_13 : decode cJ2_add_2 13 = .ok (.aload_n 1, 1) := dk_43 (dk_at dksJ2_add_2_0 13 rfl rfl)
theorem dJ2_add_2_14 : decode cJ2_add_2 14 = .ok (.aastore, 1) := dk_83 (dk_at dksJ2_add_2_0 14 rfl rfl)
theorem dJ2_add_2_15 : decode cJ2_add_2 15 = .ok (.aload_n 0, 1) := dk_42 (dk_at dksJ2_add_2_0 15 rfl rfl)
theorem dJ2_add_2_16 : decode cJ2_add_2 16 = .ok (.iload_n 3, 1) := dk_29 (dk_at dksJ2_add_2_0 16 rfl rfl)
theorem dJ2_add_2_17 : decode cJ2_add_2 17 = .ok (.iconst 1, 1) := dk_4 (dk_at dksJ2_add_2_0 17 rfl rfl)
theorem dJ2_add_2_18 : decode cJ2_add_2 18 = .ok (.iadd, 1) := dk_96 (dk_at dksJ2_add_2_0 18 rfl rfl)
theorem dJ2_add_2_19 : decode cJ2_add_2 19 = .ok (.putfield 48, 3) := dk_181 0 48 (dk_at dksJ2_add_2_0 19 rfl rfl)
theorem dJ2_add_2_22 : decode cJ2_add_2 22 = .ok (.return_, 1) := dk_177 (dk_at dksJ2_add_2_0 22 rfl rfl)
def dkwJ2_grow_0 : List UInt8 := [42, 42, 180, 0, 48, 4, 96, 182, 0, 69, 176]
abbrev dktJ2_grow_0 : List UInt8 := dkwJ2_grow_0 ++ []
theorem dksJ2_grow_0 : cJ2_grow.data.toList.drop 0 = dktJ2_grow_0 := by decide +kernel
theorem dJ2_grow_0 : decode cJ2_grow 0 = .ok (.aload_n 0, 1) := dk_42 (dk_at dksJ2_grow_0 0 rfl rfl)
theorem dJ2_grow_1 : decode cJ2_grow 1 = .ok (.aload_n 0, 1) := dk_42 (dk_at dksJ2_grow_0 1 rfl rfl)
theorem dJ2_grow_2 : decode cJ2_grow 2 = .ok (.getfield 48, 3) := dk_180 0 48 (dk_at dksJ2_grow_0 2 rfl rfl)
theorem dJ2_grow_5 : decode cJ2_grow 5 = .ok (.iconst 1, 1) := dk_4 (dk_at dksJ2_grow_0 5 rfl rfl)
theorem dJ2_grow_6 : decode cJ2_grow 6 = .ok (.iadd, 1) := dk_96 (dk_at dksJ2_grow_0 6 rfl rfl)
theorem dJ2_grow_7 : decode cJ2_grow 7 = .ok (.invokevirtual 69, 3) := dk_182 0 69 (dk_at dksJ2_grow_0 7 rfl rfl)
theorem dJ2_grow_10 : decode cJ2_grow 10 = .ok (.areturn, 1) := dk_176 (dk_at dksJ2_grow_0 10 rfl rfl)
def dkwJ2_grow_2_2 : List UInt8 := [27, 184, 0, 79, 189, 0, 7, 90, 181, 0, 9, 176]
abbrev dktJ2_grow_2_2 : List UInt8 := dkwJ2_grow_2_2 ++ []
def dkwJ2_grow_2_1 : List UInt8 := [28, 4, 122, 184, 0, 73, 62, 42, 42, 180, 0, 9, 29, 184, 0, 66, 90, 181, 0, 9, 176, 42, 16, 10]
abbrev dktJ2_grow_2_1 : List UInt8 := dkwJ2_grow_2_1 ++ dktJ2_grow_2_2
def dkwJ2_grow_2_0 : List UInt8 := [42, 180, 0, 9, 190, 61, 28, 157, 0, 13, 42, 180, 0, 9, 178, 0, 39, 165, 0, 28, 28, 27, 28, 100]
abbrev dktJ2_grow_2_0 : List UInt8 := dkwJ2_grow_2_0 ++ dktJ2_grow_2_1
theorem dksJ2_grow_2_0 : cJ2_grow_2.data.toList.drop 0 = dktJ2_grow_2_0 := by decide +kernel
theorem dksJ2_grow_2_1 : cJ2_grow_2.data.toList.drop 24 = dktJ2_grow_2_1 := dk_seg dksJ2_grow_2_0 24 rfl rfl
theorem dksJ2_grow_2_2 : cJ2_grow_2.data.toList.drop 48 = dktJ2_grow_2_2 := dk_seg dksJ2_grow_2_1 24 rfl rfl
theorem dJ2_grow_2_0 : decode cJ2_grow_2 0 = .ok (.aload_n 0, 1) := dk_42 (dk_at dksJ2_grow_2_0 0 rfl rfl)
theorem dJ2_grow_2_1 : decode cJ2_grow_2 1 = .ok (.getfield 9, 3) := dk_180 0 9 (dk_at dksJ2_grow_2_0 1 rfl rfl)
theorem dJ2_grow_2_4 : decode cJ2_grow_2 4 = .ok (.arraylength, 1) := dk_190 (dk_at dksJ2_grow_2_0 4 rfl rfl)
theorem dJ2_grow_2_5 : decode cJ2_grow_2 5 = .ok (.istore_n 2, 1) := dk_61 (dk_at dksJ2_grow_2_0 5 rfl rfl)
theorem dJ2_grow_2_6 : decode cJ2_grow_2 6 = .ok (.iload_n 2, 1) := dk_28 (dk_at dksJ2_grow_2_0 6 rfl rfl)
theorem dJ2_grow_2_7 : decode cJ2_grow_2 7 = .ok (.ifCond .gt 13, 3) := dk_157 0 13 (dk_at dksJ2_grow_2_0 7 rfl rfl)
theorem dJ2_grow_2_10 : decode cJ2_grow_2 10 = .ok (.aload_n 0, 1) := dk_42 (dk_at dksJ2_grow_2_0 10 rfl rfl)
theorem dJ2_grow_2_11 : decode cJ2_grow_2 11 = .ok (.getfield 9, 3) := dk_180 0 9 (dk_at dksJ2_grow_2_0 11 rfl rfl)
theorem dJ2_grow_2_14 : decode cJ2_grow_2 14 = .ok (.getstatic 39, 3) := dk_178 0 39 (dk_at dksJ2_grow_2_0 14 rfl rfl)
theorem dJ2_grow_2_17 : decode cJ2_grow_2 17 = .ok (.if_acmp .eq 28, 3) := dk_165 0 28 (dk_at dksJ2_grow_2_0 17 rfl rfl)
theorem dJ2_grow_2_20 : decode cJ2_grow_2 20 = .ok (.iload_n 2, 1) := dk_28 (dk_at dksJ2_grow_2_0 20 rfl rfl)
theorem dJ2_grow_2_21 : decode cJ2_grow_2 21 = .ok (.iload_n 1, 1) := dk_27 (dk_at dksJ2_grow_2_0 21 rfl rfl)
theorem dJ2_grow_2_22 : decode cJ2_grow_2 22 = .ok (.iload_n 2, 1) := dk_28 (dk_at dksJ2_grow_2_0 22 rfl rfl)
theorem dJ2_grow_2_23 : decode cJ2_grow_2 23 = .ok (.isub, 1) := dk_100 (dk_at dksJ2_grow_2_0 23 rfl rfl)
theorem dJ2_grow_2_24 : decode cJ2_grow_2 24 = .ok (.iload_n 2, 1) := dk_28 (dk_at dksJ2_grow_2_1 0 rfl rfl)
theorem dJ2_grow_2_25 : decode cJ2_grow_2 25 = .ok (.iconst 1, 1) := dk_4 (dk_at dksJ2_grow_2_1 1 rfl rfl)
theorem dJ2_grow_2_26 : decode cJ2_grow_2 26 = .ok (.ishr, 1) := dk_122 (dk_at dksJ2_grow_2_1 2 rfl rfl)
theorem dJ2_grow_2_27 : decode cJ2_grow_2 27 = .ok (.invokestatic 73, 3) := dk_184 0 73 (dk_at dksJ2_grow_2_1 3 rfl rfl)
theorem dJ2_grow_2_30 : decode cJ2_grow_2 30 = .ok (.istore_n 3, 1) := dk_62 (dk_at dksJ2_grow_2_1 6 rfl rfl)
theorem dJ2_grow_2_31 : decode cJ2_grow_2 31 = .ok (.aload_n 0, 1) := dk_42 (dk_at dksJ2_grow_2_1 7 rfl rfl)
theorem dJ2_grow_2_32 : decode cJ2_grow_2 32 = .ok (.aload_n 0, 1) := dk_42 (dk_at dksJ2_grow_2_1 8 rfl rfl)
theorem dJ2_grow_2_33 : decode cJ2_grow_2 33 = .ok (.getfield 9, 3) := dk_180 0 9 (dk_at dksJ2_grow_2_1 9 rfl rfl)
theorem dJ2_grow_2_36 : decode cJ2_grow_2 36 = .ok (.iload_n 3, 1) := dk_29 (dk_at dksJ2_grow_2_1 12 rfl rfl)
theorem dJ2_grow_2_37 : decode cJ2_grow_2 37 = .ok (.invokestatic 66, 3) := dk_184 0 66 (dk_at dksJ2_grow_2_1 13 rfl rfl)
theorem dJ2_grow_2_40 : decode cJ2_grow_2 40 = .ok (.dup_x1, 1) := dk_90 (dk_at dksJ2_grow_2_1 16 rfl rfl)
theorem dJ2_grow_2_41 : decode cJ2_grow_2 41 = .ok (.putfield 9, 3) := dk_181 0 9 (dk_at dksJ2_grow_2_1 17 rfl rfl)
theorem dJ2_grow_2_44 : decode cJ2_grow_2 44 = .ok (.areturn, 1) := dk_176 (dk_at dksJ2_grow_2_1 20 rfl rfl)
theorem dJ2_grow_2_45 : decode cJ2_grow_2 45 = .ok (.aload_n 0, 1) := dk_42 (dk_at dksJ2_grow_2_1 21 rfl rfl)
theorem dJ2_grow_2_46 : decode cJ2_grow_2 46 = .ok (.bipush 10, 2) := dk_16 10 (dk_at dksJ2_grow_2_1 22 rfl rfl)
theorem dJ2_grow_2_48 : decode cJ2_grow_2 48 = .ok (.iload_n 1, 1) := dk_27 (dk_at dksJ2_grow_2_2 0 rfl rfl)
theorem dJ2_grow_2_49 : decode cJ2_grow_2 49 = .ok (.invokestatic 79, 3) := dk_184 0 79 (dk_at dksJ2_grow_2_2 1 rfl rfl)
theorem dJ2_grow_2_52 : decode cJ2_grow_2 52 = .ok (.anewarray 7, 3) := dk_189 0 7 (dk_at dksJ2_grow_2_2 4 rfl rfl)
theorem dJ2_grow_2_55 : decode cJ2_grow_2 55 = .ok (.dup_x1, 1) := dk_90 (dk_at dksJ2_grow_2_2 7 rfl rfl)
theorem dJ2_grow_2_56 : decode cJ2_grow_2 56 = .ok (.putfield 9, 3) := dk_181 0 9 (dk_at dksJ2_grow_2_2 8 rfl rfl)
theorem dJ2_grow_2_59 : decode cJ2_grow_2 59 = .ok (.areturn, 1) := dk_176 (dk_at dksJ2_grow_2_2 11 rfl rfl)
def dkwJ3_init_1 : List UInt8 := [181, 0, 24, 177]
abbrev dktJ3_init_1 : List UInt8 := dkwJ3_init_1 ++ []
def dkwJ3_init_0 : List UInt8 := [42, 183, 0, 21, 42, 3, 181, 0, 7, 42, 3, 181, 0, 24, 42, 16, 64, 182, 0, 27, 42, 3]
abbrev dktJ3_init_0 : List UInt8 := dkwJ3_init_0 ++ dktJ3_init_1
theorem dksJ3_init_0 : cJ3_init.data.toList.drop 0 = dktJ3_init_0 := by decide +kernel
theorem dksJ3_init_1 : cJ3_init.data.toList.drop 22 = dktJ3_init_1 := dk_seg dksJ3_init_0 22 rfl rfl
theorem dJ3_init_0 : decode cJ3_init 0 = .ok (.aload_n 0, 1) := dk_42 (dk_at dksJ3_init_0 0 rfl rfl)
theorem dJ3_init_1 : decode cJ3_init 1 = .ok (.invokespecial 21, 3) := dk_183 0 21 (dk_at dksJ3_init_0 1 rfl rfl)
theorem dJ3_init_4 : decode cJ3_init 4 = .ok (.aload_n 0, 1) := dk_42 (dk_at dksJ3_init_0 4 rfl rfl)
theorem dJ3_init_5 : decode cJ3_init 5 = .ok (.iconst 0, 1) := dk_3 (dk_at dksJ3_init_0 5 rfl rfl)
theorem dJ3_init_6 : decode cJ3_init 6 = .ok (.putfield 7, 3) := dk_181 0 7 (dk_at dksJ3_init_0 6 rfl rfl)
theorem dJ3_init_9 : decode cJ3_init 9 = .ok (.aload_n 0, 1) := dk_42 (dk_at dksJ3_init_0 9 rfl rfl)
theorem dJ3_init_10 : decode cJ3_init 10 = .ok (.iconst 0, 1) := dk_3 (dk_at dksJ3_init_0 10 rfl rfl)
theorem dJ3_init_11 : decode cJ3_init 11 = .ok (.putfield 24, 3) := dk_181 0 24 (dk_at dksJ3_init_0 11 rfl rfl)
theorem dJ3_init_14 : decode cJ3_init 14 = .ok (.aload_n 0, 1) := dk_42 (dk_at dksJ3_init_0 14 rfl rfl)
theorem dJ3_init_15 : decode cJ3_init 15 = .ok (.bipush 64, 2) := dk_16 64 (dk_at dksJ3_init_0 15 rfl rfl)
theorem dJ3_init_17 : decode cJ3_init 17 = .ok (.invokevirtual 27, 3) := dk_182 0 27 (dk_at dksJ3_init_0 17 rfl rfl)
theorem dJ3_init_20 : decode cJ3_init 20 = .ok (.aload_n 0, 1) := dk_42 (dk_at dksJ3_init_0 20 rfl rfl)
theorem dJ3_init_21 : decode cJ3_init 21 = .ok (.iconst 0, 1) := dk_3 (dk_at dksJ3_init_0 21 rfl rfl)
theorem dJ3_init_22 : decode cJ3_init 22 = .ok (.putfield 24, 3) := dk_181 0 24 (dk_at dksJ3_init_1 0 rfl rfl)
theorem dJ3_init_25 : decode cJ3_init 25 = .ok (.return_, 1) := dk_177 (dk_at dksJ3_init_1 3 rfl rfl)
def dkwJ3_initWords_0 : List UInt8 := [42, 27, 4, 100, 184, 0, 52, 4, 96, 188, 11, 181, 0, 11, 177]
abbrev dktJ3_initWords_0 : List UInt8 := dkwJ3_initWords_0 ++ []
theorem dksJ3_initWords_0 : cJ3_initWords.data.toList.drop 0 = dktJ3_initWords_0 := by decide +kernel
theorem dJ3_initWords_0 : decode cJ3_initWords 0 = .ok (.aload_n 0, 1) := dk_42 (dk_at dksJ3_initWords_0 0 rfl rfl)
theorem dJ3_initWords_1 : decode cJ3_initWords 1 = .ok (.iload_n 1, 1) := dk_27 (dk_at dksJ3_initWords_0 1 rfl rfl)
theorem dJ3_initWords_2 : decode cJ3_initWords 2 = .ok (.iconst 1, 1) := dk_4 (dk_at dksJ3_initWords_0 2 rfl rfl)
theorem dJ3_initWords_3 : decode cJ3_initWords 3 = .ok (.isub, 1) := dk_100 (dk_at dksJ3_initWords_0 3 rfl rfl)
theorem dJ3_initWords_4 : decode cJ3_initWords 4 = .ok (.invokestatic 52, 3) := dk_184 0 52 (dk_at dksJ3_initWords_0 4 rfl rfl)
theorem dJ3_initWords_7 : decode cJ3_initWords 7 = .ok (.iconst 1, 1) := dk_4 (dk_at dksJ3_initWords_0 7 rfl rfl)
theorem dJ3_initWords_8 : decode cJ3_initWords 8 = .ok (.iadd, 1) := dk_96 (dk_at dksJ3_initWords_0 8 rfl rfl)
theorem dJ3_initWords_9 : decode cJ3_initWords 9 = .ok (.newarray .long, 2) := dk_188_11 (dk_at dksJ3_initWords_0 9 rfl rfl)
theorem dJ3_initWords_11 : decode cJ3_initWords 11 = .ok (.putfield 11, 3) := dk_181 0 11 (dk_at dksJ3_initWords_0 11 rfl rfl)
theorem dJ3_initWords_14 : decode cJ3_initWords 14 = .ok (.return_, 1) := dk_177 (dk_at dksJ3_initWords_0 14 rfl rfl)
def dkwJ3_wordIndex_0 : List UInt8 := [26, 16, 6, 122, 172]
abbrev dktJ3_wordIndex_0 : List UInt8 := dkwJ3_wordIndex_0 ++ []
theorem dksJ3_wordIndex_0 : cJ3_wordIndex.data.toList.drop 0 = dktJ3_wordIndex_0 := by decide +kernel
theorem dJ3_wordIndex_0 : decode cJ3_wordIndex 0 = .ok (.iload_n 0, 1) := dk_26 (dk_at dksJ3_wordIndex_0 0 rfl rfl)
theorem dJ3_wordIndex_1 : decode cJ3_wordIndex 1 = .ok (.bipush 6, 2) := dk_16 6 (dk_at dksJ3_wordIndex_0 1 rfl rfl)
theorem dJ3_wordIndex_3 : decode cJ3_wordIndex 3 = .ok (.ishr, 1) := dk_122 (dk_at dksJ3_wordIndex_0 3 rfl rfl)
theorem dJ3_wordIndex_4 : decode cJ3_wordIndex 4 = .ok (.ireturn, 1) := dk_172 (dk_at dksJ3_wordIndex_0 4 rfl rfl)
def dkwJ3_set_2 : List UInt8 := [10, 27, 121, 129, 80, 42, 182, 0, 56, 177]
abbrev dktJ3_set_2 : List UInt8 := dkwJ3_set_2 ++ []
def dkwJ3_set_1 : List UInt8 := [182, 0, 45, 183, 0, 146, 191, 27, 184, 0, 52, 61, 42, 28, 182, 0, 155, 42, 180, 0, 11, 28, 92, 47]
abbrev dktJ3_set_1 : List UInt8 := dkwJ3_set_1 ++ dktJ3_set_2
def dkwJ3_set_0 : List UInt8 := [27, 156, 0, 30, 187, 0, 142, 89, 187, 0, 33, 89, 183, 0, 35, 18, 153, 182, 0, 38, 27, 182, 0, 42]
abbrev dktJ3_set_0 : List UInt8 := dkwJ3_set_0 ++ dktJ3_set_1
theorem dksJ3_set_0 : cJ3_set.data.toList.drop 0 = dktJ3_set_0 := by decide +kernel
theorem dksJ3_set_1 : cJ3_set.data.toList.drop 24 = dktJ3_set_1 := dk_seg dksJ3_set_0 24 rfl rfl
theorem dksJ3_set_2 : cJ3_set.data.toList.drop 48 = dktJ3_set_2 := dk_seg dksJ3_set_1 24 rfl rfl
theorem dJ3_set_0 : decode cJ3_set 0 = .ok (.iload_n 1, 1) := dk_27 (dk_at dksJ3_set_0 0 rfl rfl)
theorem dJ3_set_1 : decode cJ3_set 1 = .ok (.ifCond .ge 30, 3) := dk_156 0 30 (dk_at dksJ3_set_0 1 rfl rfl)
theorem dJ3_set_4 : decode cJ3_set 4 = .ok (.new 142, 3) := dk_187 0 142 (dk_at dksJ3_set_0 4 rfl rfl)
theorem dJ3_set_7 : decode cJ3_set 7 = .ok (.dup, 1) := dk_89 (dk_at dksJ3_set_0 7 rfl rfl)
theorem dJ3_set_8 : decode cJ3_set 8 = .ok (.new 33, 3) := dk_187 0 33 (dk_at dksJ3_set_0 8 rfl rfl)
theorem dJ3_set_11 : decode cJ3_set 11 = .ok (.dup, 1) := dk_89 (dk_at dksJ3_set_0 11 rfl rfl)
theorem dJ3_set_12 : decode cJ3_set 12 = .ok (.invokespecial 35, 3) := dk_183 0 35 (dk_at dksJ3_set_0 12 rfl rfl)
theorem dJ3_set_15 : decode cJ3_set 15 = .ok (.ldc 153, 2) := dk_18 153 (dk_at dksJ3_set_0 15 rfl rfl)
theorem dJ3_set_17 : decode cJ3_set 17 = .ok (.invokevirtual 38, 3) := dk_182 0 38 (dk_at dksJ3_set_0 17 rfl rfl)
theorem dJ3_set_20 : decode cJ3_set 20 = .ok (.iload_n 1, 1) := dk_27 (dk_at dksJ3_set_0 20 rfl rfl)
theorem dJ3_set_21 : decode cJ3_set 21 = .ok (.invokevirtual 42, 3) := dk_182 0 42 (dk_at dksJ3_set_0 21 rfl rfl)
theorem dJ3_set_24 : decode cJ3_set 24 = .ok (.invokevirtual 45, 3) := dk_182 0 45 (dk_at dksJ3_set_1 0 rfl rfl)
theorem dJ3_set_27 : decode cJ3_set 27 = .ok (.invokespecial 146, 3) := dk_183 0 146 (dk_at dksJ3_set_1 3 rfl rfl)
theorem dJ3_set_30 : decode cJ3_set 30 = .ok (.athrow, 1) := dk_191 (dk_at dksJ3_set_1 6 rfl rfl)
theorem dJ3_set_31 : decode cJ3_set 31 = .ok (.iload_n 1, 1) := dk_27 (dk_at dksJ3_set_1 7 rfl rfl)
theorem dJ3_set_32 : decode cJ3_set 32 = .ok (.invokestatic 52, 3) := dk_184 0 52 (dk_at dksJ3_set_1 8 rfl rfl)
theorem dJ3_set_35 : decode cJ3_set 35 = .ok (.istore_n 2, 1) := dk_61 (dk_at dksJ3_set_1 11 rfl rfl)
theorem dJ3_set_36 : decode cJ3_set 36 = .ok (.aload_n 0, 1) := dk_42 (dk_at dksJ3_set_1 12 rfl rfl)
theorem dJ3_set_37 : decode cJ3_set 37 = .ok (.iload_n 2, 1) := dk_28 (dk_at dksJ3_set_1 13 rfl rfl)
theorem dJ3_set_38 : decode cJ3_set 38 = .ok (.invokevirtual 155, 3) := dk_182 0 155 (dk_at dksJ3_set_1 14 rfl rfl)
theorem dJ3_set_41 : decode cJ3_set 41 = .ok (.aload_n 0, 1) := dk_42 (dk_at dksJ3_set_1 17 rfl rfl)
theorem dJ3_set_42 : decode cJ3_set 42 = .ok (.getfield 11, 3) := dk_180 0 11 (dk_at dksJ3_set_1 18 rfl rfl)
theorem dJ3_set_45 : decode cJ3_set 45 = .ok (.iload_n 2, 1) := dk_28 (dk_at dksJ3_set_1 21 rfl rfl)
theorem dJ3_set_46 : decode cJ3_set 46 = .ok (.dup2, 1) := dk_92 (dk_at dksJ3_set_1 22 rfl rfl)
theorem dJ3_set_47 : decode cJ3_set 47 = .ok (.laload, 1) := dk_47 (dk_at dksJ3_set_1 23 rfl rfl)
theorem dJ3_set_48 : decode cJ3_set 48 = .ok (.lconst 1, 1) := dk_10 (dk_at dksJ3_set_2 0 rfl rfl)
theorem dJ3_set_49 : decode cJ3_set 49 = .ok (.iload_n 1, 1) := dk_27 (dk_at dksJ3_set_2 1 rfl rfl)
theorem dJ3_set_50 : decode cJ3_set 50 = .ok (.lshl, 1) := dk_121 (dk_at dksJ3_set_2 2 rfl rfl)
theorem dJ3_set_51 : decode cJ3_set 51 = .ok (.lor, 1) := dk_129 (dk_at dksJ3_set_2 3 rfl rfl)
theorem dJ3_set_52 : decode cJ3_set 52 = .ok (.lastore, 1) := dk_80 (dk_at dksJ3_set_2 4 rfl rfl)
theorem dJ3_set_53 : decode cJ3_set 53 = .ok (.aload_n 0, 1) := dk_42 (dk_at dksJ3_set_2 5 rfl rfl)
theorem dJ3_set_54 : decode cJ3_set 54 = .ok (.invokevirtual 56, 3) := dk_182 0 56 (dk_at dksJ3_set_2 6 rfl rfl)
theorem dJ3_set_57 : decode cJ3_set 57 = .ok (.return_, 1) := dk_177 (dk_at dksJ3_set_2 9 rfl rfl)
def dkwJ3_expandTo_0 : List UInt8 := [27, 4, 96, 61, 42, 180, 0, 7, 28, 162, 0, 13, 42, 28, 182, 0, 139, 42, 28, 181, 0, 7, 177]
abbrev dktJ3_expandTo_0 : List UInt8 := dkwJ3_expandTo_0 ++ []
theorem dksJ3_expandTo_0 : cJ3_expandTo.data.toList.drop 0 = dktJ3_expandTo_0 := by decide +kernel
theorem dJ3_expandTo_0 : decode cJ3_expandTo 0 = .ok (.iload_n 1, 1) := dk_27 (dk_at dksJ3_expandTo_0 0 rfl rfl)
theorem dJ3_expandTo_1 : decode cJ3_expandTo 1 = .ok (.iconst 1, 1) := dk_4 (dk_at dksJ3_expandTo_0 1 rfl rfl)
theorem dJ3_expandTo_2 : decode cJ3_expandTo 2 = .ok (.iadd, 1) := dk_96 (dk_at dksJ3_expandTo_0 2 rfl rfl)
theorem dJ3_expandTo_3 : decode cJ3_expandTo 3 = .ok (.istore_n 2, 1) := dk_61 (dk_at dksJ3_expandTo_0 3 rfl rfl)
theorem dJ3_expandTo_4 : decode cJ3_expandTo 4 = .ok (.aload_n 0, 1) := dk_42 (dk_at dksJ3_expandTo_0 4 rfl rfl)
theorem dJ3_expandTo_5 : decode cJ3_expandTo 5 = .ok (.getfield 7, 3) := dk_180 0 7 (dk_at dksJ3_expandTo_0 5 rfl rfl)
theorem dJ3_expandTo_8 : decode cJ3_expandTo 8 = .ok (.iload_n 2, 1) := dk_28 (dk_at dksJ3_expandTo_0 8 rfl rfl)
theorem dJ3_expandTo_9 : decode cJ3_expandTo 9 = .ok (.if_icmp .ge 13, 3) := dk_162 0 13 (dk_at dksJ3_expandTo_0 9 rfl rfl)
theorem dJ3_expandTo_12 : decode cJ3_expandTo 12 = .ok (.aload_n 0, 1) := dk_42 (dk_at dksJ3_expandTo_0 12 rfl rfl)
theorem dJ3_expandTo_13 : decode cJ3_expandTo 13 = .ok (.iload_n 2, 1) := dk_28 (dk_at dksJ3_expandTo_0 13 rfl rfl)
theorem dJ3_expandTo_14 : decode cJ3_expandTo 14 = .ok (.invokevirtual 139, 3) := dk_182 0 139 (dk_at dksJ3_expandTo_0 14 rfl rfl)
theorem dJ3_expandTo_17 : decode cJ3_expandTo 17 = .ok (.aload_n 0, 1) := dk_42 (dk_at dksJ3_expandTo_0 17 rfl rfl)
theorem dJ3_expandTo_18 : decode cJ3_expandTo 18 = .ok (.iload_n 2, 1) := dk_28 (dk_at dksJ3_expandTo_0 18 rfl rfl)
theorem dJ3_expandTo_19 : decode cJ3_expandTo 19 = .ok (.putfield 7, 3) := dk_181 0 7 (dk_at dksJ3_expandTo_0 19 rfl rfl)
theorem dJ3_expandTo_22 : decode cJ3_expandTo 22 = .ok (.return_, 1) := dk_177 (dk_at dksJ3_expandTo_0 22 rfl rfl)
def dkwJ3_ensureCapacity_1 : List UInt8 := [180, 0, 11, 28, 184, 0, 59, 181, 0, 11, 42, 3, 181, 0, 24, 177]
abbrev dktJ3_ensureCapacity_1 : List UInt8 := dkwJ3_ensureCapacity_1 ++ []
def dkwJ3_ensureCapacity_0 : List UInt8 := [42, 180, 0, 11, 190, 27, 162, 0, 32, 5, 42, 180, 0, 11, 190, 104, 27, 184, 0, 133, 61, 42, 42]
abbrev dktJ3_ensureCapacity_0 : List UInt8 := dkwJ3_ensureCapacity_0 ++ dktJ3_ensureCapacity_1
theorem dksJ3_ensureCapacity_0 : cJ3_ensureCapacity.data.toList.drop 0 = dktJ3_ensureCapacity_0 := by decide +kernel
theorem dksJ3_ensureCapacity_1 : cJ3_ensureCapacity.data.toList.drop 23 = dktJ3_ensureCapacity_1 := dk_seg dksJ3_ensureCapacity_0 23 rfl rfl
theorem dJ3_ensureCapacity_0 : decode cJ3_ensureCapacity 0 = .ok (.aload_n 0, 1) := dk_42 (dk_at dksJ3_ensureCapacity_0 0 rfl rfl)
theorem dJ3_ensureCapacity_1 : decode cJ3_ensureCapacity 1 = .ok (.getfield 11, 3) := dk_180 0 11 (dk_at dksJ3_ensureCapacity_0 1 rfl rfl)
theorem dJ3_ensureCapacity_4 : decode cJ3_ensureCapacity 4 = .ok (.arraylength, 1) := dk_190 (dk_at dksJ3_ensureCapacity_0 4 rfl rfl)
theorem dJ3_ensureCapacity_5 : decode cJ3_ensureCapacity 5 = .ok (.iload_n 1, 1) := dk_27 (dk_at dksJ3_ensureCapacity_0 5 rfl rfl)
theorem dJ3_ensureCapacity_6 : decode cJ3_ensureCapacity 6 = .ok (.if_icmp .ge 32, 3) := dk_162 0 32 (dk_at dksJ3_ensureCapacity_0 6 rfl rfl)
theorem dJ3_ensureCapacity_9 : decode cJ3_ensureCapacity 9 = .ok (.iconst 2, 1) := dk_5 (dk_at dksJ3_ensureCapacity_0 9 rfl rfl)
theorem dJ3_ensureCapacity_10 : decode cJ3_ensureCapacity 10 = .ok (.aload_n 0, 1) := dk_42 (dk_at dksJ3_ensureCapacity_0 10 rfl rfl)
theorem dJ3_ensureCapacity_11 : decode cJ3_ensureCapacity 11 = .ok (.getfield 11, 3) := dk_180 0 11 (dk_at dksJ3_ensureCapacity_0 11 rfl rfl)
theorem dJ3_ensureCapacity_14 : decode cJ3_ensureCapacity 14 = .ok (.arraylength, 1) := dk_190 (dk_at dksJ3_ensureCapacity_0 14 rfl rfl)
theorem dJ3_ensureCapacity_15 : decode cJ3_ensureCapacity 15 = .ok (.imul, 1) := dk_104 (dk_at dksJ3_ensureCapacity_0 15 rfl rfl)
theorem dJ3_ensureCapacity_16 : decode cJ3_ensureCapacity 16 = .ok (.iload_n 1, 1) := dk_27 (dk_at dksJ3_ensureCapacity_0 16 rfl rfl)
theorem dJ3_ensureCapacity_17 : decode cJ3_ensureCapacity 17 = .ok (.invokestatic 133, 3) := dk_184 0 133 (dk_at dksJ3_ensureCapacity_0 17 rfl rfl)
theorem dJ3_ensureCapacity_20 : decode cJ3_ensureCapacity 20 = .ok (.istore_n 2, 1) := dk_61 (dk_at dksJ3_ensureCapacity_0 20 rfl rfl)
theorem dJ3_ensureCapacity_21 : decode cJ3_ensureCapacity 21 = .ok (.aload_n 0, 1) := dk_42 (dk_at dksJ3_ensureCapacity_0 21 rfl rfl)
theorem dJ3_ensureCapacity_22 : decode cJ3_ensureCapacity 22 = .ok (.aload_n 0, 1) := dk_42 (dk_at dksJ3_ensureCapacity_0 22 rfl rfl)
theorem dJ3_ensureCapacity_23 : decode cJ3_ensureCapacity 23 = .ok (.getfield 11, 3) := dk_180 0 11 (dk_at dksJ3_ensureCapacity_1 0 rfl rfl)
theorem dJ3_ensureCapacity_26 : decode cJ3_ensureCapacity 26 = .ok (.iload_n 2, 1) := dk_28 (dk_at dksJ3_ensureCapacity_1 3 rfl rfl)
theorem dJ3_ensureCapacity_27 : decode cJ3_ensureCapacity 27 = .ok (.invokestatic 59, 3) := dk_184 0 59 (dk_at dksJ3_ensureCapacity_1 4 rfl rfl)
theorem dJ3_ensureCapacity_30 : decode cJ3_ensureCapacity 30 = .ok (.putfield 11, 3) := dk_181 0 11 (dk_at dksJ3_ensureCapacity_1 7 rfl rfl)
theorem dJ3_ensureCapacity_33 : decode cJ3_ensureCapacity 33 = .ok (.aload_n 0, 1) := dk_42 (dk_at dksJ3_ensureCapacity_1 10 rfl rfl)
theorem dJ3_ensureCapacity_34 : decode cJ3_ensureCapacity 34 = .ok (.iconst 0, 1) := dk_3 (dk_at dksJ3_ensureCapacity_1 11 rfl rfl)
theorem dJ3_ensureCapacity_35 : decode cJ3_ensureCapacity 35 = .ok (.putfield 24, 3) := dk_181 0 24 (dk_at dksJ3_ensureCapacity_1 12 rfl rfl)
theorem dJ3_ensureCapacity_38 : decode cJ3_ensureCapacity 38 = .ok (.return_, 1) := dk_177 (dk_at dksJ3_ensureCapacity_1 15 rfl rfl)
def dkwJ3_checkInvariants_4 : List UInt8 := [180, 0, 7, 47, 9, 148, 153, 0, 11, 187, 0, 15, 89, 183, 0, 17, 191, 177]
abbrev dktJ3_checkInvariants_4 : List UInt8 := dkwJ3_checkInvariants_4 ++ []
def dkwJ3_checkInvariants_3 : List UInt8 := [178, 0, 3, 154, 0, 37, 42, 180, 0, 7, 42, 180, 0, 11, 190, 159, 0, 25, 42, 180, 0, 11, 42]
abbrev dktJ3_checkInvariants_3 : List UInt8 := dkwJ3_checkInvariants_3 ++ dktJ3_checkInvariants_4
def dkwJ3_checkInvariants_2 : List UInt8 := [155, 0, 15, 42, 180, 0, 7, 42, 180, 0, 11, 190, 164, 0, 11, 187, 0, 15, 89, 183, 0, 17, 191]
abbrev dktJ3_checkInvariants_2 : List UInt8 := dkwJ3_checkInvariants_2 ++ dktJ3_checkInvariants_3
def dkwJ3_checkInvariants_1 : List UInt8 := [9, 148, 154, 0, 11, 187, 0, 15, 89, 183, 0, 17, 191, 178, 0, 3, 154, 0, 30, 42, 180, 0, 7]
abbrev dktJ3_checkInvariants_1 : List UInt8 := dkwJ3_checkInvariants_1 ++ dktJ3_checkInvariants_2
def dkwJ3_checkInvariants_0 : List UInt8 := [178, 0, 3, 154, 0, 34, 42, 180, 0, 7, 153, 0, 27, 42, 180, 0, 11, 42, 180, 0, 7, 4, 100, 47]
abbrev dktJ3_checkInvariants_0 : List UInt8 := dkwJ3_checkInvariants_0 ++ dktJ3_checkInvariants_1
theorem dksJ3_checkInvariants_0 : cJ3_checkInvariants.data.toList.drop 0 = dktJ3_checkInvariants_0 := by decide +kernel
theorem dksJ3_checkInvariants_1 : cJ3_checkInvariants.data.toList.drop 24 = dktJ3_checkInvariants_1 := dk_seg dksJ3_checkInvariants_0 24 rfl rfl
theorem dksJ3_checkInvariants_2 : cJ3_checkInvariants.data.toList.drop 47 = dktJ3_checkInvariants_2 := dk_seg dksJ3_checkInvariants_1 23 rfl rfl
theorem dksJ3_checkInvariants_3 : cJ3_checkInvariants.data.toList.drop 70 = dktJ3_checkInvariants_3 := dk_seg dksJ3_checkInvariants_2 23 rfl rfl
theorem dksJ3_checkInvariants_4 : cJ3_checkInvariants.data.toList.drop 93 = dktJ3_checkInvariants_4 := dk_seg dksJ3_checkInvariants_3 23 rfl rfl
theorem dJ3_checkInvariants_0 : decode cJ3_checkInvariants 0 = .ok (.getstatic 3, 3) := dk_178 0 3 (dk_at dksJ3_checkInvariants_0 0 rfl rfl)
theorem dJ3_checkInvariants_3 : decode cJ3_checkInvariants 3 = .ok (.ifCond .ne 34, 3) := dk_154 0 34 (dk_at dksJ3_checkInvariants_0 3 rfl rfl)
theorem dJ3_checkInvariants_6 : decode cJ3_checkInvariants 6 = .ok (.aload_n 0, 1) := dk_42 (dk_at dksJ3_checkInvariants_0 6 rfl rfl)
theorem dJ3_checkInvariants_7 : decode cJ3_checkInvariants 7 = .ok (.getfield 7, 3) := dk_180 0 7 (dk_at dksJ3_checkInvariants_0 7 rfl rfl)
theorem dJ3_checkInvariants_10 : decode cJ3_checkInvariants 10 = .ok (.ifCond .eq 27, 3) := dk_153 0 27 (dk_at dksJ3_checkInvariants_0 10 rfl rfl)
theorem dJ3_checkInvariants_13 : decode cJ3_checkInvariants 13 = .ok (.aload_n 0, 1) := dk_42 (dk_at dksJ3_checkInvariants_0 13 rfl rfl)
theorem dJ3_checkInvariants_14 : decode cJ3_checkInvariants 14 = .ok (.getfield 11, 3) := dk_180 0 11 (dk_at dksJ3_checkInvariants_0 14 rfl rfl)
theorem dJ3_checkInvariants_17 : decode cJ3_checkInvariants 17 = .ok (.aload_n 0, 1) := dk_42 (dk_at dksJ3_checkInvariants_0 17 rfl rfl)
theorem dJ3_checkInvariants_18 : decode cJ3_checkInvariants 18 = .ok (.getfield 7, 3) := dk_180 0 7 (dk_at dksJ3_checkInvariants_0 18 rfl rfl)
theorem dJ3_checkInvariants_21 : decode cJ3_checkInvariants 21 = .ok (.iconst 1, 1) := dk_4 (dk_at dksJ3_checkInvariants_0 21 rfl rfl)
theorem dJ3_checkInvariants_22 : decode cJ3_checkInvariants 22 = .ok (.isub, 1) := dk_100 (dk_at dksJ3_checkInvariants_0 22 rfl rfl)
theorem dJ3_checkInvariants_23 : decode cJ3_checkInvariants 23 = .ok (.laload, 1) := dk_47 (dk_at dksJ3_checkInvariants_0 23 rfl rfl)
theorem dJ3_checkInvariants_24 : decode cJ3_checkInvariants 24 = .ok (.lconst 0, 1) := dk_9 (dk_at dksJ3_checkInvariants_1 0 rfl rfl)
theorem dJ3_checkInvariants_25 : decode cJ3_checkInvariants 25 = .ok (.lcmp, 1) := dk_148 (dk_at dksJ3_checkInvariants_1 1 rfl rfl)
theorem dJ3_checkInvariants_26 : decode cJ3_checkInvariants 26 = .ok (.ifCond .ne 11, 3) := dk_154 0 11 (dk_at dksJ3_checkInvariants_1 2 rfl rfl)
theorem dJ3_checkInvariants_29 : decode cJ3_checkInvariants 29 = .ok (.new 15, 3) := dk_187 0 15 (dk_at dksJ3_checkInvariants_1 5 rfl rfl)
theorem dJ3_checkInvariants_32 : decode cJ3_checkInvariants 32 = .ok (.dup, 1) := dk_89 (dk_at dksJ3_checkInvariants_1 8 rfl rfl)
theorem dJ3_checkInvariants_33 : decode cJ3_checkInvariants 33 = .ok (.invokespecial 17, 3) := dk_183 0 17 (dk_at dksJ3_checkInvariants_1 9 rfl rfl)
theorem dJ3_checkInvariants_36 : decode cJ3_checkInvariants 36 = .ok (.athrow, 1) := dk_191 (dk_at dksJ3_checkInvariants_1 12 rfl rfl)
theorem dJ3_checkInvariants_37 : decode cJ3_checkInvariants 37 = .ok (.getstatic 3, 3) := dk_178 0 3 (dk_at dksJ3_checkInvariants_1 13 rfl rfl)
theorem dJ3_checkInvariants_40 : decode cJ3_checkInvariants 40 = .ok (.ifCond .ne 30, 3) := dk_154 0 30 (dk_at dksJ3_checkInvariants_1 16 rfl rfl)
theorem dJ3_checkInvariants_43 : decode cJ3_checkInvariants 43 = .ok (.aload_n 0, 1) := dk_42 (dk_at dksJ3_checkInvariants_1 19 rfl rfl)
theorem dJ3_checkInvariants_44 : decode cJ3_checkInvariants 44 = .ok (.getfield 7, 3) := dk_180 0 7 (dk_at dksJ3_checkInvariants_1 20 rfl rfl)
theorem dJ3_checkInvariants_47 : decode cJ3_checkInvariants 47 = .ok (.ifCond .lt 15, 3) := dk_155 0 15 (dk_at dksJ3_checkInvariants_2 0 rfl rfl)
theorem dJ3_checkInvariants_50 : decode cJ3_checkInvariants 50 = .ok (.aload_n 0, 1) := dk_42 (dk_at dksJ3_checkInvariants_2 3 rfl rfl)
theorem dJ3_checkInvariants_51 : decode cJ3_checkInvariants 51 = .ok (.getfield 7, 3) := dk_180 0 7 (dk_at dksJ3_checkInvariants_2 4 rfl rfl)
theorem dJ3_checkInvariants_54 : decode cJ3_checkInvariants 54 = .ok (.aload_n 0, 1) := dk_42 (dk_at dksJ3_checkInvariants_2 7 rfl rfl)
theorem dJ3_checkInvariants_55 : decode cJ3_checkInvariants 55 = .ok (.getfield 11, 3) := dk_180 0 11 (dk_at dksJ3_checkInvariants_2 8 rfl rfl)
theorem dJ3_checkInvariants_58 : decode cJ3_checkInvariants 58 = .ok (.arraylength, 1) := dk_190 (dk_at dksJ3_checkInvariants_2 11 rfl rfl)
theorem dJ3_checkInvariants_59 : decode cJ3_checkInvariants 59 = .ok (.if_icmp .le 11, 3) := dk_164 0 11 (dk_at dksJ3_checkInvariants_2 12 rfl rfl)
theorem dJ3_checkInvariants_62 : decode cJ3_checkInvariants 62 = .ok (.new 15, 3) := dk_187 0 15 (dk_at dksJ3_checkInvariants_2 15 rfl rfl)
theorem dJ3_checkInvariants_65 : decode cJ3_checkInvariants 65 = .ok (.dup, 1) := dk_89 (dk_at dksJ3_checkInvariants_2 18 rfl rfl)
theorem dJ3_checkInvariants_66 : decode cJ3_checkInvariants 66 = .ok (.invokespecial 17, 3) := dk_183 0 17 (dk_at dksJ3_checkInvariants_2 19 rfl rfl)
theorem dJ3_checkInvariants_69 : decode cJ3_checkInvariants 69 = .ok (.athrow, 1) := dk_191 (dk_at dksJ3_checkInvariants_2 22 rfl rfl)
theorem dJ3_checkInvariants_70 : decode cJ3_checkInvariants 70 = .ok (.getstatic 3, 3) := dk_178 0 3 (dk_at dksJ3_checkInvariants_3 0 rfl rfl)
theorem dJ3_checkInvariants_73 : decode cJ3_checkInvariants 73 = .ok (.ifCond .ne 37, 3) := dk_154 0 37 (dk_at dksJ3_checkInvariants_3 3 rfl rfl)
theorem dJ3_checkInvariants_76 : decode cJ3_checkInvariants 76 = .ok (.aload_n 0, 1) := dk_42 (dk_at dksJ3_checkInvariants_3 6 rfl rfl)
theorem dJ3_checkInvariants_77 : decode cJ3_checkInvariants 77 = .ok (.getfield 7, 3) := dk_180 0 7 (dk_at dksJ3_checkInvariants_3 7 rfl rfl)
theorem dJ3_checkInvariants_80 : decode cJ3_checkInvariants 80 = .ok (.aload_n 0, 1) := dk_42 (dk_at dksJ3_checkInvariants_3 10 rfl rfl)
theorem dJ3_checkInvariants_81 : decode cJ3_checkInvariants 81 = .ok (.getfield 11, 3) := dk_180 0 11 (dk_at dksJ3_checkInvariants_3 11 rfl rfl)
theorem dJ3_checkInvariants_84 : decode cJ3_checkInvariants 84 = .ok (.arraylength, 1) := dk_190 (dk_at dksJ3_checkInvariants_3 14 rfl rfl)
theorem dJ3_checkInvariants_85 : decode cJ3_checkInvariants 85 = .ok (.if_icmp .eq 25, 3) := dk_159 0 25 (dk_at dksJ3_checkInvariants_3 15 rfl rfl)
theorem dJ3_checkInvariants_88 : decode cJ3_checkInvariants 88 = .ok (.aload_n 0, 1) := dk_42 (dk_at dksJ3_checkInvariants_3 18 rfl rfl)
theorem dJ3_checkInvariants_89 : decode cJ3_checkInvariants 89 = .ok (.getfield 11, 3) := dk_180 0 11 (dk_at dksJ3_checkInvariants_3 19 rfl rfl)
theorem dJ3_checkInvariants_92 : decode cJ3_checkInvariants 92 = .ok (.aload_n 0, 1) := dk_42 (dk_at dksJ3_checkInvariants_3 22 rfl rfl)
theorem dJ3_checkInvariants_93 : decode cJ3_checkInvariants 93 = .ok (.getfield 7, 3) := dk_180 0 7 (dk_at dksJ3_checkInvariants_4 0 rfl rfl)
theorem dJ3_checkInvariants_96 : decode cJ3_checkInvariants 96 = .ok (.laload, 1) := dk_47 (dk_at dksJ3_checkInvariants_4 3 rfl rfl)
theorem dJ3_checkInvariants_97 : decode cJ3_checkInvariants 97 = .ok (.lconst 0, 1) := dk_9 (dk_at dksJ3_checkInvariants_4 4 rfl rfl)
theorem dJ3_checkInvariants_98 : decode cJ3_checkInvariants 98 = .ok (.lcmp, 1) := dk_148 (dk_at dksJ3_checkInvariants_4 5 rfl rfl)
theorem dJ3_checkInvariants_99 : decode cJ3_checkInvariants 99 = .ok (.ifCond .eq 11, 3) := dk_153 0 11 (dk_at dksJ3_checkInvariants_4 6 rfl rfl)
theorem dJ3_checkInvariants_102 : decode cJ3_checkInvariants 102 = .ok (.new 15, 3) := dk_187 0 15 (dk_at dksJ3_checkInvariants_4 9 rfl rfl)
theorem dJ3_checkInvariants_105 : decode cJ3_checkInvariants 105 = .ok (.dup, 1) := dk_89 (dk_at dksJ3_checkInvariants_4 12 rfl rfl)
theorem dJ3_checkInvariants_106 : decode cJ3_checkInvariants 106 = .ok (.invokespecial 17, 3) := dk_183 0 17 (dk_at dksJ3_checkInvariants_4 13 rfl rfl)
theorem dJ3_checkInvariants_109 : decode cJ3_checkInvariants 109 = .ok (.athrow, 1) := dk_191 (dk_at dksJ3_checkInvariants_4 16 rfl rfl)
theorem dJ3_checkInvariants_110 : decode cJ3_checkInvariants 110 = .ok (.return_, 1) := dk_177 (dk_at dksJ3_checkInvariants_4 17 rfl rfl)
def dkwJ3_get_2 : List UInt8 := [42, 180, 0, 11, 28, 47, 10, 27, 121, 127, 9, 148, 153, 0, 7, 4, 167, 0, 4, 3, 172]
abbrev dktJ3_get_2 : List UInt8 := dkwJ3_get_2 ++ []
def dkwJ3_get_1 : List UInt8 := [182, 0, 45, 183, 0, 146, 191, 42, 182, 0, 56, 27, 184, 0, 52, 61, 28, 42, 180, 0, 7, 162, 0, 22]
abbrev dktJ3_get_1 : List UInt8 := dkwJ3_get_1 ++ dktJ3_get_2
def dkwJ3_get_0 : List UInt8 := [27, 156, 0, 30, 187, 0, 142, 89, 187, 0, 33, 89, 183, 0, 35, 18, 153, 182, 0, 38, 27, 182, 0, 42]
abbrev dktJ3_get_0 : List UInt8 := dkwJ3_get_0 ++ dktJ3_get_1
theorem dksJ3_get_0 : cJ3_get.data.toList.drop 0 = dktJ3_get_0 := by decide +kernel
theorem dksJ3_get_1 : cJ3_get.data.toList.drop 24 = dktJ3_get_1 := dk_seg dksJ3_get_0 24 rfl rfl
theorem dksJ3_get_2 : cJ3_get.data.toList.drop 48 = dktJ3_get_2 := dk_seg dksJ3_get_1 24 rfl rfl
theorem dJ3_get_0 : decode cJ3_get 0 = .ok (.iload_n 1, 1) := dk_27 (dk_at dksJ3_get_0 0 rfl rfl)
theorem dJ3_get_1 : decode cJ3_get 1 = .ok (.ifCond .ge 30, 3) := dk_156 0 30 (dk_at dksJ3_get_0 1 rfl rfl)
theorem dJ3_get_4 : decode cJ3_get 4 = .ok (.new 142, 3) := dk_187 0 142 (dk_at dksJ3_get_0 4 rfl rfl)
theorem dJ3_get_7 : decode cJ3_get 7 = .ok (.dup, 1) := dk_89 (dk_at dksJ3_get_0 7 rfl rfl)
theorem dJ3_get_8 : decode cJ3_get 8 = .ok (.new 33, 3) := dk_187 0 33 (dk_at dksJ3_get_0 8 rfl rfl)
theorem dJ3_get_11 : decode cJ3_get 11 = .ok (.dup, 1) := dk_89 (dk_at dksJ3_get_0 11 rfl rfl)
theorem dJ3_get_12 : decode cJ3_get 12 = .ok (.invokespecial 35, 3) := dk_183 0 35 (dk_at dksJ3_get_0 12 rfl rfl)
theorem dJ3_get_15 : decode cJ3_get 15 = .ok (.ldc 153, 2) := dk_18 153 (dk_at dksJ3_get_0 15 rfl rfl)
theorem dJ3_get_17 : decode cJ3_get 17 = .ok (.invokevirtual 38, 3) := dk_182 0 38 (dk_at dksJ3_get_0 17 rfl rfl)
theorem dJ3_get_20 : decode cJ3_get 20 = .ok (.iload_n 1, 1) := dk_27 (dk_at dksJ3_get_0 20 rfl rfl)
theorem dJ3_get_21 : decode cJ3_get 21 = .ok (.invokevirtual 42, 3) := dk_182 0 42 (dk_at dksJ3_get_0 21 rfl rfl)
theorem dJ3_get_24 : decode cJ3_get 24 = .ok (.invokevirtual 45, 3) := dk_182 0 45 (dk_at dksJ3_get_1 0 rfl rfl)
theorem dJ3_get_27 : decode cJ3_get 27 = .ok (.invokespecial 146, 3) := dk_183 0 146 (dk_at dksJ3_get_1 3 rfl rfl)
theorem dJ3_get_30 : decode cJ3_get 30 = .ok (.athrow, 1) := dk_191 (dk_at dksJ3_get_1 6 rfl rfl)
theorem dJ3_get_31 : decode cJ3_get 31 = .ok (.aload_n 0, 1) := dk_42 (dk_at dksJ3_get_1 7 rfl rfl)
theorem dJ3_get_32 : decode cJ3_get 32 = .ok (.invokevirtual 56, 3) := dk_182 0 56 (dk_at dksJ3_get_1 8 rfl rfl)
theorem dJ3_get_35 : decode cJ3_get 35 = .ok (.iload_n 1, 1) := dk_27 (dk_at dksJ3_get_1 11 rfl rfl)
theorem dJ3_get_36 : decode cJ3_get 36 = .ok (.invokestatic 52, 3) := dk_184 0 52 (dk_at dksJ3_get_1 12 rfl rfl)
theorem dJ3_get_39 : decode cJ3_get 39 = .ok (.istore_n 2, 1) := dk_61 (dk_at dksJ3_get_1 15 rfl rfl)
theorem dJ3_get_40 : decode cJ3_get 40 = .ok (.iload_n 2, 1) := dk_28 (dk_at dksJ3_get_1 16 rfl rfl)
theorem dJ3_get_41 : decode cJ3_get 41 = .ok (.aload_n 0, 1) := dk_42 (dk_at dksJ3_get_1 17 rfl rfl)
theorem dJ3_get_42 : decode cJ3_get 42 = .ok (.getfield 7, 3) := dk_180 0 7 (dk_at dksJ3_get_1 18 rfl rfl)
theorem dJ3_get_45 : decode cJ3_get 45 = .ok (.if_icmp .ge 22, 3) := dk_162 0 22 (dk_at dksJ3_get_1 21 rfl rfl)
theorem dJ3_get_48 : decode cJ3_get 48 = .ok (.aload_n 0, 1) := dk_42 (dk_at dksJ3_get_2 0 rfl rfl)
theorem dJ3_get_49 : decode cJ3_get 49 = .ok (.getfield 11, 3) := dk_180 0 11 (dk_at dksJ3_get_2 1 rfl rfl)
theorem dJ3_get_52 : decode cJ3_get 52 = .ok (.iload_n 2, 1) := dk_28 (dk_at dksJ3_get_2 4 rfl rfl)
theorem dJ3_get_53 : decode cJ3_get 53 = .ok (.laload, 1) := dk_47 (dk_at dksJ3_get_2 5 rfl rfl)
theorem dJ3_get_54 : decode cJ3_get 54 = .ok (.lconst 1, 1) := dk_10 (dk_at dksJ3_get_2 6 rfl rfl)
theorem dJ3_get_55 : decode cJ3_get 55 = .ok (.iload_n 1, 1) := dk_27 (dk_at dksJ3_get_2 7 rfl rfl)
theorem dJ3_get_56 : decode cJ3_get 56 = .ok (.lshl, 1) := dk_121 (dk_at dksJ3_get_2 8 rfl rfl)
theorem dJ3_get_57 : decode cJ3_get 57 = .ok (.land, 1) := dk_127 (dk_at dksJ3_get_2 9 rfl rfl)
theorem dJ3_get_58 : decode cJ3_get 58 = .ok (.lconst 0, 1) := dk_9 (dk_at dksJ3_get_2 10 rfl rfl)
theorem dJ3_get_59 : decode cJ3_get 59 = .ok (.lcmp, 1) := dk_148 (dk_at dksJ3_get_2 11 rfl rfl)
theorem dJ3_get_60 : decode cJ3_get 60 = .ok (.ifCond .eq 7, 3) := dk_153 0 7 (dk_at dksJ3_get_2 12 rfl rfl)
theorem dJ3_get_63 : decode cJ3_get 63 = .ok (.iconst 1, 1) := dk_4 (dk_at dksJ3_get_2 15 rfl rfl)
theorem dJ3_get_64 : decode cJ3_get 64 = .ok (.goto 4, 3) := dk_167 0 4 (dk_at dksJ3_get_2 16 rfl rfl)
theorem dJ3_get_67 : decode cJ3_get 67 = .ok (.iconst 0, 1) := dk_3 (dk_at dksJ3_get_2 19 rfl rfl)
theorem dJ3_get_68 : decode cJ3_get 68 = .ok (.ireturn, 1) := dk_172 (dk_at dksJ3_get_2 20 rfl rfl)
def dkwJ3_clear_2 : List UInt8 := [180, 0, 11, 28, 92, 47, 10, 27, 121, 20, 0, 165, 131, 127, 80, 42, 182, 0, 158, 42, 182, 0, 56, 177]
abbrev dktJ3_clear_2 : List UInt8 := dkwJ3_clear_2 ++ []
def dkwJ3_clear_1 : List UInt8 := [182, 0, 45, 183, 0, 146, 191, 27, 184, 0, 52, 61, 28, 42, 180, 0, 7, 161, 0, 4, 177, 42]
abbrev dktJ3_clear_1 : List UInt8 := dkwJ3_clear_1 ++ dktJ3_clear_2
def dkwJ3_clear_0 : List UInt8 := [27, 156, 0, 30, 187, 0, 142, 89, 187, 0, 33, 89, 183, 0, 35, 18, 153, 182, 0, 38, 27, 182, 0, 42]
abbrev dktJ3_clear_0 : List UInt8 := dkwJ3_clear_0 ++ dktJ3_clear_1
theorem dksJ3_clear_0 : cJ3_clear.data.toList.drop 0 = dktJ3_clear_0 := by decide +kernel
theorem dksJ3_clear_1 : cJ3_clear.data.toList.drop 24 = dktJ3_clear_1 := dk_seg dksJ3_clear_0 24 rfl rfl
theorem dksJ3_clear_2 : cJ3_clear.data.toList.drop 46 = dktJ3_clear_2 := dk_seg dksJ3_clear_1 22 rfl rfl
theorem dJ3_clear_0 : decode cJ3_clear 0 = .ok (.iload_n 1, 1) := dk_27 (dk_at dksJ3_clear_0 0 rfl rfl)
theorem dJ3_clear_1 : decode cJ3_clear 1 = .ok (.ifCond .ge 30, 3) := dk_156 0 30 (dk_at dksJ3_clear_0 1 rfl rfl)
theorem dJ3_clear_4 : decode cJ3_clear 4 = .ok (.new 142, 3) := dk_187 0 142 (dk_at dksJ3_clear_0 4 rfl rfl)
theorem dJ3_clear_7 : decode cJ3_clear 7 = .ok (.dup, 1) := dk_89 (dk_at dksJ3_clear_0 7 rfl rfl)
theorem dJ3_clear_8 : decode cJ3_clear 8 = .ok (.new 33, 3) := dk_187 0 33 (dk_at dksJ3_clear_0 8 rfl rfl)
theorem dJ3_clear_11 : decode cJ3_clear 11 = .ok (.dup, 1) := dk_89 (dk_at dksJ3_clear_0 11 rfl rfl)
theorem dJ3_clear_12 : decode cJ3_clear 12 = .ok (.invokespecial 35, 3) := dk_183 0 35 (dk_at dksJ3_clear_0 12 rfl rfl)
theorem dJ3_clear_15 : decode cJ3_clear 15 = .ok (.ldc 153, 2) := dk_18 153 (dk_at dksJ3_clear_0 15 rfl rfl)
theorem dJ3_clear_17 : decode cJ3_clear 17 = .ok (.invokevirtual 38, 3) := dk_182 0 38 (dk_at dksJ3_clear_0 17 rfl rfl)
theorem dJ3_clear_20 : decode cJ3_clear 20 = .ok (.iload_n 1, 1) := dk_27 (dk_at dksJ3_clear_0 20 rfl rfl)
theorem dJ3_clear_21 : decode cJ3_clear 21 = .ok (.invokevirtual 42, 3) := dk_182 0 42 (dk_at dksJ3_clear_0 21 rfl rfl)
theorem dJ3_clear_24 : decode cJ3_clear 24 = .ok (.invokevirtual 45, 3) := dk_182 0 45 (dk_at dksJ3_clear_1 0 rfl rfl)
theorem dJ3_clear_27 : decode cJ3_clear 27 = .ok (.invokespecial 146, 3) := dk_183 0 146 (dk_at dksJ3_clear_1 3 rfl rfl)
theorem dJ3_clear_30 : decode cJ3_clear 30 = .ok (.athrow, 1) := dk_191 (dk_at dksJ3_clear_1 6 rfl rfl)
theorem dJ3_clear_31 : decode cJ3_clear 31 = .ok (.iload_n 1, 1) := dk_27 (dk_at dksJ3_clear_1 7 rfl rfl)
theorem dJ3_clear_32 : decode cJ3_clear 32 = .ok (.invokestatic 52, 3) := dk_184 0 52 (dk_at dksJ3_clear_1 8 rfl rfl)
theorem dJ3_clear_35 : decode cJ3_clear 35 = .ok (.istore_n 2, 1) := dk_61 (dk_at dksJ3_clear_1 11 rfl rfl)
theorem dJ3_clear_36 : decode cJ3_clear 36 = .ok (.iload_n 2, 1) := dk_28 (dk_at dksJ3_clear_1 12 rfl rfl)
theorem dJ3_clear_37 : decode cJ3_clear 37 = .ok (.aload_n 0, 1) := dk_42 (dk_at dksJ3_clear_1 13 rfl rfl)
theorem dJ3_clear_38 : decode cJ3_clear 38 = .ok (.getfield 7, 3) := dk_180 0 7 (dk_at dksJ3_clear_1 14 rfl rfl)
theorem dJ3_clear_41 : decode cJ3_clear 41 = .ok (.if_icmp .lt 4, 3) := dk_161 0 4 (dk_at dksJ3_clear_1 17 rfl rfl)
theorem dJ3_clear_44 : decode cJ3_clear 44 = .ok (.return_, 1) := dk_177 (dk_at dksJ3_clear_1 20 rfl rfl)
theorem dJ3_clear_45 : decode cJ3_clear 45 = .ok (.aload_n 0, 1) := dk_42 (dk_at dksJ3_clear_1 21 rfl rfl)
theorem dJ3_clear_46 : decode cJ3_clear 46 = .ok (.getfield 11, 3) := dk_180 0 11 (dk_at dksJ3_clear_2 0 rfl rfl)
theorem dJ3_clear_49 : decode cJ3_clear 49 = .ok (.iload_n 2, 1) := dk_28 (dk_at dksJ3_clear_2 3 rfl rfl)
theorem dJ3_clear_50 : decode cJ3_clear 50 = .ok (.dup2, 1) := dk_92 (dk_at dksJ3_clear_2 4 rfl rfl)
theorem dJ3_clear_51 : decode cJ3_clear 51 = .ok (.laload, 1) := dk_47 (dk_at dksJ3_clear_2 5 rfl rfl)
theorem dJ3_clear_52 : decode cJ3_clear 52 = .ok (.lconst 1, 1) := dk_10 (dk_at dksJ3_clear_2 6 rfl rfl)
theorem dJ3_clear_53 : decode cJ3_clear 53 = .ok (.iload_n 1, 1) := dk_27 (dk_at dksJ3_clear_2 7 rfl rfl)
theorem dJ3_clear_54 : decode cJ3_clear 54 = .ok (.lshl, 1) := dk_121 (dk_at dksJ3_clear_2 8 rfl rfl)
theorem dJ3_clear_55 : decode cJ3_clear 55 = .ok (.ldc2_w 165, 3) := dk_20 0 165 (dk_at dksJ3_clear_2 9 rfl rfl)
theorem dJ3_clear_58 : decode cJ3_clear 58 = .ok (.lxor, 1) := dk_131 (dk_at dksJ3_clear_2 12 rfl rfl)
theorem dJ3_clear_59 : decode cJ3_clear 59 = .ok (.land, 1) := dk_127 (dk_at dksJ3_clear_2 13 rfl rfl)
theorem dJ3_clear_60 : decode cJ3_clear 60 = .ok (.lastore, 1) := dk_80 (dk_at dksJ3_clear_2 14 rfl rfl)
theorem dJ3_clear_61 : decode cJ3_clear 61 = .ok (.aload_n 0, 1) := dk_42 (dk_at dksJ3_clear_2 15 rfl rfl)
theorem dJ3_clear_62 : decode cJ3_clear 62 = .ok (.invokevirtual 158, 3) := dk_182 0 158 (dk_at dksJ3_clear_2 16 rfl rfl)
theorem dJ3_clear_65 : decode cJ3_clear 65 = .ok (.aload_n 0, 1) := dk_42 (dk_at dksJ3_clear_2 19 rfl rfl)
theorem dJ3_clear_66 : decode cJ3_clear 66 = .ok (.invokevirtual 56, 3) := dk_182 0 56 (dk_at dksJ3_clear_2 20 rfl rfl)
theorem dJ3_clear_69 : decode cJ3_clear 69 = .ok (.return_, 1) := dk_177 (dk_at dksJ3_clear_2 23 rfl rfl)
def dkwJ3_recalculateWordsInUse_1 : List UInt8 := [167, 0, 9, 132, 1, 255, 167, 255, 235, 42, 27, 4, 96, 181, 0, 7, 177]
abbrev dktJ3_recalculateWordsInUse_1 : List UInt8 := dkwJ3_recalculateWordsInUse_1 ++ []
def dkwJ3_recalculateWordsInUse_0 : List UInt8 := [42, 180, 0, 7, 4, 100, 60, 27, 155, 0, 23, 42, 180, 0, 11, 27, 47, 9, 148, 153, 0, 6]
abbrev dktJ3_recalculateWordsInUse_0 : List UInt8 := dkwJ3_recalculateWordsInUse_0 ++ dktJ3_recalculateWordsInUse_1
theorem dksJ3_recalculateWordsInUse_0 : cJ3_recalculateWordsInUse.data.toList.drop 0 = dktJ3_recalculateWordsInUse_0 := by decide +kernel
theorem dksJ3_recalculateWordsInUse_1 : cJ3_recalculateWordsInUse.data.toList.drop 22 = dktJ3_recalculateWordsInUse_1 := dk_seg dksJ3_recalculateWordsInUse_0 22 rfl rfl
theorem dJ3_recalculateWordsInUse_0 : decode cJ3_recalculateWordsInUse 0 = .ok (.aload_n 0, 1) := dk_42 (dk_at dksJ3_recalculateWordsInUse_0 0 rfl rfl)
theorem dJ3_recalculateWordsInUse_1 : decode cJ3_recalculateWordsInUse 1 = .ok (.getfield 7, 3) := dk_180 0 7 (dk_at dksJ3_recalculateWordsInUse_0 1 rfl rfl)
theorem dJ3_recalculateWordsInUse_4 : decode cJ3_recalculateWordsInUse 4 = .ok (.iconst 1, 1) := dk_4 (dk_at dksJ3_recalculateWordsInUse_0 4 rfl rfl)
theorem dJ3_recalculateWordsInUse_5 : decode cJ3_recalculateWordsInUse 5 = .ok (.isub, 1) := dk_100 (dk_at dksJ3_recalculateWordsInUse_0 5 rfl rfl)
theorem dJ3_recalculateWordsInUse_6 : decode cJ3_recalculateWordsInUse 6 = .ok (.istore_n 1, 1) := dk_60 (dk_at dksJ3_recalculateWordsInUse_0 6 rfl rfl)
theorem dJ3_recalculateWordsInUse_7 : decode cJ3_recalculateWordsInUse 7 = .ok (.iload_n 1, 1) := dk_27 (dk_at dksJ3_recalculateWordsInUse_0 7 rfl rfl)
theorem dJ3_recalculateWordsInUse_8 : decode cJ3_recalculateWordsInUse 8 = .ok (.ifCond .lt 23, 3) := dk_155 0 23 (dk_at dksJ3_recalculateWordsInUse_0 8 rfl rfl)
theorem dJ3_recalculateWordsInUse_11 : decode cJ3_recalculateWordsInUse 11 = .ok (.aload_n 0, 1) := dk_42 (dk_at dksJ3_recalculateWordsInUse_0 11 rfl rfl)
theorem dJ3_recalculateWordsInUse_12 : decode cJ3_recalculateWordsInUse 12 = .ok (.getfield 11, 3) := dk_180 0 11 (dk_at dksJ3_recalculateWordsInUse_0 12 rfl rfl)
theorem dJ3_recalculateWordsInUse_15 : decode cJ3_recalculateWordsInUse 15 = .ok (.iload_n 1, 1) := dk_27 (dk_at dksJ3_recalculateWordsInUse_0 15 rfl rfl)
theorem dJ3_recalculateWordsInUse_16 : decode cJ3_recalculateWordsInUse 16 = .ok (.laload, 1) := dk_47 (dk_at dksJ3_recalculateWordsInUse_0 16 rfl rfl)
theorem dJ3_recalculateWordsInUse_17 : decode cJ3_recalculateWordsInUse 17 = .ok (.lconst 0, 1) := dk_9 (dk_at dksJ3_recalculateWordsInUse_0 17 rfl rfl)
theorem dJ3_recalculateWordsInUse_18 : decode cJ3_recalculateWordsInUse 18 = .ok (.lcmp, 1) := dk_148 (dk_at dksJ3_recalculateWordsInUse_0 18 rfl rfl)
theorem dJ3_recalculateWordsInUse_19 : decode cJ3_recalculateWordsInUse 19 = .ok (.ifCond .eq 6, 3) := dk_153 0 6 (dk_at dksJ3_recalculateWordsInUse_0 19 rfl rfl)
theorem dJ3_recalculateWordsInUse_22 : decode cJ3_recalculateWordsInUse 22 = .ok (.goto 9, 3) := dk_167 0 9 (dk_at dksJ3_recalculateWordsInUse_1 0 rfl rfl)
theorem dJ3_recalculateWordsInUse_25 : decode cJ3_recalculateWordsInUse 25 = .ok (.iinc 1 (-1), 3) := dk_132 1 255 (dk_at dksJ3_recalculateWordsInUse_1 3 rfl rfl)
theorem dJ3_recalculateWordsInUse_28 : decode cJ3_recalculateWordsInUse 28 = .ok (.goto (-21), 3) := dk_167 255 235 (dk_at dksJ3_recalculateWordsInUse_1 6 rfl rfl)
theorem dJ3_recalculateWordsInUse_31 : decode cJ3_recalculateWordsInUse 31 = .ok (.aload_n 0, 1) := dk_42 (dk_at dksJ3_recalculateWordsInUse_1 9 rfl rfl)
theorem dJ3_recalculateWordsInUse_32 : decode cJ3_recalculateWordsInUse 32 = .ok (.iload_n 1, 1) := dk_27 (dk_at dksJ3_recalculateWordsInUse_1 10 rfl rfl)
theorem dJ3_recalculateWordsInUse_33 : decode cJ3_recalculateWordsInUse 33 = .ok (.iconst 1, 1) := dk_4 (dk_at dksJ3_recalculateWordsInUse_1 11 rfl rfl)
theorem dJ3_recalculateWordsInUse_34 : decode cJ3_recalculateWordsInUse 34 = .ok (.iadd, 1) := dk_96 (dk_at dksJ3_recalculateWordsInUse_1 12 rfl rfl)
theorem dJ3_recalculateWordsInUse_35 : decode cJ3_recalculateWordsInUse 35 = .ok (.putfield 7, 3) := dk_181 0 7 (dk_at dksJ3_recalculateWordsInUse_1 13 rfl rfl)
theorem dJ3_recalculateWordsInUse_38 : decode cJ3_recalculateWordsInUse 38 = .ok (.return_, 1) := dk_177 (dk_at dksJ3_recalculateWordsInUse_1 16 rfl rfl)
def dkwJ4_init_0 : List UInt8 := [42, 183, 0, 42, 42, 16, 17, 189, 0, 47, 181, 0, 3, 177]
abbrev dktJ4_init_0 : List UInt8 := dkwJ4_init_0 ++ []
theorem dksJ4_init_0 : cJ4_init.data.toList.drop 0 = dktJ4_init_0 := by decide +kernel
theorem dJ4_init_0 : decode cJ4_init 0 = .ok (.aload_n 0, 1) := dk_42 (dk_at dksJ4_init_0 0 rfl rfl)
theorem dJ4_init_1 : decode cJ4_init 1 = .ok (.invokespecial 42, 3) := dk_183 0 42 (dk_at dksJ4_init_0 1 rfl rfl)
theorem dJ4_init_4 : decode cJ4_init 4 = .ok (.aload_n 0, 1) := dk_42 (dk_at dksJ4_init_0 4 rfl rfl)
theorem dJ4_init_5 : decode cJ4_init 5 = .ok (.bipush 17, 2) := dk_16 17 (dk_at dksJ4_init_0 5 rfl rfl)
theorem dJ4_init_7 : decode cJ4_init 7 = .ok (.anewarray 47, 3) := dk_189 0 47 (dk_at dksJ4_init_0 7 rfl rfl)
theorem dJ4_init_10 : decode cJ4_init 10 = .ok (.putfield 3, 3) := dk_181 0 3 (dk_at dksJ4_init_0 10 rfl rfl)
theorem dJ4_init_13 : decode cJ4_init 13 = .ok (.return_, 1) := dk_177 (dk_at dksJ4_init_0 13 rfl rfl)
def dkwJ4_clear_1 : List UInt8 := [181, 0, 24, 177]
abbrev dktJ4_clear_1 : List UInt8 := dkwJ4_clear_1 ++ []
def dkwJ4_clear_0 : List UInt8 := [42, 180, 0, 3, 42, 180, 0, 24, 42, 180, 0, 20, 184, 0, 181, 42, 42, 3, 90, 181, 0, 20]
abbrev dktJ4_clear_0 : List UInt8 := dkwJ4_clear_0 ++ dktJ4_clear_1
theorem dksJ4_clear_0 : cJ4_clear.data.toList.drop 0 = dktJ4_clear_0 := by decide +kernel
theorem dksJ4_clear_1 : cJ4_clear.data.toList.drop 22 = dktJ4_clear_1 := dk_seg dksJ4_clear_0 22 rfl rfl
theorem dJ4_clear_0 : decode cJ4_clear 0 = .ok (.aload_n 0, 1) := dk_42 (dk_at dksJ4_clear_0 0 rfl rfl)
theorem dJ4_clear_1 : decode cJ4_clear 1 = .ok (.getfield 3, 3) := dk_180 0 3 (dk_at dksJ4_clear_0 1 rfl rfl)
theorem dJ4_clear_4 : decode cJ4_clear 4 = .ok (.aload_n 0, 1) := dk_42 (dk_at dksJ4_clear_0 4 rfl rfl)
theorem dJ4_clear_5 : decode cJ4_clear 5 = .ok (.getfield 24, 3) := dk_180 0 24 (dk_at dksJ4_clear_0 5 rfl rfl)
theorem dJ4_clear_8 : decode cJ4_clear 8 = .ok (.aload_n 0, 1) := dk_42 (dk_at dksJ4_clear_0 8 rfl rfl)
theorem dJ4_clear_9 : decode cJ4_clear 9 = .ok (.getfield 20, 3) := dk_180 0 20 (dk_at dksJ4_clear_0 9 rfl rfl)
theorem dJ4_clear_12 : decode cJ4_clear 12 = .ok (.invokestatic 181, 3) := dk_184 0 181 (dk_at dksJ4_clear_0 12 rfl rfl)
theorem dJ4_clear_15 : decode cJ4_clear 15 = .ok (.aload_n 0, 1) := dk_42 (dk_at dksJ4_clear_0 15 rfl rfl)
theorem dJ4_clear_16 : decode cJ4_clear 16 = .ok (.aload_n 0, 1) := dk_42 (dk_at dksJ4_clear_0 16 rfl rfl)
theorem dJ4_clear_17 : decode cJ4_clear 17 = .ok (.iconst 0, 1) := dk_3 (dk_at dksJ4_clear_0 17 rfl rfl)
theorem dJ4_clear_18 : decode cJ4_clear 18 = .ok (.dup_x1, 1) := dk_90 (dk_at dksJ4_clear_0 18 rfl rfl)
theorem dJ4_clear_19 : decode cJ4_clear 19 = .ok (.putfield 20, 3) := dk_181 0 20 (dk_at dksJ4_clear_0 19 rfl rfl)
theorem dJ4_clear_22 : decode cJ4_clear 22 = .ok (.putfield 24, 3) := dk_181 0 24 (dk_at dksJ4_clear_1 0 rfl rfl)
theorem dJ4_clear_25 : decode cJ4_clear 25 = .ok (.return_, 1) := dk_177 (dk_at dksJ4_clear_1 3 rfl rfl)
def dkwJ4_circularClear_1 : List UInt8 := [167, 255, 244, 29, 28, 160, 0, 6, 167, 0, 10, 3, 60, 28, 62, 167, 255, 229, 177]
abbrev dktJ4_circularClear_1 : List UInt8 := dkwJ4_circularClear_1 ++ []
def dkwJ4_circularClear_0 : List UInt8 := [27, 28, 163, 0, 7, 28, 167, 0, 5, 42, 190, 62, 27, 29, 162, 0, 13, 42, 27, 1, 83, 132, 1, 1]
abbrev dktJ4_circularClear_0 : List UInt8 := dkwJ4_circularClear_0 ++ dktJ4_circularClear_1
theorem dksJ4_circularClear_0 : cJ4_circularClear.data.toList.drop 0 = dktJ4_circularClear_0 := by decide +kernel
theorem dksJ4_circularClear_1 : cJ4_circularClear.data.toList.drop 24 = dktJ4_circularClear_1 := dk_seg dksJ4_circularClear_0 24 rfl rfl
theorem dJ4_circularClear_0 : decode cJ4_circularClear 0 = .ok (.iload_n 1, 1) := dk_27 (dk_at dksJ4_circularClear_0 0 rfl rfl)
theorem dJ4_circularClear_1 : decode cJ4_circularClear 1 = .ok (.iload_n 2, 1) := dk_28 (dk_at dksJ4_circularClear_0 1 rfl rfl)
theorem dJ4_circularClear_2 : decode cJ4_circularClear 2 = .ok (.if_icmp .gt 7, 3) := dk_163 0 7 (dk_at dksJ4_circularClear_0 2 rfl rfl)
theorem dJ4_circularClear_5 : decode cJ4_circularClear 5 = .ok (.iload_n 2, 1) := dk_28 (dk_at dksJ4_circularClear_0 5 rfl rfl)
theorem dJ4_circularClear_6 : decode cJ4_circularClear 6 = .ok (.goto 5, 3) := dk_167 0 5 (dk_at dksJ4_circularClear_0 6 rfl rfl)
theorem dJ4_circularClear_9 : decode cJ4_circularClear 9 = .ok (.aload_n 0, 1) := dk_42 (dk_at dksJ4_circularClear_0 9 rfl rfl)
theorem dJ4_circularClear_10 : decode cJ4_circularClear 10 = .ok (.arraylength, 1) := dk_190 (dk_at dksJ4_circularClear_0 10 rfl rfl)
theorem dJ4_circularClear_11 : decode cJ4_circularClear 11 = .ok (.istore_n 3, 1) := dk_62 (dk_at dksJ4_circularClear_0 11 rfl rfl)
theorem dJ4_circularClear_12 : decode cJ4_circularClear 12 = .ok (.iload_n 1, 1) := dk_27 (dk_at dksJ4_circularClear_0 12 rfl rfl)
theorem dJ4_circularClear_13 : decode cJ4_circularClear 13 = .ok (.iload_n 3, 1) := dk_29 (dk_at dksJ4_circularClear_0 13 rfl rfl)
theorem dJ4_circularClear_14 : decode cJ4_circularClear 14 = .ok (.if_icmp .ge 13, 3) := dk_162 0 13 (dk_at dksJ4_circularClear_0 14 rfl rfl)
theorem dJ4_circularClear_17 : decode cJ4_circularClear 17 = .ok (.aload_n 0, 1) := dk_42 (dk_at dksJ4_circularClear_0 17 rfl rfl)
theorem dJ4_circularClear_18 : decode cJ4_circularClear 18 = .ok (.iload_n 1, 1) := dk_27 (dk_at dksJ4_circularClear_0 18 rfl rfl)
theorem dJ4_circularClear_19 : decode cJ4_circularClear 19 = .ok (.aconst_null, 1) := dk_1 (dk_at dksJ4_circularClear_0 19 rfl rfl)
theorem dJ4_circularClear_20 : decode cJ4_circularClear 20 = .ok (.aastore, 1) := dk_83 (dk_at dksJ4_circularClear_0 20 rfl rfl)
theorem dJ4_circularClear_21 : decode cJ4_circularClear 21 = .ok (.iinc 1 1, 3) := dk_132 1 1 (dk_at dksJ4_circularClear_0 21 rfl rfl)
theorem dJ4_circularClear_24 : decode cJ4_circularClear 24 = .ok (.goto (-12), 3) := dk_167 255 244 (dk_at dksJ4_circularClear_1 0 rfl rfl)
theorem dJ4_circularClear_27 : decode cJ4_circularClear 27 = .ok (.iload_n 3, 1) := dk_29 (dk_at dksJ4_circularClear_1 3 rfl rfl)
theorem dJ4_circularClear_28 : decode cJ4_circularClear 28 = .ok (.iload_n 2, 1) := dk_28 (dk_at dksJ4_circularClear_1 4 rfl rfl)
theorem dJ4_circularClear_29 : decode cJ4_circularClear 29 = .ok (.if_icmp .ne 6, 3) := dk_160 0 6 (dk_at dksJ4_circularClear_1 5 rfl rfl)
theorem dJ4_circularClear_32 : decode cJ4_circularClear 32 = .ok (.goto 10, 3) := dk_167 0 10 (dk_at dksJ4_circularClear_1 8 rfl rfl)
theorem dJ4_circularClear_35 : decode cJ4_circularClear 35 = .ok (.iconst 0, 1) := dk_3 (dk_at dksJ4_circularClear_1 11 rfl rfl)
theorem dJ4_circularClear_36 : decode cJ4_circularClear 36 = .ok (.istore_n 1, 1) := dk_60 (dk_at dksJ4_circularClear_1 12 rfl rfl)
theorem dJ4_circularClear_37 : decode cJ4_circularClear 37 = .ok (.iload_n 2, 1) := dk_28 (dk_at dksJ4_circularClear_1 13 rfl rfl)
theorem dJ4_circularClear_38 : decode cJ4_circularClear 38 = .ok (.istore_n 3, 1) := dk_62 (dk_at dksJ4_circularClear_1 14 rfl rfl)
theorem dJ4_circularClear_39 : decode cJ4_circularClear 39 = .ok (.goto (-27), 3) := dk_167 255 229 (dk_at dksJ4_circularClear_1 15 rfl rfl)
theorem dJ4_circularClear_42 : decode cJ4_circularClear 42 = .ok (.return_, 1) := dk_177 (dk_at dksJ4_circularClear_1 18 rfl rfl)
def dkwJ4_addLast_2 : List UInt8 := [182, 0, 71, 177]
abbrev dktJ4_addLast_2 : List UInt8 := dkwJ4_addLast_2 ++ []
def dkwJ4_addLast_1 : List UInt8 := [42, 180, 0, 24, 42, 42, 180, 0, 20, 44, 190, 184, 0, 74, 90, 181, 0, 20, 160, 0, 8, 42, 4]
abbrev dktJ4_addLast_1 : List UInt8 := dkwJ4_addLast_1 ++ dktJ4_addLast_2
def dkwJ4_addLast_0 : List UInt8 := [43, 199, 0, 11, 187, 0, 65, 89, 183, 0, 67, 191, 42, 180, 0, 3, 77, 44, 42, 180, 0, 20, 43, 83]
abbrev dktJ4_addLast_0 : List UInt8 := dkwJ4_addLast_0 ++ dktJ4_addLast_1
theorem dksJ4_addLast_0 : cJ4_addLast.data.toList.drop 0 = dktJ4_addLast_0 := by decide +kernel
theorem dksJ4_addLast_1 : cJ4_addLast.data.toList.drop 24 = dktJ4_addLast_1 := dk_seg dksJ4_addLast_0 24 rfl rfl
theorem dksJ4_addLast_2 : cJ4_addLast.data.toList.drop 47 = dktJ4_addLast_2 := dk_seg dksJ4_addLast_1 23 rfl rfl
theorem dJ4_addLast_0 : decode cJ4_addLast 0 = .ok (.aload_n 1, 1) := dk_43 (dk_at dksJ4_addLast_0 0 rfl rfl)
theorem dJ4_addLast_1 : decode cJ4_addLast 1 = .ok (.ifnonnull 11, 3) := dk_199 0 11 (dk_at dksJ4_addLast_0 1 rfl rfl)
theorem dJ4_addLast_4 : decode cJ4_addLast 4 = .ok (.new 65, 3) := dk_187 0 65 (dk_at dksJ4_addLast_0 4 rfl rfl)
theorem dJ4_addLast_7 : decode cJ4_addLast 7 = .ok (.dup, 1) := dk_89 (dk_at dksJ4_addLast_0 7 rfl rfl)
theorem dJ4_addLast_8 : decode cJ4_addLast 8 = .ok (.invokespecial 67, 3) := dk_183 0 67 (dk_at dksJ4_addLast_0 8 rfl rfl)
theorem dJ4_addLast_11 : decode cJ4_addLast 11 = .ok (.athrow, 1) := dk_191 (dk_at dksJ4_addLast_0 11 rfl rfl)
theorem dJ4_addLast_12 : decode cJ4_addLast 12 = .ok (.aload_n 0, 1) := dk_42 (dk_at dksJ4_addLast_0 12 rfl rfl)
theorem dJ4_addLast_13 : decode cJ4_addLast 13 = .ok (.getfield 3, 3) := dk_180 0 3 (dk_at dksJ4_addLast_0 13 rfl rfl)
theorem dJ4_addLast_16 : decode cJ4_addLast 16 = .ok (.astore_n 2, 1) := dk_77 (dk_at dksJ4_addLast_0 16 rfl rfl)
theorem dJ4_addLast_17 : decode cJ4_addLast 17 = .ok (.aload_n 2, 1) := dk_44 (dk_at dksJ4_addLast_0 17 rfl rfl)
theorem dJ4_addLast_18 : decode cJ4_addLast 18 = .ok (.aload_n 0, 1) := dk_42 (dk_at dksJ4_addLast_0 18 rfl rfl)
theorem dJ4_addLast_19 : decode cJ4_addLast 19 = .ok (.getfield 20, 3) := dk_180 0 20 (dk_at dksJ4_addLast_0 19 rfl rfl)
theorem dJ4_addLast_22 : decode cJ4_addLast 22 = .ok (.aload_n 1, 1) := dk_43 (dk_at dksJ4_addLast_0 22 rfl rfl)
theorem dJ4_addLast_23 : decode cJ4_addLast 23 = .ok (.aastore, 1) := dk_83 (dk_at dksJ4_addLast_0 23 rfl rfl)
theorem dJ4_addLast_24 : decode cJ4_addLast 24 = .ok (.aload_n 0, 1) := dk_42 (dk_at dksJ4_addLast_1 0 rfl rfl)
theorem dJ4_addLast_25 : decode cJ4_addLast 25 = .ok (.getfield 24, 3) := dk_180 0 24 (dk_at dksJ4_addLast_1 1 rfl rfl)
theorem dJ4_addLast_28 : decode cJ4_addLast 28 = .ok (.aload_n 0, 1) := dk_42 (dk_at dksJ4_addLast_1 4 rfl rfl)
theorem dJ4_addLast_29 : decode cJ4_addLast 29 = .ok (.aload_n 0, 1) := dk_42 (dk_at dksJ4_addLast_1 5 rfl rfl)
theorem dJ4_addLast_30 : decode cJ4_addLast 30 = .ok (.getfield 20, 3) := dk_180 0 20 (dk_at dksJ4_addLast_1 6 rfl rfl)
theorem dJ4_addLast_33 : decode cJ4_addLast 33 = .ok (.aload_n 2, 1) := dk_44 (dk_at dksJ4_addLast_1 9 rfl rfl)
theorem dJ4_addLast_34 : decode cJ4_addLast 34 = .ok (.arraylength, 1) := dk_190 (dk_at dksJ4_addLast_1 10 rfl rfl)
theorem dJ4_addLast_35 : decode cJ4_addLast 35 = .ok (.invokestatic 74, 3) := dk_184 0 74 (dk_at dksJ4_addLast_1 11 rfl rfl)
theorem dJ4_addLast_38 : decode cJ4_addLast 38 = .ok (.dup_x1, 1) := dk_90 (dk_at dksJ4_addLast_1 14 rfl rfl)
theorem dJ4_addLast_39 : decode cJ4_addLast 39 = .ok (.putfield 20, 3) := dk_181 0 20 (dk_at dksJ4_addLast_1 15 rfl rfl)
theorem dJ4_addLast_42 : decode cJ4_addLast 42 = .ok (.if_icmp .ne 8, 3) := dk_160 0 8 (dk_at dksJ4_addLast_1 18 rfl rfl)
theorem dJ4_addLast_45 : decode cJ4_addLast 45 = .ok (.aload_n 0, 1) := dk_42 (dk_at dksJ4_addLast_1 21 rfl rfl)
theorem dJ4_addLast_46 : decode cJ4_addLast 46 = .ok (.iconst 1, 1) := dk_4 (dk_at dksJ4_addLast_1 22 rfl rfl)
theorem dJ4_addLast_47 : decode cJ4_addLast 47 = .ok (.invokevirtual 71, 3) := dk_182 0 71 (dk_at dksJ4_addLast_2 0 rfl rfl)
theorem dJ4_addLast_50 : decode cJ4_addLast 50 = .ok (.return_, 1) := dk_177 (dk_at dksJ4_addLast_2 3 rfl rfl)
def dkwJ4_inc_0 : List UInt8 := [132, 0, 1, 26, 27, 161, 0, 5, 3, 59, 26, 172]
abbrev dktJ4_inc_0 : List UInt8 := dkwJ4_inc_0 ++ []
theorem dksJ4_inc_0 : cJ4_inc.data.toList.drop 0 = dktJ4_inc_0 := by decide +kernel
theorem dJ4_inc_0 : decode cJ4_inc 0 = .ok (.iinc 0 1, 3) := dk_132 0 1 (dk_at dksJ4_inc_0 0 rfl rfl)
theorem dJ4_inc_3 : decode cJ4_inc 3 = .ok (.iload_n 0, 1) := dk_26 (dk_at dksJ4_inc_0 3 rfl rfl)
theorem dJ4_inc_4 : decode cJ4_inc 4 = .ok (.iload_n 1, 1) := dk_27 (dk_at dksJ4_inc_0 4 rfl rfl)
theorem dJ4_inc_5 : decode cJ4_inc 5 = .ok (.if_icmp .lt 5, 3) := dk_161 0 5 (dk_at dksJ4_inc_0 5 rfl rfl)
theorem dJ4_inc_8 : decode cJ4_inc 8 = .ok (.iconst 0, 1) := dk_3 (dk_at dksJ4_inc_0 8 rfl rfl)
theorem dJ4_inc_9 : decode cJ4_inc 9 = .ok (.istore_n 0, 1) := dk_59 (dk_at dksJ4_inc_0 9 rfl rfl)
theorem dJ4_inc_10 : decode cJ4_inc 10 = .ok (.iload_n 0, 1) := dk_26 (dk_at dksJ4_inc_0 10 rfl rfl)
theorem dJ4_inc_11 : decode cJ4_inc 11 = .ok (.ireturn, 1) := dk_172 (dk_at dksJ4_inc_0 11 rfl rfl)
def dkwJ4_grow_7 : List UInt8 := [177]
abbrev dktJ4_grow_7 : List UInt8 := dkwJ4_grow_7 ++ []
def dkwJ4_grow_6 : List UInt8 := [181, 0, 24, 54, 8, 21, 7, 21, 8, 162, 0, 15, 25, 5, 21, 7, 1, 83, 132, 7, 1, 167, 255, 240]
abbrev dktJ4_grow_6 : List UInt8 := dkwJ4_grow_6 ++ dktJ4_grow_7
def dkwJ4_grow_5 : List UInt8 := [42, 180, 0, 24, 100, 184, 0, 27, 42, 180, 0, 24, 54, 7, 42, 89, 180, 0, 24, 21, 6, 96, 90]
abbrev dktJ4_grow_5 : List UInt8 := dkwJ4_grow_5 ++ dktJ4_grow_6
def dkwJ4_grow_4 : List UInt8 := [198, 0, 71, 29, 28, 100, 54, 6, 25, 5, 42, 180, 0, 24, 25, 5, 42, 180, 0, 24, 21, 6, 96, 28]
abbrev dktJ4_grow_4 : List UInt8 := dkwJ4_grow_4 ++ dktJ4_grow_5
def dkwJ4_grow_3 : List UInt8 := [180, 0, 24, 161, 0, 24, 42, 180, 0, 20, 42, 180, 0, 24, 160, 0, 81, 25, 5, 42, 180, 0, 24, 50]
abbrev dktJ4_grow_3 : List UInt8 := dkwJ4_grow_3 ++ dktJ4_grow_4
def dkwJ4_grow_2 : List UInt8 := [182, 0, 10, 62, 42, 42, 180, 0, 3, 29, 184, 0, 14, 90, 181, 0, 3, 58, 5, 42, 180, 0, 20, 42]
abbrev dktJ4_grow_2 : List UInt8 := dkwJ4_grow_2 ++ dktJ4_grow_3
def dkwJ4_grow_1 : List UInt8 := [21, 4, 27, 161, 0, 15, 28, 21, 4, 96, 89, 62, 18, 9, 100, 158, 0, 11, 42, 27, 21, 4]
abbrev dktJ4_grow_1 : List UInt8 := dkwJ4_grow_1 ++ dktJ4_grow_2
def dkwJ4_grow_0 : List UInt8 := [42, 180, 0, 3, 190, 61, 28, 16, 64, 162, 0, 9, 28, 5, 96, 167, 0, 6, 28, 4, 122, 54, 4]
abbrev dktJ4_grow_0 : List UInt8 := dkwJ4_grow_0 ++ dktJ4_grow_1
theorem dksJ4_grow_0 : cJ4_grow.data.toList.drop 0 = dktJ4_grow_0 := by decide +kernel
theorem dksJ4_grow_1 : cJ4_grow.data.toList.drop 23 = dktJ4_grow_1 := dk_seg dksJ4_grow_0 23 rfl rfl
theorem dksJ4_grow_2 : cJ4_grow.data.toList.drop 45 = dktJ4_grow_2 := dk_seg dksJ4_grow_1 22 rfl rfl
theorem dksJ4_grow_3 : cJ4_grow.data.toList.drop 69 = dktJ4_grow_3 := dk_seg dksJ4_grow_2 24 rfl rfl
theorem dksJ4_grow_4 : cJ4_grow.data.toList.drop 93 = dktJ4_grow_4 := dk_seg dksJ4_grow_3 24 rfl rfl
theorem dksJ4_grow_5 : cJ4_grow.data.toList.drop 117 = dktJ4_grow_5 := dk_seg dksJ4_grow_4 24 rfl rfl
theorem dksJ4_grow_6 : cJ4_grow.data.toList.drop 140 = dktJ4_grow_6 := dk_seg dksJ4_grow_5 23 rfl rfl
theorem dksJ4_grow_7 : cJ4_grow.data.toList.drop 164 = dktJ4_grow_7 := dk_seg dksJ4_grow_6 24 rfl rfl
theorem dJ4_grow_0 : decode cJ4_grow 0 = .ok (.aload_n 0, 1) := dk_42 (dk_at dksJ4_grow_0 0 rfl rfl)
theorem dJ4_grow_1 : decode cJ4_grow 1 = .ok (.getfield 3, 3) := dk_180 0 3 (dk_at dksJ4_grow_0 1 rfl rfl)
theorem dJ4_grow_4 : decode cJ4_grow 4 = .ok (.arraylength, 1) := dk_190 (dk_at dksJ4_grow_0 4 rfl rfl)
theorem dJ4_grow_5 : decode cJ4_grow 5 = .ok (.istore_n 2, 1) := dk_61 (dk_at dksJ4_grow_0 5 rfl rfl)
theorem dJ4_grow_6 : decode cJ4_grow 6 = .ok (.iload_n 2, 1) := dk_28 (dk_at dksJ4_grow_0 6 rfl rfl)
theorem dJ4_grow_7 : decode cJ4_grow 7 = .ok (.bipush 64, 2) := dk_16 64 (dk_at dksJ4_grow_0 7 rfl rfl)
theorem dJ4_grow_9 : decode cJ4_grow 9 = .ok (.if_icmp .ge 9, 3) := dk_162 0 9 (dk_at dksJ4_grow_0 9 rfl rfl)
theorem dJ4_grow_12 : decode cJ4_grow 12 = .ok (.iload_n 2, 1) := dk_28 (dk_at dksJ4_grow_0 12 rfl rfl)
theorem dJ4_grow_13 : decode cJ4_grow 13 = .ok (.iconst 2, 1) := dk_5 (dk_at dksJ4_grow_0 13 rfl rfl)
theorem dJ4_grow_14 : decode cJ4_grow 14 = .ok (.iadd, 1) := dk_96 (dk_at dksJ4_grow_0 14 rfl rfl)
theorem dJ4_grow_15 : decode cJ4_grow 15 = .ok (.goto 6, 3) := dk_167 0 6 (dk_at dksJ4_grow_0 15 rfl rfl)
theorem dJ4_grow_18 : decode cJ4_grow 18 = .ok (.iload_n 2, 1) := dk_28 (dk_at dksJ4_grow_0 18 rfl rfl)
theorem dJ4_grow_19 : decode cJ4_grow 19 = .ok (.iconst 1, 1) := dk_4 (dk_at dksJ4_grow_0 19 rfl rfl)
theorem dJ4_grow_20 : decode cJ4_grow 20 = .ok (.ishr, 1) := dk_122 (dk_at dksJ4_grow_0 20 rfl rfl)
theorem dJ4_grow_21 : decode cJ4_grow 21 = .ok (.istore 4, 2) := dk_54 4 (dk_at dksJ4_grow_0 21 rfl rfl)
theorem dJ4_grow_23 : decode cJ4_grow 23 = .ok (.iload 4, 2) := dk_21 4 (dk_at dksJ4_grow_1 0 rfl rfl)
theorem dJ4_grow_25 : decode cJ4_grow 25 = .ok (.iload_n 1, 1) := dk_27 (dk_at dksJ4_grow_1 2 rfl rfl)
theorem dJ4_grow_26 : decode cJ4_grow 26 = .ok (.if_icmp .lt 15, 3) := dk_161 0 15 (dk_at dksJ4_grow_1 3 rfl rfl)
theorem dJ4_grow_29 : decode cJ4_grow 29 = .ok (.iload_n 2, 1) := dk_28 (dk_at dksJ4_grow_1 6 rfl rfl)
theorem dJ4_grow_30 : decode cJ4_grow 30 = .ok (.iload 4, 2) := dk_21 4 (dk_at dksJ4_grow_1 7 rfl rfl)
theorem dJ4_grow_32 : decode cJ4_grow 32 = .ok (.iadd, 1) := dk_96 (dk_at dksJ4_grow_1 9 rfl rfl)
theorem dJ4_grow_33 : decode cJ4_grow 33 = .ok (.dup, 1) := dk_89 (dk_at dksJ4_grow_1 10 rfl rfl)
theorem dJ4_grow_34 : decode cJ4_grow 34 = .ok (.istore_n 3, 1) := dk_62 (dk_at dksJ4_grow_1 11 rfl rfl)
theorem dJ4_grow_35 : decode cJ4_grow 35 = .ok (.ldc 9, 2) := dk_18 9 (dk_at dksJ4_grow_1 12 rfl rfl)
theorem dJ4_grow_37 : decode cJ4_grow 37 = .ok (.isub, 1) := dk_100 (dk_at dksJ4_grow_1 14 rfl rfl)
theorem dJ4_grow_38 : decode cJ4_grow 38 = .ok (.ifCond .le 11, 3) := dk_158 0 11 (dk_at dksJ4_grow_1 15 rfl rfl)
theorem dJ4_grow_41 : decode cJ4_grow 41 = .ok (.aload_n 0, 1) := dk_42 (dk_at dksJ4_grow_1 18 rfl rfl)
theorem dJ4_grow_42 : decode cJ4_grow 42 = .ok (.iload_n 1, 1) := dk_27 (dk_at dksJ4_grow_1 19 rfl rfl)
theorem dJ4_grow_43 : decode cJ4_grow 43 = .ok (.iload 4, 2) := dk_21 4 (dk_at dksJ4_grow_1 20 rfl rfl)
theorem dJ4_grow_45 : decode cJ4_grow 45 = .ok (.invokevirtual 10, 3) := dk_182 0 10 (dk_at dksJ4_grow_2 0 rfl rfl)
theorem dJ4_grow_48 : decode cJ4_grow 48 = .ok (.istore_n 3, 1) := dk_62 (dk_at dksJ4_grow_2 3 rfl rfl)
theorem dJ4_grow_49 : decode cJ4_grow 49 = .ok (.aload_n 0, 1) := dk_42 (dk_at dksJ4_grow_2 4 rfl rfl)
theorem dJ4_grow_50 : decode cJ4_grow 50 = .ok (.aload_n 0, 1) := dk_42 (dk_at dksJ4_grow_2 5 rfl rfl)
theorem dJ4_grow_51 : decode cJ4_grow 51 = .ok (.getfield 3, 3) := dk_180 0 3 (dk_at dksJ4_grow_2 6 rfl rfl)
theorem dJ4_grow_54 : decode cJ4_grow 54 = .ok (.iload_n 3, 1) := dk_29 (dk_at dksJ4_grow_2 9 rfl rfl)
theorem dJ4_grow_55 : decode cJ4_grow 55 = .ok (.invokestatic 14, 3) := dk_184 0 14 (dk_at dksJ4_grow_2 10 rfl rfl)
theorem dJ4_grow_58 : decode cJ4_grow 58 = .ok (.dup_x1, 1) := dk_90 (dk_at dksJ4_grow_2 13 rfl rfl)
theorem dJ4_grow_59 : decode cJ4_grow 59 = .ok (.putfield 3, 3) := dk_181 0 3 (dk_at dksJ4_grow_2 14 rfl rfl)
theorem dJ4_grow_62 : decode cJ4_grow 62 = .ok (.astore 5, 2) := dk_58 5 (dk_at dksJ4_grow_2 17 rfl rfl)
theorem dJ4_grow_64 : decode cJ4_grow 64 = .ok (.aload_n 0, 1) := dk_42 (dk_at dksJ4_grow_2 19 rfl rfl)
theorem dJ4_grow_65 : decode cJ4_grow 65 = .ok (.getfield 20, 3) := dk_180 0 20 (dk_at dksJ4_grow_2 20 rfl rfl)
theorem dJ4_grow_68 : decode cJ4_grow 68 = .ok (.aload_n 0, 1) := dk_42 (dk_at dksJ4_grow_2 23 rfl rfl)
theorem dJ4_grow_69 : decode cJ4_grow 69 = .ok (.getfield 24, 3) := dk_180 0 24 (dk_at dksJ4_grow_3 0 rfl rfl)
theorem dJ4_grow_72 : decode cJ4_grow 72 = .ok (.if_icmp .lt 24, 3) := dk_161 0 24 (dk_at dksJ4_grow_3 3 rfl rfl)
theorem dJ4_grow_75 : decode cJ4_grow 75 = .ok (.aload_n 0, 1) := dk_42 (dk_at dksJ4_grow_3 6 rfl rfl)
theorem dJ4_grow_76 : decode cJ4_grow 76 = .ok (.getfield 20, 3) := dk_180 0 20 (dk_at dksJ4_grow_3 7 rfl rfl)
theorem dJ4_grow_79 : decode cJ4_grow 79 = .ok (.aload_n 0, 1) := dk_42 (dk_at dksJ4_grow_3 10 rfl rfl)
theorem dJ4_grow_80 : decode cJ4_grow 80 = .ok (.getfield 24, 3) := dk_180 0 24 (dk_at dksJ4_grow_3 11 rfl rfl)
theorem dJ4_grow_83 : decode cJ4_grow 83 = .ok (.if_icmp .ne 81, 3) := dk_160 0 81 (dk_at dksJ4_grow_3 14 rfl rfl)
theorem dJ4_grow_86 : decode cJ4_grow 86 = .ok (.aload 5, 2) := dk_25 5 (dk_at dksJ4_grow_3 17 rfl rfl)
theorem dJ4_grow_88 : decode cJ4_grow 88 = .ok (.aload_n 0, 1) := dk_42 (dk_at dksJ4_grow_3 19 rfl rfl)
theorem dJ4_grow_89 : decode cJ4_grow 89 = .ok (.getfield 24, 3) := dk_180 0 24 (dk_at dksJ4_grow_3 20 rfl rfl)
theorem dJ4_grow_92 : decode cJ4_grow 92 = .ok (.aaload, 1) := dk_50 (dk_at dksJ4_grow_3 23 rfl rfl)
theorem dJ4_grow_93 : decode cJ4_grow 93 = .ok (.ifnull 71, 3) := dk_198 0 71 (dk_at dksJ4_grow_4 0 rfl rfl)
theorem dJ4_grow_96 : decode cJ4_grow 96 = .ok (.iload_n 3, 1) := dk_29 (dk_at dksJ4_grow_4 3 rfl rfl)
theorem dJ4_grow_97 : decode cJ4_grow 97 = .ok (.iload_n 2, 1) := dk_28 (dk_at dksJ4_grow_4 4 rfl rfl)
theorem dJ4_grow_98 : decode cJ4_grow 98 = .ok (.isub, 1) := dk_100 (dk_at dksJ4_grow_4 5 rfl rfl)
theorem dJ4_grow_99 : decode cJ4_grow 99 = .ok (.istore 6, 2) := dk_54 6 (dk_at dksJ4_grow_4 6 rfl rfl)
theorem dJ4_grow_101 : decode cJ4_grow 101 = .ok (.aload 5, 2) := dk_25 5 (dk_at dksJ4_grow_4 8 rfl rfl)
theorem dJ4_grow_103 : decode cJ4_grow 103 = .ok (.aload_n 0, 1) := dk_42 (dk_at dksJ4_grow_4 10 rfl rfl)
theorem dJ4_grow_104 : decode cJ4_grow 104 = .ok (.getfield 24, 3) := dk_180 0 24 (dk_at dksJ4_grow_4 11 rfl rfl)
theorem dJ4_grow_107 : decode cJ4_grow 107 = .ok (.aload 5, 2) := dk_25 5 (dk_at dksJ4_grow_4 14 rfl rfl)
theorem dJ4_grow_109 : decode cJ4_grow 109 = .ok (.aload_n 0, 1) := dk_42 (dk_at dksJ4_grow_4 16 rfl rfl)
theorem dJ4_grow_110 : decode cJ4_grow 110 = .ok (.getfield 24, 3) := dk_180 0 24 (dk_at dksJ4_grow_4 17 rfl rfl)
theorem dJ4_grow_113 : decode cJ4_grow 113 = .ok (.iload 6, 2) := dk_21 6 (dk_at dksJ4_grow_4 20 rfl rfl)
theorem dJ4_grow_115 : decode cJ4_grow 115 = .ok (.iadd, 1) := dk_96 (dk_at dksJ4_grow_4 22 rfl rfl)
theorem dJ4_grow_116 : decode cJ4_grow 116 = .ok (.iload_n 2, 1) := dk_28 (dk_at dksJ4_grow_4 23 rfl rfl)
theorem dJ4_grow_117 : decode cJ4_grow 117 = .ok (.aload_n 0, 1) := dk_42 (dk_at dksJ4_grow_5 0 rfl rfl)
theorem dJ4_grow_118 : decode cJ4_grow 118 = .ok (.getfield 24, 3) := dk_180 0 24 (dk_at dksJ4_grow_5 1 rfl rfl)
theorem dJ4_grow_121 : decode cJ4_grow 121 = .ok (.isub, 1) := dk_100 (dk_at dksJ4_grow_5 4 rfl rfl)
theorem dJ4_grow_122 : decode cJ4_grow 122 = .ok (.invokestatic 27, 3) := dk_184 0 27 (dk_at dksJ4_grow_5 5 rfl rfl)
theorem dJ4_grow_125 : decode cJ4_grow 125 = .ok (.aload_n 0, 1) := dk_42 (dk_at dksJ4_grow_5 8 rfl rfl)
theorem dJ4_grow_126 : decode cJ4_grow 126 = .ok (.getfield 24, 3) := dk_180 0 24 (dk_at dksJ4_grow_5 9 rfl rfl)
theorem dJ4_grow_129 : decode cJ4_grow 129 = .ok (.istore 7, 2) := dk_54 7 (dk_at dksJ4_grow_5 12 rfl rfl)
theorem dJ4_grow_131 : decode cJ4_grow 131 = .ok (.aload_n 0, 1) := dk_42 (dk_at dksJ4_grow_5 14 rfl rfl)
theorem dJ4_grow_132 : decode cJ4_grow 132 = .ok (.dup, 1) := dk_89 (dk_at dksJ4_grow_5 15 rfl rfl)
theorem dJ4_grow_133 : decode cJ4_grow 133 = .ok (.getfield 24, 3) := dk_180 0 24 (dk_at dksJ4_grow_5 16 rfl rfl)
theorem dJ4_grow_136 : decode cJ4_grow 136 = .ok (.iload 6, 2) := dk_21 6 (dk_at dksJ4_grow_5 19 rfl rfl)
theorem dJ4_grow_138 : decode cJ4_grow 138 = .ok (.iadd, 1) := dk_96 (dk_at dksJ4_grow_5 21 rfl rfl)
theorem dJ4_grow_139 : decode cJ4_grow 139 = .ok (.dup_x1, 1) := dk_90 (dk_at dksJ4_grow_5 22 rfl rfl)
theorem dJ4_grow_140 : decode cJ4_grow 140 = .ok (.putfield 24, 3) := dk_181 0 24 (dk_at dksJ4_grow_6 0 rfl rfl)
theorem dJ4_grow_143 : decode cJ4_grow 143 = .ok (.istore 8, 2) := dk_54 8 (dk_at dksJ4_grow_6 3 rfl rfl)
theorem dJ4_grow_145 : decode cJ4_grow 145 = .ok (.iload 7, 2) := dk_21 7 (dk_at dksJ4_grow_6 5 rfl rfl)
theorem dJ4_grow_147 : decode cJ4_grow 147 = .ok (.iload 8, 2) := dk_21 8 (dk_at dksJ4_grow_6 7 rfl rfl)
theorem dJ4_grow_149 : decode cJ4_grow 149 = .ok (.if_icmp .ge 15, 3) := dk_162 0 15 (dk_at dksJ4_grow_6 9 rfl rfl)
theorem dJ4_grow_152 : decode cJ4_grow 152 = .ok (.aload 5, 2) := dk_25 5 (dk_at dksJ4_grow_6 12 rfl rfl)
theorem dJ4_grow_154 : decode cJ4_grow 154 = .ok (.iload 7, 2) := dk_21 7 (dk_at dksJ4_grow_6 14 rfl rfl)
theorem dJ4_grow_156 : decode cJ4_grow 156 = .ok (.aconst_null, 1) := dk_1 (dk_at dksJ4_grow_6 16 rfl rfl)
theorem dJ4_grow_157 : decode cJ4_grow 157 = .ok (.aastore, 1) := dk_83 (dk_at dksJ4_grow_6 17 rfl rfl)
theorem dJ4_grow_158 : decode cJ4_grow 158 = .ok (.iinc 7 1, 3) := dk_132 7 1 (dk_at dksJ4_grow_6 18 rfl rfl)
theorem dJ4_grow_161 : decode cJ4_grow 161 = .ok (.goto (-16), 3) := dk_167 255 240 (dk_at dksJ4_grow_6 21 rfl rfl)
theorem dJ4_grow_164 : decode cJ4_grow 164 = .ok (.return_, 1) := dk_177 (dk_at dksJ4_grow_7 0 rfl rfl)
def dkwJ4_newCapacity_2 : List UInt8 := [18, 9, 100, 156, 0, 9, 29, 28, 96, 167, 0, 5, 18, 9, 172]
abbrev dktJ4_newCapacity_2 : List UInt8 := dkwJ4_newCapacity_2 ++ []
def dkwJ4_newCapacity_1 : List UInt8 := [187, 0, 33, 89, 18, 35, 183, 0, 37, 191, 18, 41, 172, 27, 28, 164, 0, 6, 21, 4, 172, 29, 28, 96]
abbrev dktJ4_newCapacity_1 : List UInt8 := dkwJ4_newCapacity_1 ++ dktJ4_newCapacity_2
def dkwJ4_newCapacity_0 : List UInt8 := [42, 180, 0, 3, 190, 62, 29, 27, 96, 89, 54, 4, 18, 9, 100, 158, 0, 21, 21, 4, 156, 0, 13]
abbrev dktJ4_newCapacity_0 : List UInt8 := dkwJ4_newCapacity_0 ++ dktJ4_newCapacity_1
theorem dksJ4_newCapacity_0 : cJ4_newCapacity.data.toList.drop 0 = dktJ4_newCapacity_0 := by decide +kernel
theorem dksJ4_newCapacity_1 : cJ4_newCapacity.data.toList.drop 23 = dktJ4_newCapacity_1 := dk_seg dksJ4_newCapacity_0 23 rfl rfl
theorem dksJ4_newCapacity_2 : cJ4_newCapacity.data.toList.drop 47 = dktJ4_newCapacity_2 := dk_seg dksJ4_newCapacity_1 24 rfl rfl
theorem dJ4_newCapacity_0 : decode cJ4_newCapacity 0 = .ok (.aload_n 0, 1) := dk_42 (dk_at dksJ4_newCapacity_0 0 rfl rfl)
theorem dJ4_newCapacity_1 : decode cJ4_newCapacity 1 = .ok (.getfield 3, 3) := dk_180 0 3 (dk_at dksJ4_newCapacity_0 1 rfl rfl)
theorem dJ4_newCapacity_4 : decode cJ4_newCapacity 4 = .ok (.arraylength, 1) := dk_190 (dk_at dksJ4_newCapacity_0 4 rfl rfl)
theorem dJ4_newCapacity_5 : decode cJ4_newCapacity 5 = .ok (.istore_n 3, 1) := dk_62 (dk_at dksJ4_newCapacity_0 5 rfl rfl)
theorem dJ4_newCapacity_6 : decode cJ4_newCapacity 6 = .ok (.iload_n 3, 1) := dk_29 (dk_at dksJ4_newCapacity_0 6 rfl rfl)
theorem dJ4_newCapacity_7 : decode cJ4_newCapacity 7 = .ok (.iload_n 1, 1) := dk_27 (dk_at dksJ4_newCapacity_0 7 rfl rfl)
theorem dJ4_newCapacity_8 : decode cJ4_newCapacity 8 = .ok (.iadd, 1) := dk_96 (dk_at dksJ4_newCapacity_0 8 rfl rfl)
theorem dJ4_newCapacity_9 : decode cJ4_newCapacity 9 = .ok (.dup, 1) := dk_89 (dk_at dksJ4_newCapacity_0 9 rfl rfl)
theorem dJ4_newCapacity_10 : decode cJ4_newCapacity 10 = .ok (.istore 4, 2) := dk_54 4 (dk_at dksJ4_newCapacity_0 10 rfl rfl)
theorem dJ4_newCapacity_12 : decode cJ4_newCapacity 12 = .ok (.ldc 9, 2) := dk_18 9 (dk_at dksJ4_newCapacity_0 12 rfl rfl)
theorem dJ4_newCapacity_14 : decode cJ4_newCapacity 14 = .ok (.isub, 1) := dk_100 (dk_at dksJ4_newCapacity_0 14 rfl rfl)
theorem dJ4_newCapacity_15 : decode cJ4_newCapacity 15 = .ok (.ifCond .le 21, 3) := dk_158 0 21 (dk_at dksJ4_newCapacity_0 15 rfl rfl)
theorem dJ4_newCapacity_18 : decode cJ4_newCapacity 18 = .ok (.iload 4, 2) := dk_21 4 (dk_at dksJ4_newCapacity_0 18 rfl rfl)
theorem dJ4_newCapacity_20 : decode cJ4_newCapacity 20 = .ok (.ifCond .ge 13, 3) := dk_156 0 13 (dk_at dksJ4_newCapacity_0 20 rfl rfl)
theorem dJ4_newCapacity_23 : decode cJ4_newCapacity 23 = .ok (.new 33, 3) := dk_187 0 33 (dk_at dksJ4_newCapacity_1 0 rfl rfl)
theorem dJ4_newCapacity_26 : decode cJ4_newCapacity 26 = .ok (.dup, 1) := dk_89 (dk_at dksJ4_newCapacity_1 3 rfl rfl)
theorem dJ4_newCapacity_27 : decode cJ4_newCapacity 27 = .ok (.ldc 35, 2) := dk_18 35 (dk_at dksJ4_newCapacity_1 4 rfl rfl)
theorem dJ4_newCapacity_29 : decode cJ4_newCapacity 29 = .ok (.invokespecial 37, 3) := dk_183 0 37 (dk_at dksJ4_newCapacity_1 6 rfl rfl)
theorem dJ4_newCapacity_32 : decode cJ4_newCapacity 32 = .ok (.athrow, 1) := dk_191 (dk_at dksJ4_newCapacity_1 9 rfl rfl)
theorem dJ4_newCapacity_33 : decode cJ4_newCapacity 33 = .ok (.ldc 41, 2) := dk_18 41 (dk_at dksJ4_newCapacity_1 10 rfl rfl)
theorem dJ4_newCapacity_35 : decode cJ4_newCapacity 35 = .ok (.ireturn, 1) := dk_172 (dk_at dksJ4_newCapacity_1 12 rfl rfl)
theorem dJ4_newCapacity_36 : decode cJ4_newCapacity 36 = .ok (.iload_n 1, 1) := dk_27 (dk_at dksJ4_newCapacity_1 13 rfl rfl)
theorem dJ4_newCapacity_37 : decode cJ4_newCapacity 37 = .ok (.iload_n 2, 1) := dk_28 (dk_at dksJ4_newCapacity_1 14 rfl rfl)
theorem dJ4_newCapacity_38 : decode cJ4_newCapacity 38 = .ok (.if_icmp .le 6, 3) := dk_164 0 6 (dk_at dksJ4_newCapacity_1 15 rfl rfl)
theorem dJ4_newCapacity_41 : decode cJ4_newCapacity 41 = .ok (.iload 4, 2) := dk_21 4 (dk_at dksJ4_newCapacity_1 18 rfl rfl)
theorem dJ4_newCapacity_43 : decode cJ4_newCapacity 43 = .ok (.ireturn, 1) := dk_172 (dk_at dksJ4_newCapacity_1 20 rfl rfl)
theorem dJ4_newCapacity_44 : decode cJ4_newCapacity 44 = .ok (.iload_n 3, 1) := dk_29 (dk_at dksJ4_newCapacity_1 21 rfl rfl)
theorem dJ4_newCapacity_45 : decode cJ4_newCapacity 45 = .ok (.iload_n 2, 1) := dk_28 (dk_at dksJ4_newCapacity_1 22 rfl rfl)
theorem dJ4_newCapacity_46 : decode cJ4_newCapacity 46 = .ok (.iadd, 1) := dk_96 (dk_at dksJ4_newCapacity_1 23 rfl rfl)
theorem dJ4_newCapacity_47 : decode cJ4_newCapacity 47 = .ok (.ldc 9, 2) := dk_18 9 (dk_at dksJ4_newCapacity_2 0 rfl rfl)
theorem dJ4_newCapacity_49 : decode cJ4_newCapacity 49 = .ok (.isub, 1) := dk_100 (dk_at dksJ4_newCapacity_2 2 rfl rfl)
theorem dJ4_newCapacity_50 : decode cJ4_newCapacity 50 = .ok (.ifCond .ge 9, 3) := dk_156 0 9 (dk_at dksJ4_newCapacity_2 3 rfl rfl)
theorem dJ4_newCapacity_53 : decode cJ4_newCapacity 53 = .ok (.iload_n 3, 1) := dk_29 (dk_at dksJ4_newCapacity_2 6 rfl rfl)
theorem dJ4_newCapacity_54 : decode cJ4_newCapacity 54 = .ok (.iload_n 2, 1) := dk_28 (dk_at dksJ4_newCapacity_2 7 rfl rfl)
theorem dJ4_newCapacity_55 : decode cJ4_newCapacity 55 = .ok (.iadd, 1) := dk_96 (dk_at dksJ4_newCapacity_2 8 rfl rfl)
theorem dJ4_newCapacity_56 : decode cJ4_newCapacity 56 = .ok (.goto 5, 3) := dk_167 0 5 (dk_at dksJ4_newCapacity_2 9 rfl rfl)
theorem dJ4_newCapacity_59 : decode cJ4_newCapacity 59 = .ok (.ldc 9, 2) := dk_18 9 (dk_at dksJ4_newCapacity_2 12 rfl rfl)
theorem dJ4_newCapacity_61 : decode cJ4_newCapacity 61 = .ok (.ireturn, 1) := dk_172 (dk_at dksJ4_newCapacity_2 14 rfl rfl)
def dkwJ4_size_0 : List UInt8 := [42, 180, 0, 20, 42, 180, 0, 24, 42, 180, 0, 3, 190, 184, 0, 127, 172]
abbrev dktJ4_size_0 : List UInt8 := dkwJ4_size_0 ++ []
theorem dksJ4_size_0 : cJ4_size.data.toList.drop 0 = dktJ4_size_0 := by decide +kernel
theorem dJ4_size_0 : decode cJ4_size 0 = .ok (.aload_n 0, 1) := dk_42 (dk_at dksJ4_size_0 0 rfl rfl)
theorem dJ4_size_1 : decode cJ4_size 1 = .ok (.getfield 20, 3) := dk_180 0 20 (dk_at dksJ4_size_0 1 rfl rfl)
theorem dJ4_size_4 : decode cJ4_size 4 = .ok (.aload_n 0, 1) := dk_42 (dk_at dksJ4_size_0 4 rfl rfl)
theorem dJ4_size_5 : decode cJ4_size 5 = .ok (.getfield 24, 3) := dk_180 0 24 (dk_at dksJ4_size_0 5 rfl rfl)
theorem dJ4_size_8 : decode cJ4_size 8 = .ok (.aload_n 0, 1) := dk_42 (dk_at dksJ4_size_0 8 rfl rfl)
theorem dJ4_size_9 : decode cJ4_size 9 = .ok (.getfield 3, 3) := dk_180 0 3 (dk_at dksJ4_size_0 9 rfl rfl)
theorem dJ4_size_12 : decode cJ4_size 12 = .ok (.arraylength, 1) := dk_190 (dk_at dksJ4_size_0 12 rfl rfl)
theorem dJ4_size_13 : decode cJ4_size 13 = .ok (.invokestatic 127, 3) := dk_184 0 127 (dk_at dksJ4_size_0 13 rfl rfl)
theorem dJ4_size_16 : decode cJ4_size 16 = .ok (.ireturn, 1) := dk_172 (dk_at dksJ4_size_0 16 rfl rfl)
def dkwJ4_sub_0 : List UInt8 := [26, 27, 100, 89, 59, 156, 0, 7, 26, 28, 96, 59, 26, 172]
abbrev dktJ4_sub_0 : List UInt8 := dkwJ4_sub_0 ++ []
theorem dksJ4_sub_0 : cJ4_sub.data.toList.drop 0 = dktJ4_sub_0 := by decide +kernel
theorem dJ4_sub_0 : decode cJ4_sub 0 = .ok (.iload_n 0, 1) := dk_26 (dk_at dksJ4_sub_0 0 rfl rfl)
theorem dJ4_sub_1 : decode cJ4_sub 1 = .ok (.iload_n 1, 1) := dk_27 (dk_at dksJ4_sub_0 1 rfl rfl)
theorem dJ4_sub_2 : decode cJ4_sub 2 = .ok (.isub, 1) := dk_100 (dk_at dksJ4_sub_0 2 rfl rfl)
theorem dJ4_sub_3 : decode cJ4_sub 3 = .ok (.dup, 1) := dk_89 (dk_at dksJ4_sub_0 3 rfl rfl)
theorem dJ4_sub_4 : decode cJ4_sub 4 = .ok (.istore_n 0, 1) := dk_59 (dk_at dksJ4_sub_0 4 rfl rfl)
theorem dJ4_sub_5 : decode cJ4_sub 5 = .ok (.ifCond .ge 7, 3) := dk_156 0 7 (dk_at dksJ4_sub_0 5 rfl rfl)
theorem dJ4_sub_8 : decode cJ4_sub 8 = .ok (.iload_n 0, 1) := dk_26 (dk_at dksJ4_sub_0 8 rfl rfl)
theorem dJ4_sub_9 : decode cJ4_sub 9 = .ok (.iload_n 2, 1) := dk_28 (dk_at dksJ4_sub_0 9 rfl rfl)
theorem dJ4_sub_10 : decode cJ4_sub 10 = .ok (.iadd, 1) := dk_96 (dk_at dksJ4_sub_0 10 rfl rfl)
theorem dJ4_sub_11 : decode cJ4_sub 11 = .ok (.istore_n 0, 1) := dk_59 (dk_at dksJ4_sub_0 11 rfl rfl)
theorem dJ4_sub_12 : decode cJ4_sub 12 = .ok (.iload_n 0, 1) := dk_26 (dk_at dksJ4_sub_0 12 rfl rfl)
theorem dJ4_sub_13 : decode cJ4_sub 13 = .ok (.ireturn, 1) := dk_172 (dk_at dksJ4_sub_0 13 rfl rfl)
def dkwJ4_nonNullElementAt_0 : List UInt8 := [42, 27, 50, 77, 44, 199, 0, 11, 187, 0, 62, 89, 183, 0, 64, 191, 44, 176]
abbrev dktJ4_nonNullElementAt_0 : List UInt8 := dkwJ4_nonNullElementAt_0 ++ []
theorem dksJ4_nonNullElementAt_0 : cJ4_nonNullElementAt.data.toList.drop 0 = dktJ4_nonNullElementAt_0 := by decide +kernel
theorem dJ4_nonNullElementAt_0 : decode cJ4_nonNullElementAt 0 = .ok (.aload_n 0, 1) := dk_42 (dk_at dksJ4_nonNullElementAt_0 0 rfl rfl)
theorem dJ4_nonNullElementAt_1 : decode cJ4_nonNullElementAt 1 = .ok (.iload_n 1, 1) := dk_27 (dk_at dksJ4_nonNullElementAt_0 1 rfl rfl)
theorem dJ4_nonNullElementAt_2 : decode cJ4_nonNullElementAt 2 = .ok (.aaload, 1) := dk_50 (dk_at dksJ4_nonNullElementAt_0 2 rfl rfl)
theorem dJ4_nonNullElementAt_3 : decode cJ4_nonNullElementAt 3 = .ok (.astore_n 2, 1) := dk_77 (dk_at dksJ4_nonNullElementAt_0 3 rfl rfl)
theorem dJ4_nonNullElementAt_4 : decode cJ4_nonNullElementAt 4 = .ok (.aload_n 2, 1) := dk_44 (dk_at dksJ4_nonNullElementAt_0 4 rfl rfl)
theorem dJ4_nonNullElementAt_5 : decode cJ4_nonNullElementAt 5 = .ok (.ifnonnull 11, 3) := dk_199 0 11 (dk_at dksJ4_nonNullElementAt_0 5 rfl rfl)
theorem dJ4_nonNullElementAt_8 : decode cJ4_nonNullElementAt 8 = .ok (.new 62, 3) := dk_187 0 62 (dk_at dksJ4_nonNullElementAt_0 8 rfl rfl)
theorem dJ4_nonNullElementAt_11 : decode cJ4_nonNullElementAt 11 = .ok (.dup, 1) := dk_89 (dk_at dksJ4_nonNullElementAt_0 11 rfl rfl)
theorem dJ4_nonNullElementAt_12 : decode cJ4_nonNullElementAt 12 = .ok (.invokespecial 64, 3) := dk_183 0 64 (dk_at dksJ4_nonNullElementAt_0 12 rfl rfl)
theorem dJ4_nonNullElementAt_15 : decode cJ4_nonNullElementAt 15 = .ok (.athrow, 1) := dk_191 (dk_at dksJ4_nonNullElementAt_0 15 rfl rfl)
theorem dJ4_nonNullElementAt_16 : decode cJ4_nonNullElementAt 16 = .ok (.aload_n 2, 1) := dk_44 (dk_at dksJ4_nonNullElementAt_0 16 rfl rfl)
theorem dJ4_nonNullElementAt_17 : decode cJ4_nonNullElementAt 17 = .ok (.areturn, 1) := dk_176 (dk_at dksJ4_nonNullElementAt_0 17 rfl rfl)
def dkwJ4_iterator_0 : List UInt8 := [187, 0, 131, 89, 42, 183, 0, 133, 176]
abbrev dktJ4_iterator_0 : List UInt8 := dkwJ4_iterator_0 ++ []
theorem dksJ4_iterator_0 : cJ4_iterator.data.toList.drop 0 = dktJ4_iterator_0 := by decide +kernel
theorem dJ4_iterator_0 : decode cJ4_iterator 0 = .ok (.new 131, 3) := dk_187 0 131 (dk_at dksJ4_iterator_0 0 rfl rfl)
theorem dJ4_iterator_3 : decode cJ4_iterator 3 = .ok (.dup, 1) := dk_89 (dk_at dksJ4_iterator_0 3 rfl rfl)
theorem dJ4_iterator_4 : decode cJ4_iterator 4 = .ok (.aload_n 0, 1) := dk_42 (dk_at dksJ4_iterator_0 4 rfl rfl)
theorem dJ4_iterator_5 : decode cJ4_iterator 5 = .ok (.invokespecial 133, 3) := dk_183 0 133 (dk_at dksJ4_iterator_0 5 rfl rfl)
theorem dJ4_iterator_8 : decode cJ4_iterator 8 = .ok (.areturn, 1) := dk_176 (dk_at dksJ4_iterator_0 8 rfl rfl)
def dkwJ4_isEmpty_0 : List UInt8 := [42, 180, 0, 24, 42, 180, 0, 20, 160, 0, 7, 4, 167, 0, 4, 3, 172]
abbrev dktJ4_isEmpty_0 : List UInt8 := dkwJ4_isEmpty_0 ++ []
theorem dksJ4_isEmpty_0 : cJ4_isEmpty.data.toList.drop 0 = dktJ4_isEmpty_0 := by decide +kernel
theorem dJ4_isEmpty_0 : decode cJ4_isEmpty 0 = .ok (.aload_n 0, 1) := dk_42 (dk_at dksJ4_isEmpty_0 0 rfl rfl)
theorem dJ4_isEmpty_1 : decode cJ4_isEmpty 1 = .ok (.getfield 24, 3) := dk_180 0 24 (dk_at dksJ4_isEmpty_0 1 rfl rfl)
theorem dJ4_isEmpty_4 : decode cJ4_isEmpty 4 = .ok (.aload_n 0, 1) := dk_42 (dk_at dksJ4_isEmpty_0 4 rfl rfl)
theorem dJ4_isEmpty_5 : decode cJ4_isEmpty 5 = .ok (.getfield 20, 3) := dk_180 0 20 (dk_at dksJ4_isEmpty_0 5 rfl rfl)
theorem dJ4_isEmpty_8 : decode cJ4_isEmpty 8 = .ok (.if_icmp .ne 7, 3) := dk_160 0 7 (dk_at dksJ4_isEmpty_0 8 rfl rfl)
theorem dJ4_isEmpty_11 : decode cJ4_isEmpty 11 = .ok (.iconst 1, 1) := dk_4 (dk_at dksJ4_isEmpty_0 11 rfl rfl)
theorem dJ4_isEmpty_12 : decode cJ4_isEmpty 12 = .ok (.goto 4, 3) := dk_167 0 4 (dk_at dksJ4_isEmpty_0 12 rfl rfl)
theorem dJ4_isEmpty_15 : decode cJ4_isEmpty 15 = .ok (.iconst 0, 1) := dk_3 (dk_at dksJ4_isEmpty_0 15 rfl rfl)
theorem dJ4_isEmpty_16 : decode cJ4_isEmpty 16 = .ok (.ireturn, 1) := dk_172 (dk_at dksJ4_isEmpty_0 16 rfl rfl)
def dkwJ4_getFirst_1 : List UInt8 := [43, 176]
abbrev dktJ4_getFirst_1 : List UInt8 := dkwJ4_getFirst_1 ++ []
def dkwJ4_getFirst_0 : List UInt8 := [42, 180, 0, 3, 42, 180, 0, 24, 184, 0, 103, 76, 43, 199, 0, 11, 187, 0, 97, 89, 183, 0, 99, 191]
abbrev dktJ4_getFirst_0 : List UInt8 := dkwJ4_getFirst_0 ++ dktJ4_getFirst_1
theorem dksJ4_getFirst_0 : cJ4_getFirst.data.toList.drop 0 = dktJ4_getFirst_0 := by decide +kernel
theorem dksJ4_getFirst_1 : cJ4_getFirst.data.toList.drop 24 = dktJ4_getFirst_1 := dk_seg dksJ4_getFirst_0 24 rfl rfl
theorem dJ4_getFirst_0 : decode cJ4_getFirst 0 = .ok (.aload_n 0, 1) := dk_42 (dk_at dksJ4_getFirst_0 0 rfl rfl)
theorem dJ4_getFirst_1 : decode cJ4_getFirst 1 = .ok (.getfield 3, 3) := dk_180 0 3 (dk_at dksJ4_getFirst_0 1 rfl rfl)
theorem dJ4_getFirst_4 : decode cJ4_getFirst 4 = .ok (.aload_n 0, 1) := dk_42 (dk_at dksJ4_getFirst_0 4 rfl rfl)
theorem dJ4_getFirst_5 : decode cJ4_getFirst 5 = .ok (.getfield 24, 3) := dk_180 0 24 (dk_at dksJ4_getFirst_0 5 rfl rfl)
theorem dJ4_getFirst_8 : decode cJ4_getFirst 8 = .ok (.invokestatic 103, 3) := dk_184 0 103 (dk_at dksJ4_getFirst_0 8 rfl rfl)
theorem dJ4_getFirst_11 : decode cJ4_getFirst 11 = .ok (.astore_n 1, 1) := dk_76 (dk_at dksJ4_getFirst_0 11 rfl rfl)
theorem dJ4_getFirst_12 : decode cJ4_getFirst 12 = .ok (.aload_n 1, 1) := dk_43 (dk_at dksJ4_getFirst_0 12 rfl rfl)
theorem dJ4_getFirst_13 : decode cJ4_getFirst 13 = .ok (.ifnonnull 11, 3) := dk_199 0 11 (dk_at dksJ4_getFirst_0 13 rfl rfl)
theorem dJ4_getFirst_16 : decode cJ4_getFirst 16 = .ok (.new 97, 3) := dk_187 0 97 (dk_at dksJ4_getFirst_0 16 rfl rfl)
theorem dJ4_getFirst_19 : decode cJ4_getFirst 19 = .ok (.dup, 1) := dk_89 (dk_at dksJ4_getFirst_0 19 rfl rfl)
theorem dJ4_getFirst_20 : decode cJ4_getFirst 20 = .ok (.invokespecial 99, 3) := dk_183 0 99 (dk_at dksJ4_getFirst_0 20 rfl rfl)
theorem dJ4_getFirst_23 : decode cJ4_getFirst 23 = .ok (.athrow, 1) := dk_191 (dk_at dksJ4_getFirst_0 23 rfl rfl)
theorem dJ4_getFirst_24 : decode cJ4_getFirst 24 = .ok (.aload_n 1, 1) := dk_43 (dk_at dksJ4_getFirst_1 0 rfl rfl)
theorem dJ4_getFirst_25 : decode cJ4_getFirst 25 = .ok (.areturn, 1) := dk_176 (dk_at dksJ4_getFirst_1 1 rfl rfl)
def dkwJ4_elementAt_0 : List UInt8 := [42, 27, 50, 176]
abbrev dktJ4_elementAt_0 : List UInt8 := dkwJ4_elementAt_0 ++ []
theorem dksJ4_elementAt_0 : cJ4_elementAt.data.toList.drop 0 = dktJ4_elementAt_0 := by decide +kernel
theorem dJ4_elementAt_0 : decode cJ4_elementAt 0 = .ok (.aload_n 0, 1) := dk_42 (dk_at dksJ4_elementAt_0 0 rfl rfl)
theorem dJ4_elementAt_1 : decode cJ4_elementAt 1 = .ok (.iload_n 1, 1) := dk_27 (dk_at dksJ4_elementAt_0 1 rfl rfl)
theorem dJ4_elementAt_2 : decode cJ4_elementAt 2 = .ok (.aaload, 1) := dk_50 (dk_at dksJ4_elementAt_0 2 rfl rfl)
theorem dJ4_elementAt_3 : decode cJ4_elementAt 3 = .ok (.areturn, 1) := dk_176 (dk_at dksJ4_elementAt_0 3 rfl rfl)
def dkwJ4_removeFirst_0 : List UInt8 := [42, 182, 0, 93, 76, 43, 199, 0, 11, 187, 0, 97, 89, 183, 0, 99, 191, 43, 176]
abbrev dktJ4_removeFirst_0 : List UInt8 := dkwJ4_removeFirst_0 ++ []
theorem dksJ4_removeFirst_0 : cJ4_removeFirst.data.toList.drop 0 = dktJ4_removeFirst_0 := by decide +kernel
theorem dJ4_removeFirst_0 : decode cJ4_removeFirst 0 = .ok (.aload_n 0, 1) := dk_42 (dk_at dksJ4_removeFirst_0 0 rfl rfl)
theorem dJ4_removeFirst_1 : decode cJ4_removeFirst 1 = .ok (.invokevirtual 93, 3) := dk_182 0 93 (dk_at dksJ4_removeFirst_0 1 rfl rfl)
theorem dJ4_removeFirst_4 : decode cJ4_removeFirst 4 = .ok (.astore_n 1, 1) := dk_76 (dk_at dksJ4_removeFirst_0 4 rfl rfl)
theorem dJ4_removeFirst_5 : decode cJ4_removeFirst 5 = .ok (.aload_n 1, 1) := dk_43 (dk_at dksJ4_removeFirst_0 5 rfl rfl)
theorem dJ4_removeFirst_6 : decode cJ4_removeFirst 6 = .ok (.ifnonnull 11, 3) := dk_199 0 11 (dk_at dksJ4_removeFirst_0 6 rfl rfl)
theorem dJ4_removeFirst_9 : decode cJ4_removeFirst 9 = .ok (.new 97, 3) := dk_187 0 97 (dk_at dksJ4_removeFirst_0 9 rfl rfl)
theorem dJ4_removeFirst_12 : decode cJ4_removeFirst 12 = .ok (.dup, 1) := dk_89 (dk_at dksJ4_removeFirst_0 12 rfl rfl)
theorem dJ4_removeFirst_13 : decode cJ4_removeFirst 13 = .ok (.invokespecial 99, 3) := dk_183 0 99 (dk_at dksJ4_removeFirst_0 13 rfl rfl)
theorem dJ4_removeFirst_16 : decode cJ4_removeFirst 16 = .ok (.athrow, 1) := dk_191 (dk_at dksJ4_removeFirst_0 16 rfl rfl)
theorem dJ4_removeFirst_17 : decode cJ4_removeFirst 17 = .ok (.aload_n 1, 1) := dk_43 (dk_at dksJ4_removeFirst_0 17 rfl rfl)
theorem dJ4_removeFirst_18 : decode cJ4_removeFirst 18 = .ok (.areturn, 1) := dk_176 (dk_at dksJ4_removeFirst_0 18 rfl rfl)
def dkwJ4_pollFirst_1 : List UInt8 := [42, 28, 43, 190, 184, 0, 74, 181, 0, 24, 45, 176]
abbrev dktJ4_pollFirst_1 : List UInt8 := dkwJ4_pollFirst_1 ++ []
def dkwJ4_pollFirst_0 : List UInt8 := [42, 180, 0, 3, 89, 76, 42, 180, 0, 24, 89, 61, 184, 0, 103, 78, 45, 198, 0, 17, 43, 28, 1, 83]
abbrev dktJ4_pollFirst_0 : List UInt8 := dkwJ4_pollFirst_0 ++ dktJ4_pollFirst_1
theorem dksJ4_pollFirst_0 : cJ4_pollFirst.data.toList.drop 0 = dktJ4_pollFirst_0 := by decide +kernel
theorem dksJ4_pollFirst_1 : cJ4_pollFirst.data.toList.drop 24 = dktJ4_pollFirst_1 := dk_seg dksJ4_pollFirst_0 24 rfl rfl
theorem dJ4_pollFirst_0 : decode cJ4_pollFirst 0 = .ok (.aload_n 0, 1) := dk_42 (dk_at dksJ4_pollFirst_0 0 rfl rfl)
theorem dJ4_pollFirst_1 : decode cJ4_pollFirst 1 = .ok (.getfield 3, 3) := dk_180 0 3 (dk_at dksJ4_pollFirst_0 1 rfl rfl)
theorem dJ4_pollFirst_4 : decode cJ4_pollFirst 4 = .ok (.dup, 1) := dk_89 (dk_at dksJ4_pollFirst_0 4 rfl rfl)
theorem dJ4_pollFirst_5 : decode cJ4_pollFirst 5 = .ok (.astore_n 1, 1) := dk_76 (dk_at dksJ4_pollFirst_0 5 rfl rfl)
theorem dJ4_pollFirst_6 : decode cJ4_pollFirst 6 = .ok (.aload_n 0, 1) := dk_42 (dk_at dksJ4_pollFirst_0 6 rfl rfl)
theorem dJ4_pollFirst_7 : decode cJ4_pollFirst 7 = .ok (.getfield 24, 3) := dk_180 0 24 (dk_at dksJ4_pollFirst_0 7 rfl rfl)
theorem dJ4_pollFirst_10 : decode cJ4_pollFirst 10 = .ok (.dup, 1) := dk_89 (dk_at dksJ4_pollFirst_0 10 rfl rfl)
theorem dJ4_pollFirst_11 : decode cJ4_pollFirst 11 = .ok (.istore_n 2, 1) := dk_61 (dk_at dksJ4_pollFirst_0 11 rfl rfl)
theorem dJ4_pollFirst_12 : decode cJ4_pollFirst 12 = .ok (.invokestatic 103, 3) := dk_184 0 103 (dk_at dksJ4_pollFirst_0 12 rfl rfl)
theorem dJ4_pollFirst_15 : decode cJ4_pollFirst 15 = .ok (.astore_n 3, 1) := dk_78 (dk_at dksJ4_pollFirst_0 15 rfl rfl)
theorem dJ4_pollFirst_16 : decode cJ4_pollFirst 16 = .ok (.aload_n 3, 1) := dk_45 (dk_at dksJ4_pollFirst_0 16 rfl rfl)
theorem dJ4_pollFirst_17 : decode cJ4_pollFirst 17 = .ok (.ifnull 17, 3) := dk_198 0 17 (dk_at dksJ4_pollFirst_0 17 rfl rfl)
theorem dJ4_pollFirst_20 : decode cJ4_pollFirst 20 = .ok (.aload_n 1, 1) := dk_43 (dk_at dksJ4_pollFirst_0 20 rfl rfl)
theorem dJ4_pollFirst_21 : decode cJ4_pollFirst 21 = .ok (.iload_n 2, 1) := dk_28 (dk_at dksJ4_pollFirst_0 21 rfl rfl)
theorem dJ4_pollFirst_22 : decode cJ4_pollFirst 22 = .ok (.aconst_null, 1) := dk_1 (dk_at dksJ4_pollFirst_0 22 rfl rfl)
theorem dJ4_pollFirst_23 : decode cJ4_pollFirst 23 = .ok (.aastore, 1) := dk_83 (dk_at dksJ4_pollFirst_0 23 rfl rfl)
theorem dJ4_pollFirst_24 : decode cJ4_pollFirst 24 = .ok (.aload_n 0, 1) := dk_42 (dk_at dksJ4_pollFirst_1 0 rfl rfl)
theorem dJ4_pollFirst_25 : decode cJ4_pollFirst 25 = .ok (.iload_n 2, 1) := dk_28 (dk_at dksJ4_pollFirst_1 1 rfl rfl)
theorem dJ4_pollFirst_26 : decode cJ4_pollFirst 26 = .ok (.aload_n 1, 1) := dk_43 (dk_at dksJ4_pollFirst_1 2 rfl rfl)
theorem dJ4_pollFirst_27 : decode cJ4_pollFirst 27 = .ok (.arraylength, 1) := dk_190 (dk_at dksJ4_pollFirst_1 3 rfl rfl)
theorem dJ4_pollFirst_28 : decode cJ4_pollFirst 28 = .ok (.invokestatic 74, 3) := dk_184 0 74 (dk_at dksJ4_pollFirst_1 4 rfl rfl)
theorem dJ4_pollFirst_31 : decode cJ4_pollFirst 31 = .ok (.putfield 24, 3) := dk_181 0 24 (dk_at dksJ4_pollFirst_1 7 rfl rfl)
theorem dJ4_pollFirst_34 : decode cJ4_pollFirst 34 = .ok (.aload_n 3, 1) := dk_45 (dk_at dksJ4_pollFirst_1 10 rfl rfl)
theorem dJ4_pollFirst_35 : decode cJ4_pollFirst 35 = .ok (.areturn, 1) := dk_176 (dk_at dksJ4_pollFirst_1 11 rfl rfl)
def dkwJ4_contains_3 : List UInt8 := [3, 62, 21, 4, 54, 5, 167, 255, 216, 3, 172]
abbrev dktJ4_contains_3 : List UInt8 := dkwJ4_contains_3 ++ []
def dkwJ4_contains_2 : List UInt8 := [182, 0, 107, 153, 0, 5, 4, 172, 132, 3, 1, 167, 255, 235, 21, 5, 21, 4, 160, 0, 6, 167, 0, 12]
abbrev dktJ4_contains_2 : List UInt8 := dkwJ4_contains_2 ++ dktJ4_contains_3
def dkwJ4_contains_1 : List UInt8 := [163, 0, 8, 21, 4, 167, 0, 5, 44, 190, 54, 5, 29, 21, 5, 162, 0, 21, 43, 44, 29, 50]
abbrev dktJ4_contains_1 : List UInt8 := dkwJ4_contains_1 ++ dktJ4_contains_2
def dkwJ4_contains_0 : List UInt8 := [43, 198, 0, 77, 42, 180, 0, 3, 77, 42, 180, 0, 24, 62, 42, 180, 0, 20, 54, 4, 29, 21, 4]
abbrev dktJ4_contains_0 : List UInt8 := dkwJ4_contains_0 ++ dktJ4_contains_1
theorem dksJ4_contains_0 : cJ4_contains.data.toList.drop 0 = dktJ4_contains_0 := by decide +kernel
theorem dksJ4_contains_1 : cJ4_contains.data.toList.drop 23 = dktJ4_contains_1 := dk_seg dksJ4_contains_0 23 rfl rfl
theorem dksJ4_contains_2 : cJ4_contains.data.toList.drop 45 = dktJ4_contains_2 := dk_seg dksJ4_contains_1 22 rfl rfl
theorem dksJ4_contains_3 : cJ4_contains.data.toList.drop 69 = dktJ4_contains_3 := dk_seg dksJ4_contains_2 24 rfl rfl
theorem dJ4_contains_0 : decode cJ4_contains 0 = .ok (.aload_n 1, 1) := dk_43 (dk_at dksJ4_contains_0 0 rfl rfl)
theorem dJ4_contains_1 : decode cJ4_contains 1 = .ok (.ifnull 77, 3) := dk_198 0 77 (dk_at dksJ4_contains_0 1 rfl rfl)
theorem dJ4_contains_4 : decode cJ4_contains 4 = .ok (.aload_n 0, 1) := dk_42 (dk_at dksJ4_contains_0 4 rfl rfl)
theorem dJ4_contains_5 : decode cJ4_contains 5 = .ok (.getfield 3, 3) := dk_180 0 3 (dk_at dksJ4_contains_0 5 rfl rfl)
theorem dJ4_contains_8 : decode cJ4_contains 8 = .ok (.astore_n 2, 1) := dk_77 (dk_at dksJ4_contains_0 8 rfl rfl)
theorem dJ4_contains_9 : decode cJ4_contains 9 = .ok (.aload_n 0, 1) := dk_42 (dk_at dksJ4_contains_0 9 rfl rfl)
theorem dJ4_contains_10 : decode cJ4_contains 10 = .ok (.getfield 24, 3) := dk_180 0 24 (dk_at dksJ4_contains_0 10 rfl rfl)
theorem dJ4_contains_13 : decode cJ4_contains 13 = .ok (.istore_n 3, 1) := dk_62 (dk_at dksJ4_contains_0 13 rfl rfl)
theorem dJ4_contains_14 : decode cJ4_contains 14 = .ok (.aload_n 0, 1) := dk_42 (dk_at dksJ4_contains_0 14 rfl rfl)
theorem dJ4_contains_15 : decode cJ4_contains 15 = .ok (.getfield 20, 3) := dk_180 0 20 (dk_at dksJ4_contains_0 15 rfl rfl)
theorem dJ4_contains_18 : decode cJ4_contains 18 = .ok (.istore 4, 2) := dk_54 4 (dk_at dksJ4_contains_0 18 rfl rfl)
theorem dJ4_contains_20 : decode cJ4_contains 20 = .ok (.iload_n 3, 1) := dk_29 (dk_at dksJ4_contains_0 20 rfl rfl)
theorem dJ4_contains_21 : decode cJ4_contains 21 = .ok (.iload 4, 2) := dk_21 4 (dk_at dksJ4_contains_0 21 rfl rfl)
theorem dJ4_contains_23 : decode cJ4_contains 23 = .ok (.if_icmp .gt 8, 3) := dk_163 0 8 (dk_at dksJ4_contains_1 0 rfl rfl)
theorem dJ4_contains_26 : decode cJ4_contains 26 = .ok (.iload 4, 2) := dk_21 4 (dk_at dksJ4_contains_1 3 rfl rfl)
theorem dJ4_contains_28 : decode cJ4_contains 28 = .ok (.goto 5, 3) := dk_167 0 5 (dk_at dksJ4_contains_1 5 rfl rfl)
theorem dJ4_contains_31 : decode cJ4_contains 31 = .ok (.aload_n 2, 1) := dk_44 (dk_at dksJ4_contains_1 8 rfl rfl)
theorem dJ4_contains_32 : decode cJ4_contains 32 = .ok (.arraylength, 1) := dk_190 (dk_at dksJ4_contains_1 9 rfl rfl)
theorem dJ4_contains_33 : decode cJ4_contains 33 = .ok (.istore 5, 2) := dk_54 5 (dk_at dksJ4_contains_1 10 rfl rfl)
theorem dJ4_contains_35 : decode cJ4_contains 35 = .ok (.iload_n 3, 1) := dk_29 (dk_at dksJ4_contains_1 12 rfl rfl)
theorem dJ4_contains_36 : decode cJ4_contains 36 = .ok (.iload 5, 2) := dk_21 5 (dk_at dksJ4_contains_1 13 rfl rfl)
theorem dJ4_contains_38 : decode cJ4_contains 38 = .ok (.if_icmp .ge 21, 3) := dk_162 0 21 (dk_at dksJ4_contains_1 15 rfl rfl)
theorem dJ4_contains_41 : decode cJ4_contains 41 = .ok (.aload_n 1, 1) := dk_43 (dk_at dksJ4_contains_1 18 rfl rfl)
theorem dJ4_contains_42 : decode cJ4_contains 42 = .ok (.aload_n 2, 1) := dk_44 (dk_at dksJ4_contains_1 19 rfl rfl)
theorem dJ4_contains_43 : decode cJ4_contains 43 = .ok (.iload_n 3, 1) := dk_29 (dk_at dksJ4_contains_1 20 rfl rfl)
theorem dJ4_contains_44 : decode cJ4_contains 44 = .ok (.aaload, 1) := dk_50 (dk_at dksJ4_contains_1 21 rfl rfl)
theorem dJ4_contains_45 : decode cJ4_contains 45 = .ok (.invokevirtual 107, 3) := dk_182 0 107 (dk_at dksJ4_contains_2 0 rfl rfl)
theorem dJ4_contains_48 : decode cJ4_contains 48 = .ok (.ifCond .eq 5, 3) := dk_153 0 5 (dk_at dksJ4_contains_2 3 rfl rfl)
theorem dJ4_contains_51 : decode cJ4_contains 51 = .ok (.iconst 1, 1) := dk_4 (dk_at dksJ4_contains_2 6 rfl rfl)
theorem dJ4_contains_52 : decode cJ4_contains 52 = .ok (.ireturn, 1) := dk_172 (dk_at dksJ4_contains_2 7 rfl rfl)
theorem dJ4_contains_53 : decode cJ4_contains 53 = .ok (.iinc 3 1, 3) := dk_132 3 1 (dk_at dksJ4_contains_2 8 rfl rfl)
theorem dJ4_contains_56 : decode cJ4_contains 56 = .ok (.goto (-21), 3) := dk_167 255 235 (dk_at dksJ4_contains_2 11 rfl rfl)
theorem dJ4_contains_59 : decode cJ4_contains 59 = .ok (.iload 5, 2) := dk_21 5 (dk_at dksJ4_contains_2 14 rfl rfl)
theorem dJ4_contains_61 : decode cJ4_contains 61 = .ok (.iload 4, 2) := dk_21 4 (dk_at dksJ4_contains_2 16 rfl rfl)
theorem dJ4_contains_63 : decode cJ4_contains 63 = .ok (.if_icmp .ne 6, 3) := dk_160 0 6 (dk_at dksJ4_contains_2 18 rfl rfl)
theorem dJ4_contains_66 : decode cJ4_contains 66 = .ok (.goto 12, 3) := dk_167 0 12 (dk_at dksJ4_contains_2 21 rfl rfl)
theorem dJ4_contains_69 : decode cJ4_contains 69 = .ok (.iconst 0, 1) := dk_3 (dk_at dksJ4_contains_3 0 rfl rfl)
theorem dJ4_contains_70 : decode cJ4_contains 70 = .ok (.istore_n 3, 1) := dk_62 (dk_at dksJ4_contains_3 1 rfl rfl)
theorem dJ4_contains_71 : decode cJ4_contains 71 = .ok (.iload 4, 2) := dk_21 4 (dk_at dksJ4_contains_3 2 rfl rfl)
theorem dJ4_contains_73 : decode cJ4_contains 73 = .ok (.istore 5, 2) := dk_54 5 (dk_at dksJ4_contains_3 4 rfl rfl)
theorem dJ4_contains_75 : decode cJ4_contains 75 = .ok (.goto (-40), 3) := dk_167 255 216 (dk_at dksJ4_contains_3 6 rfl rfl)
theorem dJ4_contains_78 : decode cJ4_contains 78 = .ok (.iconst 0, 1) := dk_3 (dk_at dksJ4_contains_3 9 rfl rfl)
theorem dJ4_contains_79 : decode cJ4_contains 79 = .ok (.ireturn, 1) := dk_172 (dk_at dksJ4_contains_3 10 rfl rfl)
theorem dJ5_init_0 : decode cJ5_init 0 = .ok (.aload_n 0, 1) := by decide +kernel
theorem dJ5_init_1 : decode cJ5_init 1 = .ok (.invokespecial 1, 3) := by decide +kernel
theorem dJ5_init_4 : decode cJ5_init 4 = .ok (.return_, 1) := by decide +kernel
theorem dJ5_iterator_0 : decode cJ5_iterator 0 = .ok (.aload_n 0, 1) := by decide +kernel
theorem dJ5_iterator_1 : decode cJ5_iterator 1 = .ok (.invokevirtual 65, 3) := by decide +kernel
theorem dJ5_iterator_4 : decode cJ5_iterator 4 = .ok (.areturn, 1) := by decide +kernel
def dkwJ6_init_0 : List UInt8 := [42, 183, 0, 1, 42, 3, 181, 0, 7, 177]
abbrev dktJ6_init_0 : List UInt8 := dkwJ6_init_0 ++ []
theorem dksJ6_init_0 : cJ6_init.data.toList.drop 0 = dktJ6_init_0 := by decide +kernel
theorem dJ6_init_0 : decode cJ6_init 0 = .ok (.aload_n 0, 1) := dk_42 (dk_at dksJ6_init_0 0 rfl rfl)
theorem dJ6_init_1 : decode cJ6_init 1 = .ok (.invokespecial 1, 3) := dk_183 0 1 (dk_at dksJ6_init_0 1 rfl rfl)
theorem dJ6_init_4 : decode cJ6_init 4 = .ok (.aload_n 0, 1) := dk_42 (dk_at dksJ6_init_0 4 rfl rfl)
theorem dJ6_init_5 : decode cJ6_init 5 = .ok (.iconst 0, 1) := dk_3 (dk_at dksJ6_init_0 5 rfl rfl)
theorem dJ6_init_6 : decode cJ6_init 6 = .ok (.putfield 7, 3) := dk_181 0 7 (dk_at dksJ6_init_0 6 rfl rfl)
theorem dJ6_init_9 : decode cJ6_init 9 = .ok (.return_, 1) := dk_177 (dk_at dksJ6_init_0 9 rfl rfl)
theorem dJ6_size_0 : decode cJ6_size 0 = .ok (.aload_n 0, 1) := by decide +kernel
theorem dJ6_size_1 : decode cJ6_size 1 = .ok (.getfield 7, 3) := by decide +kernel
theorem dJ6_size_4 : decode cJ6_size 4 = .ok (.ireturn, 1) := by decide +kernel
def dkwJ6_listIterator_0 : List UInt8 := [42, 27, 182, 0, 76, 187, 0, 150, 89, 42, 27, 183, 0, 152, 176]
abbrev dktJ6_listIterator_0 : List UInt8 := dkwJ6_listIterator_0 ++ []
theorem dksJ6_listIterator_0 : cJ6_listIterator.data.toList.drop 0 = dktJ6_listIterator_0 := by decide +kernel
theorem dJ6_listIterator_0 : decode cJ6_listIterator 0 = .ok (.aload_n 0, 1) := dk_42 (dk_at dksJ6_listIterator_0 0 rfl rfl)
theorem dJ6_listIterator_1 : decode cJ6_listIterator 1 = .ok (.iload_n 1, 1) := dk_27 (dk_at dksJ6_listIterator_0 1 rfl rfl)
theorem dJ6_listIterator_2 : decode cJ6_listIterator 2 = .ok (.invokevirtual 76, 3) := dk_182 0 76 (dk_at dksJ6_listIterator_0 2 rfl rfl)
theorem dJ6_listIterator_5 : decode cJ6_listIterator 5 = .ok (.new 150, 3) := dk_187 0 150 (dk_at dksJ6_listIterator_0 5 rfl rfl)
theorem dJ6_listIterator_8 : decode cJ6_listIterator 8 = .ok (.dup, 1) := dk_89 (dk_at dksJ6_listIterator_0 8 rfl rfl)
theorem dJ6_listIterator_9 : decode cJ6_listIterator 9 = .ok (.aload_n 0, 1) := dk_42 (dk_at dksJ6_listIterator_0 9 rfl rfl)
theorem dJ6_listIterator_10 : decode cJ6_listIterator 10 = .ok (.iload_n 1, 1) := dk_27 (dk_at dksJ6_listIterator_0 10 rfl rfl)
theorem dJ6_listIterator_11 : decode cJ6_listIterator 11 = .ok (.invokespecial 152, 3) := dk_183 0 152 (dk_at dksJ6_listIterator_0 11 rfl rfl)
theorem dJ6_listIterator_14 : decode cJ6_listIterator 14 = .ok (.areturn, 1) := dk_176 (dk_at dksJ6_listIterator_0 14 rfl rfl)
def dkwJ6_checkPositionIndex_0 : List UInt8 := [42, 27, 182, 0, 128, 154, 0, 16, 187, 0, 119, 89, 42, 27, 182, 0, 121, 183, 0, 125, 191, 177]
abbrev dktJ6_checkPositionIndex_0 : List UInt8 := dkwJ6_checkPositionIndex_0 ++ []
theorem dksJ6_checkPositionIndex_0 : cJ6_checkPositionIndex.data.toList.drop 0 = dktJ6_checkPositionIndex_0 := by decide +kernel
theorem dJ6_checkPositionIndex_0 : decode cJ6_checkPositionIndex 0 = .ok (.aload_n 0, 1) := dk_42 (dk_at dksJ6_checkPositionIndex_0 0 rfl rfl)
theorem dJ6_checkPositionIndex_1 : decode cJ6_checkPositionIndex 1 = .ok (.iload_n 1, 1) := dk_27 (dk_at dksJ6_checkPositionIndex_0 1 rfl rfl)
theorem dJ6_checkPositionIndex_2 : decode cJ6_checkPositionIndex 2 = .ok (.invokevirtual 128, 3) := dk_182 0 128 (dk_at dksJ6_checkPositionIndex_0 2 rfl rfl)
theorem dJ6_checkPositionIndex_5 : decode cJ6_checkPositionIndex 5 = .ok (.ifCond .ne 16, 3) := dk_154 0 16 (dk_at dksJ6_checkPositionIndex_0 5 rfl rfl)
theorem dJ6_checkPositionIndex_8 : decode cJ6_checkPositionIndex 8 = .ok (.new 119, 3) := dk_187 0 119 (dk_at dksJ6_checkPositionIndex_0 8 rfl rfl)
theorem dJ6_checkPositionIndex_11 : decode cJ6_checkPositionIndex 11 = .ok (.dup, 1) := dk_89 (dk_at dksJ6_checkPositionIndex_0 11 rfl rfl)
theorem dJ6_checkPositionIndex_12 : decode cJ6_checkPositionIndex 12 = .ok (.aload_n 0, 1) := dk_42 (dk_at dksJ6_checkPositionIndex_0 12 rfl rfl)
theorem dJ6_checkPositionIndex_13 : decode cJ6_checkPositionIndex 13 = .ok (.iload_n 1, 1) := dk_27 (dk_at dksJ6_checkPositionIndex_0 13 rfl rfl)
theorem dJ6_checkPositionIndex_14 : decode cJ6_checkPositionIndex 14 = .ok (.invokevirtual 121, 3) := dk_182 0 121 (dk_at dksJ6_checkPositionIndex_0 14 rfl rfl)
theorem dJ6_checkPositionIndex_17 : decode cJ6_checkPositionIndex 17 = .ok (.invokespecial 125, 3) := dk_183 0 125 (dk_at dksJ6_checkPositionIndex_0 17 rfl rfl)
theorem dJ6_checkPositionIndex_20 : decode cJ6_checkPositionIndex 20 = .ok (.athrow, 1) := dk_191 (dk_at dksJ6_checkPositionIndex_0 20 rfl rfl)
theorem dJ6_checkPositionIndex_21 : decode cJ6_checkPositionIndex 21 = .ok (.return_, 1) := dk_177 (dk_at dksJ6_checkPositionIndex_0 21 rfl rfl)
def dkwJ6_isPositionIndex_0 : List UInt8 := [27, 155, 0, 15, 27, 42, 180, 0, 7, 163, 0, 7, 4, 167, 0, 4, 3, 172]
abbrev dktJ6_isPositionIndex_0 : List UInt8 := dkwJ6_isPositionIndex_0 ++ []
theorem dksJ6_isPositionIndex_0 : cJ6_isPositionIndex.data.toList.drop 0 = dktJ6_isPositionIndex_0 := by decide +kernel
theorem dJ6_isPositionIndex_0 : decode cJ6_isPositionIndex 0 = .ok (.iload_n 1, 1) := dk_27 (dk_at dksJ6_isPositionIndex_0 0 rfl rfl)
theorem dJ6_isPositionIndex_1 : decode cJ6_isPositionIndex 1 = .ok (.ifCond .lt 15, 3) := dk_155 0 15 (dk_at dksJ6_isPositionIndex_0 1 rfl rfl)
theorem dJ6_isPositionIndex_4 : decode cJ6_isPositionIndex 4 = .ok (.iload_n 1, 1) := dk_27 (dk_at dksJ6_isPositionIndex_0 4 rfl rfl)
theorem dJ6_isPositionIndex_5 : decode cJ6_isPositionIndex 5 = .ok (.aload_n 0, 1) := dk_42 (dk_at dksJ6_isPositionIndex_0 5 rfl rfl)
theorem dJ6_isPositionIndex_6 : decode cJ6_isPositionIndex 6 = .ok (.getfield 7, 3) := dk_180 0 7 (dk_at dksJ6_isPositionIndex_0 6 rfl rfl)
theorem dJ6_isPositionIndex_9 : decode cJ6_isPositionIndex 9 = .ok (.if_icmp .gt 7, 3) := dk_163 0 7 (dk_at dksJ6_isPositionIndex_0 9 rfl rfl)
theorem dJ6_isPositionIndex_12 : decode cJ6_isPositionIndex 12 = .ok (.iconst 1, 1) := dk_4 (dk_at dksJ6_isPositionIndex_0 12 rfl rfl)
theorem dJ6_isPositionIndex_13 : decode cJ6_isPositionIndex 13 = .ok (.goto 4, 3) := dk_167 0 4 (dk_at dksJ6_isPositionIndex_0 13 rfl rfl)
theorem dJ6_isPositionIndex_16 : decode cJ6_isPositionIndex 16 = .ok (.iconst 0, 1) := dk_3 (dk_at dksJ6_isPositionIndex_0 16 rfl rfl)
theorem dJ6_isPositionIndex_17 : decode cJ6_isPositionIndex 17 = .ok (.ireturn, 1) := dk_172 (dk_at dksJ6_isPositionIndex_0 17 rfl rfl)
def dkwJ6_node_2 : List UInt8 := [29, 27, 164, 0, 14, 44, 180, 0, 30, 77, 132, 3, 255, 167, 255, 243, 44, 176]
abbrev dktJ6_node_2 : List UInt8 := dkwJ6_node_2 ++ []
def dkwJ6_node_1 : List UInt8 := [180, 0, 36, 77, 132, 3, 1, 167, 255, 243, 44, 176, 42, 180, 0, 27, 77, 42, 180, 0, 7, 4, 100, 62]
abbrev dktJ6_node_1 : List UInt8 := dkwJ6_node_1 ++ dktJ6_node_2
def dkwJ6_node_0 : List UInt8 := [27, 42, 180, 0, 7, 4, 122, 162, 0, 28, 42, 180, 0, 18, 77, 3, 62, 29, 27, 162, 0, 14, 44]
abbrev dktJ6_node_0 : List UInt8 := dkwJ6_node_0 ++ dktJ6_node_1
theorem dksJ6_node_0 : cJ6_node.data.toList.drop 0 = dktJ6_node_0 := by decide +kernel
theorem dksJ6_node_1 : cJ6_node.data.toList.drop 23 = dktJ6_node_1 := dk_seg dksJ6_node_0 23 rfl rfl
theorem dksJ6_node_2 : cJ6_node.data.toList.drop 47 = dktJ6_node_2 := dk_seg dksJ6_node_1 24 rfl rfl
theorem dJ6_node_0 : decode cJ6_node 0 = .ok (.iload_n 1, 1) := dk_27 (dk_at dksJ6_node_0 0 rfl rfl)
theorem dJ6_node_1 : decode cJ6_node 1 = .ok (.aload_n 0, 1) := dk_42 (dk_at dksJ6_node_0 1 rfl rfl)
theorem dJ6_node_2 : decode cJ6_node 2 = .ok (.getfield 7, 3) := dk_180 0 7 (dk_at dksJ6_node_0 2 rfl rfl)
theorem dJ6_node_5 : decode cJ6_node 5 = .ok (.iconst 1, 1) := dk_4 (dk_at dksJ6_node_0 5 rfl rfl)
theorem dJ6_node_6 : decode cJ6_node 6 = .ok (.ishr, 1) := dk_122 (dk_at dksJ6_node_0 6 rfl rfl)
theorem dJ6_node_7 : decode cJ6_node 7 = .ok (.if_icmp .ge 28, 3) := dk_162 0 28 (dk_at dksJ6_node_0 7 rfl rfl)
theorem dJ6_node_10 : decode cJ6_node 10 = .ok (.aload_n 0, 1) := dk_42 (dk_at dksJ6_node_0 10 rfl rfl)
theorem dJ6_node_11 : decode cJ6_node 11 = .ok (.getfield 18, 3) := dk_180 0 18 (dk_at dksJ6_node_0 11 rfl rfl)
theorem dJ6_node_14 : decode cJ6_node 14 = .ok (.astore_n 2, 1) := dk_77 (dk_at dksJ6_node_0 14 rfl rfl)
theorem dJ6_node_15 : decode cJ6_node 15 = .ok (.iconst 0, 1) := dk_3 (dk_at dksJ6_node_0 15 rfl rfl)
theorem dJ6_node_16 : decode cJ6_node 16 = .ok (.istore_n 3, 1) := dk_62 (dk_at dksJ6_node_0 16 rfl rfl)
theorem dJ6_node_17 : decode cJ6_node 17 = .ok (.iload_n 3, 1) := dk_29 (dk_at dksJ6_node_0 17 rfl rfl)
theorem dJ6_node_18 : decode cJ6_node 18 = .ok (.iload_n 1, 1) := dk_27 (dk_at dksJ6_node_0 18 rfl rfl)
theorem dJ6_node_19 : decode cJ6_node 19 = .ok (.if_icmp .ge 14, 3) := dk_162 0 14 (dk_at dksJ6_node_0 19 rfl rfl)
theorem dJ6_node_22 : decode cJ6_node 22 = .ok (.aload_n 2, 1) := dk_44 (dk_at dksJ6_node_0 22 rfl rfl)
theorem dJ6_node_23 : decode cJ6_node 23 = .ok (.getfield 36, 3) := dk_180 0 36 (dk_at dksJ6_node_1 0 rfl rfl)
theorem dJ6_node_26 : decode cJ6_node 26 = .ok (.astore_n 2, 1) := dk_77 (dk_at dksJ6_node_1 3 rfl rfl)
theorem dJ6_node_27 : decode cJ6_node 27 = .ok (.iinc 3 1, 3) := dk_132 3 1 (dk_at dksJ6_node_1 4 rfl rfl)
theorem dJ6_node_30 : decode cJ6_node 30 = .ok (.goto (-13), 3) := dk_167 255 243 (dk_at dksJ6_node_1 7 rfl rfl)
theorem dJ6_node_33 : decode cJ6_node 33 = .ok (.aload_n 2, 1) := dk_44 (dk_at dksJ6_node_1 10 rfl rfl)
theorem dJ6_node_34 : decode cJ6_node 34 = .ok (.areturn, 1) := dk_176 (dk_at dksJ6_node_1 11 rfl rfl)
theorem dJ6_node_35 : decode cJ6_node 35 = .ok (.aload_n 0, 1) := dk_42 (dk_at dksJ6_node_1 12 rfl rfl)
theorem dJ6_node_36 : decode cJ6_node 36 = .ok (.getfield 27, 3) := dk_180 0 27 (dk_at dksJ6_node_1 13 rfl rfl)
theorem dJ6_node_39 : decode cJ6_node 39 = .ok (.astore_n 2, 1) := dk_77 (dk_at dksJ6_node_1 16 rfl rfl)
theorem dJ6_node_40 : decode cJ6_node 40 = .ok (.aload_n 0, 1) := dk_42 (dk_at dksJ6_node_1 17 rfl rfl)
theorem dJ6_node_41 : decode cJ6_node 41 = .ok (.getfield 7, 3) := dk_180 0 7 (dk_at dksJ6_node_1 18 rfl rfl)
theorem dJ6_node_44 : decode cJ6_node 44 = .ok (.iconst 1, 1) := dk_4 (dk_at dksJ6_node_1 21 rfl rfl)
theorem dJ6_node_45 : decode cJ6_node 45 = .ok (.isub, 1) := dk_100 (dk_at dksJ6_node_1 22 rfl rfl)
theorem dJ6_node_46 : decode cJ6_node 46 = .ok (.istore_n 3, 1) := dk_62 (dk_at dksJ6_node_1 23 rfl rfl)
theorem dJ6_node_47 : decode cJ6_node 47 = .ok (.iload_n 3, 1) := dk_29 (dk_at dksJ6_node_2 0 rfl rfl)
theorem dJ6_node_48 : decode cJ6_node 48 = .ok (.iload_n 1, 1) := dk_27 (dk_at dksJ6_node_2 1 rfl rfl)
theorem dJ6_node_49 : decode cJ6_node 49 = .ok (.if_icmp .le 14, 3) := dk_164 0 14 (dk_at dksJ6_node_2 2 rfl rfl)
theorem dJ6_node_52 : decode cJ6_node 52 = .ok (.aload_n 2, 1) := dk_44 (dk_at dksJ6_node_2 5 rfl rfl)
theorem dJ6_node_53 : decode cJ6_node 53 = .ok (.getfield 30, 3) := dk_180 0 30 (dk_at dksJ6_node_2 6 rfl rfl)
theorem dJ6_node_56 : decode cJ6_node 56 = .ok (.astore_n 2, 1) := dk_77 (dk_at dksJ6_node_2 9 rfl rfl)
theorem dJ6_node_57 : decode cJ6_node 57 = .ok (.iinc 3 (-1), 3) := dk_132 3 255 (dk_at dksJ6_node_2 10 rfl rfl)
theorem dJ6_node_60 : decode cJ6_node 60 = .ok (.goto (-13), 3) := dk_167 255 243 (dk_at dksJ6_node_2 13 rfl rfl)
theorem dJ6_node_63 : decode cJ6_node 63 = .ok (.aload_n 2, 1) := dk_44 (dk_at dksJ6_node_2 16 rfl rfl)
theorem dJ6_node_64 : decode cJ6_node 64 = .ok (.areturn, 1) := dk_176 (dk_at dksJ6_node_2 17 rfl rfl)
def dkwJ6_get_0 : List UInt8 := [42, 27, 182, 0, 90, 42, 27, 182, 0, 86, 180, 0, 39, 176]
abbrev dktJ6_get_0 : List UInt8 := dkwJ6_get_0 ++ []
theorem dksJ6_get_0 : cJ6_get.data.toList.drop 0 = dktJ6_get_0 := by decide +kernel
theorem dJ6_get_0 : decode cJ6_get 0 = .ok (.aload_n 0, 1) := dk_42 (dk_at dksJ6_get_0 0 rfl rfl)
theorem dJ6_get_1 : decode cJ6_get 1 = .ok (.iload_n 1, 1) := dk_27 (dk_at dksJ6_get_0 1 rfl rfl)
theorem dJ6_get_2 : decode cJ6_get 2 = .ok (.invokevirtual 90, 3) := dk_182 0 90 (dk_at dksJ6_get_0 2 rfl rfl)
theorem dJ6_get_5 : decode cJ6_get 5 = .ok (.aload_n 0, 1) := dk_42 (dk_at dksJ6_get_0 5 rfl rfl)
theorem dJ6_get_6 : decode cJ6_get 6 = .ok (.iload_n 1, 1) := dk_27 (dk_at dksJ6_get_0 6 rfl rfl)
theorem dJ6_get_7 : decode cJ6_get 7 = .ok (.invokevirtual 86, 3) := dk_182 0 86 (dk_at dksJ6_get_0 7 rfl rfl)
theorem dJ6_get_10 : decode cJ6_get 10 = .ok (.getfield 39, 3) := dk_180 0 39 (dk_at dksJ6_get_0 10 rfl rfl)
theorem dJ6_get_13 : decode cJ6_get 13 = .ok (.areturn, 1) := dk_176 (dk_at dksJ6_get_0 13 rfl rfl)
def dkwJ6_checkElementIndex_0 : List UInt8 := [42, 27, 182, 0, 115, 154, 0, 16, 187, 0, 119, 89, 42, 27, 182, 0, 121, 183, 0, 125, 191, 177]
abbrev dktJ6_checkElementIndex_0 : List UInt8 := dkwJ6_checkElementIndex_0 ++ []
theorem dksJ6_checkElementIndex_0 : cJ6_checkElementIndex.data.toList.drop 0 = dktJ6_checkElementIndex_0 := by decide +kernel
theorem dJ6_checkElementIndex_0 : decode cJ6_checkElementIndex 0 = .ok (.aload_n 0, 1) := dk_42 (dk_at dksJ6_checkElementIndex_0 0 rfl rfl)
theorem dJ6_checkElementIndex_1 : decode cJ6_checkElementIndex 1 = .ok (.iload_n 1, 1) := dk_27 (dk_at dksJ6_checkElementIndex_0 1 rfl rfl)
theorem dJ6_checkElementIndex_2 : decode cJ6_checkElementIndex 2 = .ok (.invokevirtual 115, 3) := dk_182 0 115 (dk_at dksJ6_checkElementIndex_0 2 rfl rfl)
theorem dJ6_checkElementIndex_5 : decode cJ6_checkElementIndex 5 = .ok (.ifCond .ne 16, 3) := dk_154 0 16 (dk_at dksJ6_checkElementIndex_0 5 rfl rfl)
theorem dJ6_checkElementIndex_8 : decode cJ6_checkElementIndex 8 = .ok (.new 119, 3) := dk_187 0 119 (dk_at dksJ6_checkElementIndex_0 8 rfl rfl)
theorem dJ6_checkElementIndex_11 : decode cJ6_checkElementIndex 11 = .ok (.dup, 1) := dk_89 (dk_at dksJ6_checkElementIndex_0 11 rfl rfl)
theorem dJ6_checkElementIndex_12 : decode cJ6_checkElementIndex 12 = .ok (.aload_n 0, 1) := dk_42 (dk_at dksJ6_checkElementIndex_0 12 rfl rfl)
theorem dJ6_checkElementIndex_13 : decode cJ6_checkElementIndex 13 = .ok (.iload_n 1, 1) := dk_27 (dk_at dksJ6_checkElementIndex_0 13 rfl rfl)
theorem dJ6_checkElementIndex_14 : decode cJ6_checkElementIndex 14 = .ok (.invokevirtual 121, 3) := dk_182 0 121 (dk_at dksJ6_checkElementIndex_0 14 rfl rfl)
theorem dJ6_checkElementIndex_17 : decode cJ6_checkElementIndex 17 = .ok (.invokespecial 125, 3) := dk_183 0 125 (dk_at dksJ6_checkElementIndex_0 17 rfl rfl)
theorem dJ6_checkElementIndex_20 : decode cJ6_checkElementIndex 20 = .ok (.athrow, 1) := dk_191 (dk_at dksJ6_checkElementIndex_0 20 rfl rfl)
theorem dJ6_checkElementIndex_21 : decode cJ6_checkElementIndex 21 = .ok (.return_, 1) := dk_177 (dk_at dksJ6_checkElementIndex_0 21 rfl rfl)
def dkwJ6_isElementIndex_0 : List UInt8 := [27, 155, 0, 15, 27, 42, 180, 0, 7, 162, 0, 7, 4, 167, 0, 4, 3, 172]
abbrev dktJ6_isElementIndex_0 : List UInt8 := dkwJ6_isElementIndex_0 ++ []
theorem dksJ6_isElementIndex_0 : cJ6_isElementIndex.data.toList.drop 0 = dktJ6_isElementIndex_0 := by decide +kernel
theorem dJ6_isElementIndex_0 : decode cJ6_isElementIndex 0 = .ok (.iload_n 1, 1) := dk_27 (dk_at dksJ6_isElementIndex_0 0 rfl rfl)
theorem dJ6_isElementIndex_1 : decode cJ6_isElementIndex 1 = .ok (.ifCond .lt 15, 3) := dk_155 0 15 (dk_at dksJ6_isElementIndex_0 1 rfl rfl)
theorem dJ6_isElementIndex_4 : decode cJ6_isElementIndex 4 = .ok (.iload_n 1, 1) := dk_27 (dk_at dksJ6_isElementIndex_0 4 rfl rfl)
theorem dJ6_isElementIndex_5 : decode cJ6_isElementIndex 5 = .ok (.aload_n 0, 1) := dk_42 (dk_at dksJ6_isElementIndex_0 5 rfl rfl)
theorem dJ6_isElementIndex_6 : decode cJ6_isElementIndex 6 = .ok (.getfield 7, 3) := dk_180 0 7 (dk_at dksJ6_isElementIndex_0 6 rfl rfl)
theorem dJ6_isElementIndex_9 : decode cJ6_isElementIndex 9 = .ok (.if_icmp .ge 7, 3) := dk_162 0 7 (dk_at dksJ6_isElementIndex_0 9 rfl rfl)
theorem dJ6_isElementIndex_12 : decode cJ6_isElementIndex 12 = .ok (.iconst 1, 1) := dk_4 (dk_at dksJ6_isElementIndex_0 12 rfl rfl)
theorem dJ6_isElementIndex_13 : decode cJ6_isElementIndex 13 = .ok (.goto 4, 3) := dk_167 0 4 (dk_at dksJ6_isElementIndex_0 13 rfl rfl)
theorem dJ6_isElementIndex_16 : decode cJ6_isElementIndex 16 = .ok (.iconst 0, 1) := dk_3 (dk_at dksJ6_isElementIndex_0 16 rfl rfl)
theorem dJ6_isElementIndex_17 : decode cJ6_isElementIndex 17 = .ok (.ireturn, 1) := dk_172 (dk_at dksJ6_isElementIndex_0 17 rfl rfl)
def dkwJ6_add_0 : List UInt8 := [42, 43, 182, 0, 57, 4, 172]
abbrev dktJ6_add_0 : List UInt8 := dkwJ6_add_0 ++ []
theorem dksJ6_add_0 : cJ6_add.data.toList.drop 0 = dktJ6_add_0 := by decide +kernel
theorem dJ6_add_0 : decode cJ6_add 0 = .ok (.aload_n 0, 1) := dk_42 (dk_at dksJ6_add_0 0 rfl rfl)
theorem dJ6_add_1 : decode cJ6_add 1 = .ok (.aload_n 1, 1) := dk_43 (dk_at dksJ6_add_0 1 rfl rfl)
theorem dJ6_add_2 : decode cJ6_add 2 = .ok (.invokevirtual 57, 3) := dk_182 0 57 (dk_at dksJ6_add_0 2 rfl rfl)
theorem dJ6_add_5 : decode cJ6_add 5 = .ok (.iconst 1, 1) := dk_4 (dk_at dksJ6_add_0 5 rfl rfl)
theorem dJ6_add_6 : decode cJ6_add 6 = .ok (.ireturn, 1) := dk_172 (dk_at dksJ6_add_0 6 rfl rfl)
def dkwJ6_linkLast_2 : List UInt8 := [181, 0, 7, 42, 89, 180, 0, 33, 4, 96, 181, 0, 33, 177]
abbrev dktJ6_linkLast_2 : List UInt8 := dkwJ6_linkLast_2 ++ []
def dkwJ6_linkLast_1 : List UInt8 := [199, 0, 11, 42, 45, 181, 0, 18, 167, 0, 8, 44, 45, 181, 0, 36, 42, 89, 180, 0, 7, 4, 96]
abbrev dktJ6_linkLast_1 : List UInt8 := dkwJ6_linkLast_1 ++ dktJ6_linkLast_2
def dkwJ6_linkLast_0 : List UInt8 := [42, 180, 0, 27, 77, 187, 0, 22, 89, 44, 43, 1, 183, 0, 24, 78, 42, 45, 181, 0, 27, 44]
abbrev dktJ6_linkLast_0 : List UInt8 := dkwJ6_linkLast_0 ++ dktJ6_linkLast_1
theorem dksJ6_linkLast_0 : cJ6_linkLast.data.toList.drop 0 = dktJ6_linkLast_0 := by decide +kernel
theorem dksJ6_linkLast_1 : cJ6_linkLast.data.toList.drop 22 = dktJ6_linkLast_1 := dk_seg dksJ6_linkLast_0 22 rfl rfl
theorem dksJ6_linkLast_2 : cJ6_linkLast.data.toList.drop 45 = dktJ6_linkLast_2 := dk_seg dksJ6_linkLast_1 23 rfl rfl
theorem dJ6_linkLast_0 : decode cJ6_linkLast 0 = .ok (.aload_n 0, 1) := dk_42 (dk_at dksJ6_linkLast_0 0 rfl rfl)
theorem dJ6_linkLast_1 : decode cJ6_linkLast 1 = .ok (.getfield 27, 3) := dk_180 0 27 (dk_at dksJ6_linkLast_0 1 rfl rfl)
theorem dJ6_linkLast_4 : decode cJ6_linkLast 4 = .ok (.astore_n 2, 1) := dk_77 (dk_at dksJ6_linkLast_0 4 rfl rfl)
theorem dJ6_linkLast_5 : decode cJ6_linkLast 5 = .ok (.new 22, 3) := dk_187 0 22 (dk_at dksJ6_linkLast_0 5 rfl rfl)
theorem dJ6_linkLast_8 : decode cJ6_linkLast 8 = .ok (.dup, 1) := dk_89 (dk_at dksJ6_linkLast_0 8 rfl rfl)
theorem dJ6_linkLast_9 : decode cJ6_linkLast 9 = .ok (.aload_n 2, 1) := dk_44 (dk_at dksJ6_linkLast_0 9 rfl rfl)
theorem dJ6_linkLast_10 : decode cJ6_linkLast 10 = .ok (.aload_n 1, 1) := dk_43 (dk_at dksJ6_linkLast_0 10 rfl rfl)
theorem dJ6_linkLast_11 : decode cJ6_linkLast 11 = .ok (.aconst_null, 1) := dk_1 (dk_at dksJ6_linkLast_0 11 rfl rfl)
theorem dJ6_linkLast_12 : decode cJ6_linkLast 12 = .ok (.invokespecial 24, 3) := dk_183 0 24 (dk_at dksJ6_linkLast_0 12 rfl rfl)
theorem dJ6_linkLast_15 : decode cJ6_linkLast 15 = .ok (.astore_n 3, 1) := dk_78 (dk_at dksJ6_linkLast_0 15 rfl rfl)
theorem dJ6_linkLast_16 : decode cJ6_linkLast 16 = .ok (.aload_n 0, 1) := dk_42 (dk_at dksJ6_linkLast_0 16 rfl rfl)
theorem dJ6_linkLast_17 : decode cJ6_linkLast 17 = .ok (.aload_n 3, 1) := dk_45 (dk_at dksJ6_linkLast_0 17 rfl rfl)
theorem dJ6_linkLast_18 : decode cJ6_linkLast 18 = .ok (.putfield 27, 3) := dk_181 0 27 (dk_at dksJ6_linkLast_0 18 rfl rfl)
theorem dJ6_linkLast_21 : decode cJ6_linkLast 21 = .ok (.aload_n 2, 1) := dk_44 (dk_at dksJ6_linkLast_0 21 rfl rfl)
theorem dJ6_linkLast_22 : decode cJ6_linkLast 22 = .ok (.ifnonnull 11, 3) := dk_199 0 11 (dk_at dksJ6_linkLast_1 0 rfl rfl)
theorem dJ6_linkLast_25 : decode cJ6_linkLast 25 = .ok (.aload_n 0, 1) := dk_42 (dk_at dksJ6_linkLast_1 3 rfl rfl)
theorem dJ6_linkLast_26 : decode cJ6_linkLast 26 = .ok (.aload_n 3, 1) := dk_45 (dk_at dksJ6_linkLast_1 4 rfl rfl)
theorem dJ6_linkLast_27 : decode cJ6_linkLast 27 = .ok (.putfield 18, 3) := dk_181 0 18 (dk_at dksJ6_linkLast_1 5 rfl rfl)
theorem dJ6_linkLast_30 : decode cJ6_linkLast 30 = .ok (.goto 8, 3) := dk_167 0 8 (dk_at dksJ6_linkLast_1 8 rfl rfl)
theorem dJ6_linkLast_33 : decode cJ6_linkLast 33 = .ok (.aload_n 2, 1) := dk_44 (dk_at dksJ6_linkLast_1 11 rfl rfl)
theorem dJ6_linkLast_34 : decode cJ6_linkLast 34 = .ok (.aload_n 3, 1) := dk_45 (dk_at dksJ6_linkLast_1 12 rfl rfl)
theorem dJ6_linkLast_35 : decode cJ6_linkLast 35 = .ok (.putfield 36, 3) := dk_181 0 36 (dk_at dksJ6_linkLast_1 13 rfl rfl)
theorem dJ6_linkLast_38 : decode cJ6_linkLast 38 = .ok (.aload_n 0, 1) := dk_42 (dk_at dksJ6_linkLast_1 16 rfl rfl)
theorem dJ6_linkLast_39 : decode cJ6_linkLast 39 = .ok (.dup, 1) := dk_89 (dk_at dksJ6_linkLast_1 17 rfl rfl)
theorem dJ6_linkLast_40 : decode cJ6_linkLast 40 = .ok (.getfield 7, 3) := dk_180 0 7 (dk_at dksJ6_linkLast_1 18 rfl rfl)
theorem dJ6_linkLast_43 : decode cJ6_linkLast 43 = .ok (.iconst 1, 1) := dk_4 (dk_at dksJ6_linkLast_1 21 rfl rfl)
theorem dJ6_linkLast_44 : decode cJ6_linkLast 44 = .ok (.iadd, 1) := dk_96 (dk_at dksJ6_linkLast_1 22 rfl rfl)
theorem dJ6_linkLast_45 : decode cJ6_linkLast 45 = .ok (.putfield 7, 3) := dk_181 0 7 (dk_at dksJ6_linkLast_2 0 rfl rfl)
theorem dJ6_linkLast_48 : decode cJ6_linkLast 48 = .ok (.aload_n 0, 1) := dk_42 (dk_at dksJ6_linkLast_2 3 rfl rfl)
theorem dJ6_linkLast_49 : decode cJ6_linkLast 49 = .ok (.dup, 1) := dk_89 (dk_at dksJ6_linkLast_2 4 rfl rfl)
theorem dJ6_linkLast_50 : decode cJ6_linkLast 50 = .ok (.getfield 33, 3) := dk_180 0 33 (dk_at dksJ6_linkLast_2 5 rfl rfl)
theorem dJ6_linkLast_53 : decode cJ6_linkLast 53 = .ok (.iconst 1, 1) := dk_4 (dk_at dksJ6_linkLast_2 8 rfl rfl)
theorem dJ6_linkLast_54 : decode cJ6_linkLast 54 = .ok (.iadd, 1) := dk_96 (dk_at dksJ6_linkLast_2 9 rfl rfl)
theorem dJ6_linkLast_55 : decode cJ6_linkLast 55 = .ok (.putfield 33, 3) := dk_181 0 33 (dk_at dksJ6_linkLast_2 10 rfl rfl)
theorem dJ6_linkLast_58 : decode cJ6_linkLast 58 = .ok (.return_, 1) := dk_177 (dk_at dksJ6_linkLast_2 13 rfl rfl)
def dkwJ6_unlink_3 : List UInt8 := [180, 0, 7, 4, 100, 181, 0, 7, 42, 89, 180, 0, 33, 4, 96, 181, 0, 33, 44, 176]
abbrev dktJ6_unlink_3 : List UInt8 := dkwJ6_unlink_3 ++ []
def dkwJ6_unlink_2 : List UInt8 := [181, 0, 27, 167, 0, 14, 45, 25, 4, 181, 0, 30, 43, 1, 181, 0, 36, 43, 1, 181, 0, 39, 42, 89]
abbrev dktJ6_unlink_2 : List UInt8 := dkwJ6_unlink_2 ++ dktJ6_unlink_3
def dkwJ6_unlink_1 : List UInt8 := [181, 0, 18, 167, 0, 14, 25, 4, 45, 181, 0, 36, 43, 1, 181, 0, 30, 45, 199, 0, 12, 42, 25, 4]
abbrev dktJ6_unlink_1 : List UInt8 := dkwJ6_unlink_1 ++ dktJ6_unlink_2
def dkwJ6_unlink_0 : List UInt8 := [43, 180, 0, 39, 77, 43, 180, 0, 36, 78, 43, 180, 0, 30, 58, 4, 25, 4, 199, 0, 11, 42, 45]
abbrev dktJ6_unlink_0 : List UInt8 := dkwJ6_unlink_0 ++ dktJ6_unlink_1
theorem dksJ6_unlink_0 : cJ6_unlink.data.toList.drop 0 = dktJ6_unlink_0 := by decide +kernel
theorem dksJ6_unlink_1 : cJ6_unlink.data.toList.drop 23 = dktJ6_unlink_1 := dk_seg dksJ6_unlink_0 23 rfl rfl
theorem dksJ6_unlink_2 : cJ6_unlink.data.toList.drop 47 = dktJ6_unlink_2 := dk_seg dksJ6_unlink_1 24 rfl rfl
theorem dksJ6_unlink_3 : cJ6_unlink.data.toList.drop 71 = dktJ6_unlink_3 := dk_seg dksJ6_unlink_2 24 rfl rfl
theorem dJ6_unlink_0 : decode cJ6_unlink 0 = .ok (.aload_n 1, 1) := dk_43 (dk_at dksJ6_unlink_0 0 rfl rfl)
theorem dJ6_unlink_1 : decode cJ6_unlink 1 = .ok (.getfield 39, 3) := dk_180 0 39 (dk_at dksJ6_unlink_0 1 rfl rfl)
theorem dJ6_unlink_4 : decode cJ6_unlink 4 = .ok (.astore_n 2, 1) := dk_77 (dk_at dksJ6_unlink_0 4 rfl rfl)
theorem dJ6_unlink_5 : decode cJ6_unlink 5 = .ok (.aload_n 1, 1) := dk_43 (dk_at dksJ6_unlink_0 5 rfl rfl)
theorem dJ6_unlink_6 : decode cJ6_unlink 6 = .ok (.getfield 36, 3) := dk_180 0 36 (dk_at dksJ6_unlink_0 6 rfl rfl)
theorem dJ6_unlink_9 : decode cJ6_unlink 9 = .ok (.astore_n 3, 1) := dk_78 (dk_at dksJ6_unlink_0 9 rfl rfl)
theorem dJ6_unlink_10 : decode cJ6_unlink 10 = .ok (.aload_n 1, 1) := dk_43 (dk_at dksJ6_unlink_0 10 rfl rfl)
theorem dJ6_unlink_11 : decode cJ6_unlink 11 = .ok (.getfield 30, 3) := dk_180 0 30 (dk_at dksJ6_unlink_0 11 rfl rfl)
theorem dJ6_unlink_14 : decode cJ6_unlink 14 = .ok (.astore 4, 2) := dk_58 4 (dk_at dksJ6_unlink_0 14 rfl rfl)
theorem dJ6_unlink_16 : decode cJ6_unlink 16 = .ok (.aload 4, 2) := dk_25 4 (dk_at dksJ6_unlink_0 16 rfl rfl)
theorem dJ6_unlink_18 : decode cJ6_unlink 18 = .ok (.ifnonnull 11, 3) := dk_199 0 11 (dk_at dksJ6_unlink_0 18 rfl rfl)
theorem dJ6_unlink_21 : decode cJ6_unlink 21 = .ok (.aload_n 0, 1) := dk_42 (dk_at dksJ6_unlink_0 21 rfl rfl)
theorem dJ6_unlink_22 : decode cJ6_unlink 22 = .ok (.aload_n 3, 1) := dk_45 (dk_at dksJ6_unlink_0 22 rfl rfl)
theorem dJ6_unlink_23 : decode cJ6_unlink 23 = .ok (.putfield 18, 3) := dk_181 0 18 (dk_at dksJ6_unlink_1 0 rfl rfl)
theorem dJ6_unlink_26 : decode cJ6_unlink 26 = .ok (.goto 14, 3) := dk_167 0 14 (dk_at dksJ6_unlink_1 3 rfl rfl)
theorem dJ6_unlink_29 : decode cJ6_unlink 29 = .ok (.aload 4, 2) := dk_25 4 (dk_at dksJ6_unlink_1 6 rfl rfl)
theorem dJ6_unlink_31 : decode cJ6_unlink 31 = .ok (.aload_n 3, 1) := dk_45 (dk_at dksJ6_unlink_1 8 rfl rfl)
theorem dJ6_unlink_32 : decode cJ6_unlink 32 = .ok (.putfield 36, 3) := dk_181 0 36 (dk_at dksJ6_unlink_1 9 rfl rfl)
theorem dJ6_unlink_35 : decode cJ6_unlink 35 = .ok (.aload_n 1, 1) := dk_43 (dk_at dksJ6_unlink_1 12 rfl rfl)
theorem dJ6_unlink_36 : decode cJ6_unlink 36 = .ok (.aconst_null, 1) := dk_1 (dk_at dksJ6_unlink_1 13 rfl rfl)
theorem dJ6_unlink_37 : decode cJ6_unlink 37 = .ok (.putfield 30, 3) := dk_181 0 30 (dk_at dksJ6_unlink_1 14 rfl rfl)
theorem dJ6_unlink_40 : decode cJ6_unlink 40 = .ok (.aload_n 3, 1) := dk_45 (dk_at dksJ6_unlink_1 17 rfl rfl)
theorem dJ6_unlink_41 : decode cJ6_unlink 41 = .ok (.ifnonnull 12, 3) := dk_199 0 12 (dk_at dksJ6_unlink_1 18 rfl rfl)
theorem dJ6_unlink_44 : decode cJ6_unlink 44 = .ok (.aload_n 0, 1) := dk_42 (dk_at dksJ6_unlink_1 21 rfl rfl)
theorem dJ6_unlink_45 : decode cJ6_unlink 45 = .ok (.aload 4, 2) := dk_25 4 (dk_at dksJ6_unlink_1 22 rfl rfl)
theorem dJ6_unlink_47 : decode cJ6_unlink 47 = .ok (.putfield 27, 3) := dk_181 0 27 (dk_at dksJ6_unlink_2 0 rfl rfl)
theorem dJ6_unlink_50 : decode cJ6_unlink 50 = .ok (.goto 14, 3) := dk_167 0 14 (dk_at dksJ6_unlink_2 3 rfl rfl)
theorem dJ6_unlink_53 : decode cJ6_unlink 53 = .ok (.aload_n 3, 1) := dk_45 (dk_at dksJ6_unlink_2 6 rfl rfl)
theorem dJ6_unlink_54 : decode cJ6_unlink 54 = .ok (.aload 4, 2) := dk_25 4 (dk_at dksJ6_unlink_2 7 rfl rfl)
theorem dJ6_unlink_56 : decode cJ6_unlink 56 = .ok (.putfield 30, 3) := dk_181 0 30 (dk_at dksJ6_unlink_2 9 rfl rfl)
theorem dJ6_unlink_59 : decode cJ6_unlink 59 = .ok (.aload_n 1, 1) := dk_43 (dk_at dksJ6_unlink_2 12 rfl rfl)
theorem dJ6_unlink_60 : decode cJ6_unlink 60 = .ok (.aconst_null, 1) := dk_1 (dk_at dksJ6_unlink_2 13 rfl rfl)
theorem dJ6_unlink_61 : decode cJ6_unlink 61 = .ok (.putfield 36, 3) := dk_181 0 36 (dk_at dksJ6_unlink_2 14 rfl rfl)
theorem dJ6_unlink_64 : decode cJ6_unlink 64 = .ok (.aload_n 1, 1) := dk_43 (dk_at dksJ6_unlink_2 17 rfl rfl)
theorem dJ6_unlink_65 : decode cJ6_unlink 65 = .ok (.aconst_null, 1) := dk_1 (dk_at dksJ6_unlink_2 18 rfl rfl)
theorem dJ6_unlink_66 : decode cJ6_unlink 66 = .ok (.putfield 39, 3) := dk_181 0 39 (dk_at dksJ6_unlink_2 19 rfl rfl)
theorem dJ6_unlink_69 : decode cJ6_unlink 69 = .ok (.aload_n 0, 1) := dk_42 (dk_at dksJ6_unlink_2 22 rfl rfl)
theorem dJ6_unlink_70 : decode cJ6_unlink 70 = .ok (.dup, 1) := dk_89 (dk_at dksJ6_unlink_2 23 rfl rfl)
theorem dJ6_unlink_71 : decode cJ6_unlink 71 = .ok (.getfield 7, 3) := dk_180 0 7 (dk_at dksJ6_unlink_3 0 rfl rfl)
theorem dJ6_unlink_74 : decode cJ6_unlink 74 = .ok (.iconst 1, 1) := dk_4 (dk_at dksJ6_unlink_3 3 rfl rfl)
theorem dJ6_unlink_75 : decode cJ6_unlink 75 = .ok (.isub, 1) := dk_100 (dk_at dksJ6_unlink_3 4 rfl rfl)
theorem dJ6_unlink_76 : decode cJ6_unlink 76 = .ok (.putfield 7, 3) := dk_181 0 7 (dk_at dksJ6_unlink_3 5 rfl rfl)
theorem dJ6_unlink_79 : decode cJ6_unlink 79 = .ok (.aload_n 0, 1) := dk_42 (dk_at dksJ6_unlink_3 8 rfl rfl)
theorem dJ6_unlink_80 : decode cJ6_unlink 80 = .ok (.dup, 1) := dk_89 (dk_at dksJ6_unlink_3 9 rfl rfl)
theorem dJ6_unlink_81 : decode cJ6_unlink 81 = .ok (.getfield 33, 3) := dk_180 0 33 (dk_at dksJ6_unlink_3 10 rfl rfl)
theorem dJ6_unlink_84 : decode cJ6_unlink 84 = .ok (.iconst 1, 1) := dk_4 (dk_at dksJ6_unlink_3 13 rfl rfl)
theorem dJ6_unlink_85 : decode cJ6_unlink 85 = .ok (.iadd, 1) := dk_96 (dk_at dksJ6_unlink_3 14 rfl rfl)
theorem dJ6_unlink_86 : decode cJ6_unlink 86 = .ok (.putfield 33, 3) := dk_181 0 33 (dk_at dksJ6_unlink_3 15 rfl rfl)
theorem dJ6_unlink_89 : decode cJ6_unlink 89 = .ok (.aload_n 2, 1) := dk_44 (dk_at dksJ6_unlink_3 18 rfl rfl)
theorem dJ6_unlink_90 : decode cJ6_unlink 90 = .ok (.areturn, 1) := dk_176 (dk_at dksJ6_unlink_3 19 rfl rfl)
def dkwJ6_descendingIterator_0 : List UInt8 := [187, 0, 155, 89, 42, 183, 0, 157, 176]
abbrev dktJ6_descendingIterator_0 : List UInt8 := dkwJ6_descendingIterator_0 ++ []
theorem dksJ6_descendingIterator_0 : cJ6_descendingIterator.data.toList.drop 0 = dktJ6_descendingIterator_0 := by decide +kernel
theorem dJ6_descendingIterator_0 : decode cJ6_descendingIterator 0 = .ok (.new 155, 3) := dk_187 0 155 (dk_at dksJ6_descendingIterator_0 0 rfl rfl)
theorem dJ6_descendingIterator_3 : decode cJ6_descendingIterator 3 = .ok (.dup, 1) := dk_89 (dk_at dksJ6_descendingIterator_0 3 rfl rfl)
theorem dJ6_descendingIterator_4 : decode cJ6_descendingIterator 4 = .ok (.aload_n 0, 1) := dk_42 (dk_at dksJ6_descendingIterator_0 4 rfl rfl)
theorem dJ6_descendingIterator_5 : decode cJ6_descendingIterator 5 = .ok (.invokespecial 157, 3) := dk_183 0 157 (dk_at dksJ6_descendingIterator_0 5 rfl rfl)
theorem dJ6_descendingIterator_8 : decode cJ6_descendingIterator 8 = .ok (.areturn, 1) := dk_176 (dk_at dksJ6_descendingIterator_0 8 rfl rfl)
def dkwJ6_getFirst_0 : List UInt8 := [42, 180, 0, 18, 76, 43, 199, 0, 11, 187, 0, 43, 89, 183, 0, 45, 191, 43, 180, 0, 39, 176]
abbrev dktJ6_getFirst_0 : List UInt8 := dkwJ6_getFirst_0 ++ []
theorem dksJ6_getFirst_0 : cJ6_getFirst.data.toList.drop 0 = dktJ6_getFirst_0 := by decide +kernel
theorem dJ6_getFirst_0 : decode cJ6_getFirst 0 = .ok (.aload_n 0, 1) := dk_42 (dk_at dksJ6_getFirst_0 0 rfl rfl)
theorem dJ6_getFirst_1 : decode cJ6_getFirst 1 = .ok (.getfield 18, 3) := dk_180 0 18 (dk_at dksJ6_getFirst_0 1 rfl rfl)
theorem dJ6_getFirst_4 : decode cJ6_getFirst 4 = .ok (.astore_n 1, 1) := dk_76 (dk_at dksJ6_getFirst_0 4 rfl rfl)
theorem dJ6_getFirst_5 : decode cJ6_getFirst 5 = .ok (.aload_n 1, 1) := dk_43 (dk_at dksJ6_getFirst_0 5 rfl rfl)
theorem dJ6_getFirst_6 : decode cJ6_getFirst 6 = .ok (.ifnonnull 11, 3) := dk_199 0 11 (dk_at dksJ6_getFirst_0 6 rfl rfl)
theorem dJ6_getFirst_9 : decode cJ6_getFirst 9 = .ok (.new 43, 3) := dk_187 0 43 (dk_at dksJ6_getFirst_0 9 rfl rfl)
theorem dJ6_getFirst_12 : decode cJ6_getFirst 12 = .ok (.dup, 1) := dk_89 (dk_at dksJ6_getFirst_0 12 rfl rfl)
theorem dJ6_getFirst_13 : decode cJ6_getFirst 13 = .ok (.invokespecial 45, 3) := dk_183 0 45 (dk_at dksJ6_getFirst_0 13 rfl rfl)
theorem dJ6_getFirst_16 : decode cJ6_getFirst 16 = .ok (.athrow, 1) := dk_191 (dk_at dksJ6_getFirst_0 16 rfl rfl)
theorem dJ6_getFirst_17 : decode cJ6_getFirst 17 = .ok (.aload_n 1, 1) := dk_43 (dk_at dksJ6_getFirst_0 17 rfl rfl)
theorem dJ6_getFirst_18 : decode cJ6_getFirst 18 = .ok (.getfield 39, 3) := dk_180 0 39 (dk_at dksJ6_getFirst_0 18 rfl rfl)
theorem dJ6_getFirst_21 : decode cJ6_getFirst 21 = .ok (.areturn, 1) := dk_176 (dk_at dksJ6_getFirst_0 21 rfl rfl)
def dkwJ6_removeFirst_0 : List UInt8 := [42, 180, 0, 18, 76, 43, 199, 0, 11, 187, 0, 43, 89, 183, 0, 45, 191, 42, 43, 182, 0, 46, 176]
abbrev dktJ6_removeFirst_0 : List UInt8 := dkwJ6_removeFirst_0 ++ []
theorem dksJ6_removeFirst_0 : cJ6_removeFirst.data.toList.drop 0 = dktJ6_removeFirst_0 := by decide +kernel
theorem dJ6_removeFirst_0 : decode cJ6_removeFirst 0 = .ok (.aload_n 0, 1) := dk_42 (dk_at dksJ6_removeFirst_0 0 rfl rfl)
theorem dJ6_removeFirst_1 : decode cJ6_removeFirst 1 = .ok (.getfield 18, 3) := dk_180 0 18 (dk_at dksJ6_removeFirst_0 1 rfl rfl)
theorem dJ6_removeFirst_4 : decode cJ6_removeFirst 4 = .ok (.astore_n 1, 1) := dk_76 (dk_at dksJ6_removeFirst_0 4 rfl rfl)
theorem dJ6_removeFirst_5 : decode cJ6_removeFirst 5 = .ok (.aload_n 1, 1) := dk_43 (dk_at dksJ6_removeFirst_0 5 rfl rfl)
theorem dJ6_removeFirst_6 : decode cJ6_removeFirst 6 = .ok (.ifnonnull 11, 3) := dk_199 0 11 (dk_at dksJ6_removeFirst_0 6 rfl rfl)
theorem dJ6_removeFirst_9 : decode cJ6_removeFirst 9 = .ok (.new 43, 3) := dk_187 0 43 (dk_at dksJ6_removeFirst_0 9 rfl rfl)
theorem dJ6_removeFirst_12 : decode cJ6_removeFirst 12 = .ok (.dup, 1) := dk_89 (dk_at dksJ6_removeFirst_0 12 rfl rfl)
theorem dJ6_removeFirst_13 : decode cJ6_removeFirst 13 = .ok (.invokespecial 45, 3) := dk_183 0 45 (dk_at dksJ6_removeFirst_0 13 rfl rfl)
theorem dJ6_removeFirst_16 : decode cJ6_removeFirst 16 = .ok (.athrow, 1) := dk_191 (dk_at dksJ6_removeFirst_0 16 rfl rfl)
theorem dJ6_removeFirst_17 : decode cJ6_removeFirst 17 = .ok (.aload_n 0, 1) := dk_42 (dk_at dksJ6_removeFirst_0 17 rfl rfl)
theorem dJ6_removeFirst_18 : decode cJ6_removeFirst 18 = .ok (.aload_n 1, 1) := dk_43 (dk_at dksJ6_removeFirst_0 18 rfl rfl)
theorem dJ6_removeFirst_19 : decode cJ6_removeFirst 19 = .ok (.invokevirtual 46, 3) := dk_182 0 46 (dk_at dksJ6_removeFirst_0 19 rfl rfl)
theorem dJ6_removeFirst_22 : decode cJ6_removeFirst 22 = .ok (.areturn, 1) := dk_176 (dk_at dksJ6_removeFirst_0 22 rfl rfl)
def dkwJ6_unlinkFirst_2 : List UInt8 := [180, 0, 7, 4, 100, 181, 0, 7, 42, 89, 180, 0, 33, 4, 96, 181, 0, 33, 44, 176]
abbrev dktJ6_unlinkFirst_2 : List UInt8 := dkwJ6_unlinkFirst_2 ++ []
def dkwJ6_unlinkFirst_1 : List UInt8 := [181, 0, 18, 45, 199, 0, 11, 42, 1, 181, 0, 27, 167, 0, 8, 45, 1, 181, 0, 30, 42, 89]
abbrev dktJ6_unlinkFirst_1 : List UInt8 := dkwJ6_unlinkFirst_1 ++ dktJ6_unlinkFirst_2
def dkwJ6_unlinkFirst_0 : List UInt8 := [43, 180, 0, 39, 77, 43, 180, 0, 36, 78, 43, 1, 181, 0, 39, 43, 1, 181, 0, 36, 42, 45]
abbrev dktJ6_unlinkFirst_0 : List UInt8 := dkwJ6_unlinkFirst_0 ++ dktJ6_unlinkFirst_1
theorem dksJ6_unlinkFirst_0 : cJ6_unlinkFirst.data.toList.drop 0 = dktJ6_unlinkFirst_0 := by decide +kernel
theorem dksJ6_unlinkFirst_1 : cJ6_unlinkFirst.data.toList.drop 22 = dktJ6_unlinkFirst_1 := dk_seg dksJ6_unlinkFirst_0 22 rfl rfl
theorem dksJ6_unlinkFirst_2 : cJ6_unlinkFirst.data.toList.drop 44 = dktJ6_unlinkFirst_2 := dk_seg dksJ6_unlinkFirst_1 22 rfl rfl
theorem dJ6_unlinkFirst_0 : decode cJ6_unlinkFirst 0 = .ok (.aload_n 1, 1) := dk_43 (dk_at dksJ6_unlinkFirst_0 0 rfl rfl)
theorem dJ6_unlinkFirst_1 : decode cJ6_unlinkFirst 1 = .ok (.getfield 39, 3) := dk_180 0 39 (dk_at dksJ6_unlinkFirst_0 1 rfl rfl)
theorem dJ6_unlinkFirst_4 : decode cJ6_unlinkFirst 4 = .ok (.astore_n 2, 1) := dk_77 (dk_at dksJ6_unlinkFirst_0 4 rfl rfl)
theorem dJ6_unlinkFirst_5 : decode cJ6_unlinkFirst 5 = .ok (.aload_n 1, 1) := dk_43 (dk_at dksJ6_unlinkFirst_0 5 rfl rfl)
theorem dJ6_unlinkFirst_6 : decode cJ6_unlinkFirst 6 = .ok (.getfield 36, 3) := dk_180 0 36 (dk_at dksJ6_unlinkFirst_0 6 rfl rfl)
theorem dJ6_unlinkFirst_9 : decode cJ6_unlinkFirst 9 = .ok (.astore_n 3, 1) := dk_78 (dk_at dksJ6_unlinkFirst_0 9 rfl rfl)
theorem dJ6_unlinkFirst_10 : decode cJ6_unlinkFirst 10 = .ok (.aload_n 1, 1) := dk_43 (dk_at dksJ6_unlinkFirst_0 10 rfl rfl)
theorem dJ6_unlinkFirst_11 : decode cJ6_unlinkFirst 11 = .ok (.aconst_null, 1) := dk_1 (dk_at dksJ6_unlinkFirst_0 11 rfl rfl)
theorem dJ6_unlinkFirst_12 : decode cJ6_unlinkFirst 12 = .ok (.putfield 39, 3) := dk_181 0 39 (dk_at dksJ6_unlinkFirst_0 12 rfl rfl)
theorem dJ6_unlinkFirst_15 : decode cJ6_unlinkFirst 15 = .ok (.aload_n 1, 1) := dk_43 (dk_at dksJ6_unlinkFirst_0 15 rfl rfl)
theorem dJ6_unlinkFirst_16 : decode cJ6_unlinkFirst 16 = .ok (.aconst_null, 1) := dk_1 (dk_at dksJ6_unlinkFirst_0 16 rfl rfl)
theorem dJ6_unlinkFirst_17 : decode cJ6_unlinkFirst 17 = .ok (.putfield 36, 3) := dk_181 0 36 (dk_at dksJ6_unlinkFirst_0 17 rfl rfl)
theorem dJ6_unlinkFirst_20 : decode cJ6_unlinkFirst 20 = .ok (.aload_n 0, 1) := dk_42 (dk_at dksJ6_unlinkFirst_0 20 rfl rfl)
theorem dJ6_unlinkFirst_21 : decode cJ6_unlinkFirst 21 = .ok (.aload_n 3, 1) := dk_45 (dk_at dksJ6_unlinkFirst_0 21 rfl rfl)
theorem dJ6_unlinkFirst_22 : decode cJ6_unlinkFirst 22 = .ok (.putfield 18, 3) := dk_181 0 18 (dk_at dksJ6_unlinkFirst_1 0 rfl rfl)
theorem dJ6_unlinkFirst_25 : decode cJ6_unlinkFirst 25 = .ok (.aload_n 3, 1) := dk_45 (dk_at dksJ6_unlinkFirst_1 3 rfl rfl)
theorem dJ6_unlinkFirst_26 : decode cJ6_unlinkFirst 26 = .ok (.ifnonnull 11, 3) := dk_199 0 11 (dk_at dksJ6_unlinkFirst_1 4 rfl rfl)
theorem dJ6_unlinkFirst_29 : decode cJ6_unlinkFirst 29 = .ok (.aload_n 0, 1) := dk_42 (dk_at dksJ6_unlinkFirst_1 7 rfl rfl)
theorem dJ6_unlinkFirst_30 : decode cJ6_unlinkFirst 30 = .ok (.aconst_null, 1) := dk_1 (dk_at dksJ6_unlinkFirst_1 8 rfl rfl)
theorem dJ6_unlinkFirst_31 : decode cJ6_unlinkFirst 31 = .ok (.putfield 27, 3) := dk_181 0 27 (dk_at dksJ6_unlinkFirst_1 9 rfl rfl)
theorem dJ6_unlinkFirst_34 : decode cJ6_unlinkFirst 34 = .ok (.goto 8, 3) := dk_167 0 8 (dk_at dksJ6_unlinkFirst_1 12 rfl rfl)
theorem dJ6_unlinkFirst_37 : decode cJ6_unlinkFirst 37 = .ok (.aload_n 3, 1) := dk_45 (dk_at dksJ6_unlinkFirst_1 15 rfl rfl)
theorem dJ6_unlinkFirst_38 : decode cJ6_unlinkFirst 38 = .ok (.aconst_null, 1) := dk_1 (dk_at dksJ6_unlinkFirst_1 16 rfl rfl)
theorem dJ6_unlinkFirst_39 : decode cJ6_unlinkFirst 39 = .ok (.putfield 30, 3) := dk_181 0 30 (dk_at dksJ6_unlinkFirst_1 17 rfl rfl)
theorem dJ6_unlinkFirst_42 : decode cJ6_unlinkFirst 42 = .ok (.aload_n 0, 1) := dk_42 (dk_at dksJ6_unlinkFirst_1 20 rfl rfl)
theorem dJ6_unlinkFirst_43 : decode cJ6_unlinkFirst 43 = .ok (.dup, 1) := dk_89 (dk_at dksJ6_unlinkFirst_1 21 rfl rfl)
theorem dJ6_unlinkFirst_44 : decode cJ6_unlinkFirst 44 = .ok (.getfield 7, 3) := dk_180 0 7 (dk_at dksJ6_unlinkFirst_2 0 rfl rfl)
theorem dJ6_unlinkFirst_47 : decode cJ6_unlinkFirst 47 = .ok (.iconst 1, 1) := dk_4 (dk_at dksJ6_unlinkFirst_2 3 rfl rfl)
theorem dJ6_unlinkFirst_48 : decode cJ6_unlinkFirst 48 = .ok (.isub, 1) := dk_100 (dk_at dksJ6_unlinkFirst_2 4 rfl rfl)
theorem dJ6_unlinkFirst_49 : decode cJ6_unlinkFirst 49 = .ok (.putfield 7, 3) := dk_181 0 7 (dk_at dksJ6_unlinkFirst_2 5 rfl rfl)
theorem dJ6_unlinkFirst_52 : decode cJ6_unlinkFirst 52 = .ok (.aload_n 0, 1) := dk_42 (dk_at dksJ6_unlinkFirst_2 8 rfl rfl)
theorem dJ6_unlinkFirst_53 : decode cJ6_unlinkFirst 53 = .ok (.dup, 1) := dk_89 (dk_at dksJ6_unlinkFirst_2 9 rfl rfl)
theorem dJ6_unlinkFirst_54 : decode cJ6_unlinkFirst 54 = .ok (.getfield 33, 3) := dk_180 0 33 (dk_at dksJ6_unlinkFirst_2 10 rfl rfl)
theorem dJ6_unlinkFirst_57 : decode cJ6_unlinkFirst 57 = .ok (.iconst 1, 1) := dk_4 (dk_at dksJ6_unlinkFirst_2 13 rfl rfl)
theorem dJ6_unlinkFirst_58 : decode cJ6_unlinkFirst 58 = .ok (.iadd, 1) := dk_96 (dk_at dksJ6_unlinkFirst_2 14 rfl rfl)
theorem dJ6_unlinkFirst_59 : decode cJ6_unlinkFirst 59 = .ok (.putfield 33, 3) := dk_181 0 33 (dk_at dksJ6_unlinkFirst_2 15 rfl rfl)
theorem dJ6_unlinkFirst_62 : decode cJ6_unlinkFirst 62 = .ok (.aload_n 2, 1) := dk_44 (dk_at dksJ6_unlinkFirst_2 18 rfl rfl)
theorem dJ6_unlinkFirst_63 : decode cJ6_unlinkFirst 63 = .ok (.areturn, 1) := dk_176 (dk_at dksJ6_unlinkFirst_2 19 rfl rfl)
def dkwJ6_addLast_0 : List UInt8 := [42, 43, 182, 0, 57, 177]
abbrev dktJ6_addLast_0 : List UInt8 := dkwJ6_addLast_0 ++ []
theorem dksJ6_addLast_0 : cJ6_addLast.data.toList.drop 0 = dktJ6_addLast_0 := by decide +kernel
theorem dJ6_addLast_0 : decode cJ6_addLast 0 = .ok (.aload_n 0, 1) := dk_42 (dk_at dksJ6_addLast_0 0 rfl rfl)
theorem dJ6_addLast_1 : decode cJ6_addLast 1 = .ok (.aload_n 1, 1) := dk_43 (dk_at dksJ6_addLast_0 1 rfl rfl)
theorem dJ6_addLast_2 : decode cJ6_addLast 2 = .ok (.invokevirtual 57, 3) := dk_182 0 57 (dk_at dksJ6_addLast_0 2 rfl rfl)
theorem dJ6_addLast_5 : decode cJ6_addLast 5 = .ok (.return_, 1) := dk_177 (dk_at dksJ6_addLast_0 5 rfl rfl)
def dkwJ7_length_0 : List UInt8 := [42, 180, 0, 9, 190, 42, 182, 1, 79, 122, 172]
abbrev dktJ7_length_0 : List UInt8 := dkwJ7_length_0 ++ []
theorem dksJ7_length_0 : cJ7_length.data.toList.drop 0 = dktJ7_length_0 := by decide +kernel
theorem dJ7_length_0 : decode cJ7_length 0 = .ok (.aload_n 0, 1) := dk_42 (dk_at dksJ7_length_0 0 rfl rfl)
theorem dJ7_length_1 : decode cJ7_length 1 = .ok (.getfield 9, 3) := dk_180 0 9 (dk_at dksJ7_length_0 1 rfl rfl)
theorem dJ7_length_4 : decode cJ7_length 4 = .ok (.arraylength, 1) := dk_190 (dk_at dksJ7_length_0 4 rfl rfl)
theorem dJ7_length_5 : decode cJ7_length 5 = .ok (.aload_n 0, 1) := dk_42 (dk_at dksJ7_length_0 5 rfl rfl)
theorem dJ7_length_6 : decode cJ7_length 6 = .ok (.invokevirtual 335, 3) := dk_182 1 79 (dk_at dksJ7_length_0 6 rfl rfl)
theorem dJ7_length_9 : decode cJ7_length 9 = .ok (.ishr, 1) := dk_122 (dk_at dksJ7_length_0 9 rfl rfl)
theorem dJ7_length_10 : decode cJ7_length 10 = .ok (.ireturn, 1) := dk_172 (dk_at dksJ7_length_0 10 rfl rfl)
def dkwJ7_coder_0 : List UInt8 := [178, 0, 38, 153, 0, 10, 42, 180, 0, 15, 167, 0, 4, 4, 172]
abbrev dktJ7_coder_0 : List UInt8 := dkwJ7_coder_0 ++ []
theorem dksJ7_coder_0 : cJ7_coder.data.toList.drop 0 = dktJ7_coder_0 := by decide +kernel
theorem dJ7_coder_0 : decode cJ7_coder 0 = .ok (.getstatic 38, 3) := dk_178 0 38 (dk_at dksJ7_coder_0 0 rfl rfl)
theorem dJ7_coder_3 : decode cJ7_coder 3 = .ok (.ifCond .eq 10, 3) := dk_153 0 10 (dk_at dksJ7_coder_0 3 rfl rfl)
theorem dJ7_coder_6 : decode cJ7_coder 6 = .ok (.aload_n 0, 1) := dk_42 (dk_at dksJ7_coder_0 6 rfl rfl)
theorem dJ7_coder_7 : decode cJ7_coder 7 = .ok (.getfield 15, 3) := dk_180 0 15 (dk_at dksJ7_coder_0 7 rfl rfl)
theorem dJ7_coder_10 : decode cJ7_coder 10 = .ok (.goto 4, 3) := dk_167 0 4 (dk_at dksJ7_coder_0 10 rfl rfl)
theorem dJ7_coder_13 : decode cJ7_coder 13 = .ok (.iconst 1, 1) := dk_4 (dk_at dksJ7_coder_0 13 rfl rfl)
theorem dJ7_coder_14 : decode cJ7_coder 14 = .ok (.ireturn, 1) := dk_172 (dk_at dksJ7_coder_0 14 rfl rfl)
def dkwJ7_indexOf_0 : List UInt8 := [42, 27, 3, 182, 2, 121, 172]
abbrev dktJ7_indexOf_0 : List UInt8 := dkwJ7_indexOf_0 ++ []
theorem dksJ7_indexOf_0 : cJ7_indexOf.data.toList.drop 0 = dktJ7_indexOf_0 := by decide +kernel
theorem dJ7_indexOf_0 : decode cJ7_indexOf 0 = .ok (.aload_n 0, 1) := dk_42 (dk_at dksJ7_indexOf_0 0 rfl rfl)
theorem dJ7_indexOf_1 : decode cJ7_indexOf 1 = .ok (.iload_n 1, 1) := dk_27 (dk_at dksJ7_indexOf_0 1 rfl rfl)
theorem dJ7_indexOf_2 : decode cJ7_indexOf 2 = .ok (.iconst 0, 1) := dk_3 (dk_at dksJ7_indexOf_0 2 rfl rfl)
theorem dJ7_indexOf_3 : decode cJ7_indexOf 3 = .ok (.invokevirtual 633, 3) := dk_182 2 121 (dk_at dksJ7_indexOf_0 3 rfl rfl)
theorem dJ7_indexOf_6 : decode cJ7_indexOf 6 = .ok (.ireturn, 1) := dk_172 (dk_at dksJ7_indexOf_0 6 rfl rfl)
def dkwJ7_indexOf_2_1 : List UInt8 := [180, 0, 9, 27, 28, 42, 182, 1, 249, 184, 2, 128, 172]
abbrev dktJ7_indexOf_2_1 : List UInt8 := dkwJ7_indexOf_2_1 ++ []
def dkwJ7_indexOf_2_0 : List UInt8 := [42, 182, 1, 236, 153, 0, 19, 42, 180, 0, 9, 27, 28, 42, 182, 1, 249, 184, 2, 125, 167, 0, 16, 42]
abbrev dktJ7_indexOf_2_0 : List UInt8 := dkwJ7_indexOf_2_0 ++ dktJ7_indexOf_2_1
theorem dksJ7_indexOf_2_0 : cJ7_indexOf_2.data.toList.drop 0 = dktJ7_indexOf_2_0 := by decide +kernel
theorem dksJ7_indexOf_2_1 : cJ7_indexOf_2.data.toList.drop 24 = dktJ7_indexOf_2_1 := dk_seg dksJ7_indexOf_2_0 24 rfl rfl
theorem dJ7_indexOf_2_0 : decode cJ7_indexOf_2 0 = .ok (.aload_n 0, 1) := dk_42 (dk_at dksJ7_indexOf_2_0 0 rfl rfl)
theorem dJ7_indexOf_2_1 : decode cJ7_indexOf_2 1 = .ok (.invokevirtual 492, 3) := dk_182 1 236 (dk_at dksJ7_indexOf_2_0 1 rfl rfl)
theorem dJ7_indexOf_2_4 : decode cJ7_indexOf_2 4 = .ok (.ifCond .eq 19, 3) := dk_153 0 19 (dk_at dksJ7_indexOf_2_0 4 rfl rfl)
theorem dJ7_indexOf_2_7 : decode cJ7_indexOf_2 7 = .ok (.aload_n 0, 1) := dk_42 (dk_at dksJ7_indexOf_2_0 7 rfl rfl)
theorem dJ7_indexOf_2_8 : decode cJ7_indexOf_2 8 = .ok (.getfield 9, 3) := dk_180 0 9 (dk_at dksJ7_indexOf_2_0 8 rfl rfl)
theorem dJ7_indexOf_2_11 : decode cJ7_indexOf_2 11 = .ok (.iload_n 1, 1) := dk_27 (dk_at dksJ7_indexOf_2_0 11 rfl rfl)
theorem dJ7_indexOf_2_12 : decode cJ7_indexOf_2 12 = .ok (.iload_n 2, 1) := dk_28 (dk_at dksJ7_indexOf_2_0 12 rfl rfl)
theorem dJ7_indexOf_2_13 : decode cJ7_indexOf_2 13 = .ok (.aload_n 0, 1) := dk_42 (dk_at dksJ7_indexOf_2_0 13 rfl rfl)
theorem dJ7_indexOf_2_14 : decode cJ7_indexOf_2 14 = .ok (.invokevirtual 505, 3) := dk_182 1 249 (dk_at dksJ7_indexOf_2_0 14 rfl rfl)
theorem dJ7_indexOf_2_17 : decode cJ7_indexOf_2 17 = .ok (.invokestatic 637, 3) := dk_184 2 125 (dk_at dksJ7_indexOf_2_0 17 rfl rfl)
theorem dJ7_indexOf_2_20 : decode cJ7_indexOf_2 20 = .ok (.goto 16, 3) := dk_167 0 16 (dk_at dksJ7_indexOf_2_0 20 rfl rfl)
theorem dJ7_indexOf_2_23 : decode cJ7_indexOf_2 23 = .ok (.aload_n 0, 1) := dk_42 (dk_at dksJ7_indexOf_2_0 23 rfl rfl)
theorem dJ7_indexOf_2_24 : decode cJ7_indexOf_2 24 = .ok (.getfield 9, 3) := dk_180 0 9 (dk_at dksJ7_indexOf_2_1 0 rfl rfl)
theorem dJ7_indexOf_2_27 : decode cJ7_indexOf_2 27 = .ok (.iload_n 1, 1) := dk_27 (dk_at dksJ7_indexOf_2_1 3 rfl rfl)
theorem dJ7_indexOf_2_28 : decode cJ7_indexOf_2 28 = .ok (.iload_n 2, 1) := dk_28 (dk_at dksJ7_indexOf_2_1 4 rfl rfl)
theorem dJ7_indexOf_2_29 : decode cJ7_indexOf_2 29 = .ok (.aload_n 0, 1) := dk_42 (dk_at dksJ7_indexOf_2_1 5 rfl rfl)
theorem dJ7_indexOf_2_30 : decode cJ7_indexOf_2 30 = .ok (.invokevirtual 505, 3) := dk_182 1 249 (dk_at dksJ7_indexOf_2_1 6 rfl rfl)
theorem dJ7_indexOf_2_33 : decode cJ7_indexOf_2 33 = .ok (.invokestatic 640, 3) := dk_184 2 128 (dk_at dksJ7_indexOf_2_1 9 rfl rfl)
theorem dJ7_indexOf_2_36 : decode cJ7_indexOf_2 36 = .ok (.ireturn, 1) := dk_172 (dk_at dksJ7_indexOf_2_1 12 rfl rfl)
def dkwJ7_isLatin1_0 : List UInt8 := [178, 0, 38, 153, 0, 14, 42, 180, 0, 15, 154, 0, 7, 4, 167, 0, 4, 3, 172]
abbrev dktJ7_isLatin1_0 : List UInt8 := dkwJ7_isLatin1_0 ++ []
theorem dksJ7_isLatin1_0 : cJ7_isLatin1.data.toList.drop 0 = dktJ7_isLatin1_0 := by decide +kernel
theorem dJ7_isLatin1_0 : decode cJ7_isLatin1 0 = .ok (.getstatic 38, 3) := dk_178 0 38 (dk_at dksJ7_isLatin1_0 0 rfl rfl)
theorem dJ7_isLatin1_3 : decode cJ7_isLatin1 3 = .ok (.ifCond .eq 14, 3) := dk_153 0 14 (dk_at dksJ7_isLatin1_0 3 rfl rfl)
theorem dJ7_isLatin1_6 : decode cJ7_isLatin1 6 = .ok (.aload_n 0, 1) := dk_42 (dk_at dksJ7_isLatin1_0 6 rfl rfl)
theorem dJ7_isLatin1_7 : decode cJ7_isLatin1 7 = .ok (.getfield 15, 3) := dk_180 0 15 (dk_at dksJ7_isLatin1_0 7 rfl rfl)
theorem dJ7_isLatin1_10 : decode cJ7_isLatin1 10 = .ok (.ifCond .ne 7, 3) := dk_154 0 7 (dk_at dksJ7_isLatin1_0 10 rfl rfl)
theorem dJ7_isLatin1_13 : decode cJ7_isLatin1 13 = .ok (.iconst 1, 1) := dk_4 (dk_at dksJ7_isLatin1_0 13 rfl rfl)
theorem dJ7_isLatin1_14 : decode cJ7_isLatin1 14 = .ok (.goto 4, 3) := dk_167 0 4 (dk_at dksJ7_isLatin1_0 14 rfl rfl)
theorem dJ7_isLatin1_17 : decode cJ7_isLatin1 17 = .ok (.iconst 0, 1) := dk_3 (dk_at dksJ7_isLatin1_0 17 rfl rfl)
theorem dJ7_isLatin1_18 : decode cJ7_isLatin1 18 = .ok (.ireturn, 1) := dk_172 (dk_at dksJ7_isLatin1_0 18 rfl rfl)
def dkwJ16_max_0 : List UInt8 := [26, 27, 161, 0, 7, 26, 167, 0, 4, 27, 172]
abbrev dktJ16_max_0 : List UInt8 := dkwJ16_max_0 ++ []
theorem dksJ16_max_0 : cJ16_max.data.toList.drop 0 = dktJ16_max_0 := by decide +kernel
theorem dJ16_max_0 : decode cJ16_max 0 = .ok (.iload_n 0, 1) := dk_26 (dk_at dksJ16_max_0 0 rfl rfl)
theorem dJ16_max_1 : decode cJ16_max 1 = .ok (.iload_n 1, 1) := dk_27 (dk_at dksJ16_max_0 1 rfl rfl)
theorem dJ16_max_2 : decode cJ16_max 2 = .ok (.if_icmp .lt 7, 3) := dk_161 0 7 (dk_at dksJ16_max_0 2 rfl rfl)
theorem dJ16_max_5 : decode cJ16_max 5 = .ok (.iload_n 0, 1) := dk_26 (dk_at dksJ16_max_0 5 rfl rfl)
theorem dJ16_max_6 : decode cJ16_max 6 = .ok (.goto 4, 3) := dk_167 0 4 (dk_at dksJ16_max_0 6 rfl rfl)
theorem dJ16_max_9 : decode cJ16_max 9 = .ok (.iload_n 1, 1) := dk_27 (dk_at dksJ16_max_0 9 rfl rfl)
theorem dJ16_max_10 : decode cJ16_max 10 = .ok (.ireturn, 1) := dk_172 (dk_at dksJ16_max_0 10 rfl rfl)
def dkwJ16_min_0 : List UInt8 := [26, 27, 163, 0, 7, 26, 167, 0, 4, 27, 172]
abbrev dktJ16_min_0 : List UInt8 := dkwJ16_min_0 ++ []
theorem dksJ16_min_0 : cJ16_min.data.toList.drop 0 = dktJ16_min_0 := by decide +kernel
theorem dJ16_min_0 : decode cJ16_min 0 = .ok (.iload_n 0, 1) := dk_26 (dk_at dksJ16_min_0 0 rfl rfl)
theorem dJ16_min_1 : decode cJ16_min 1 = .ok (.iload_n 1, 1) := dk_27 (dk_at dksJ16_min_0 1 rfl rfl)
theorem dJ16_min_2 : decode cJ16_min 2 = .ok (.if_icmp .gt 7, 3) := dk_163 0 7 (dk_at dksJ16_min_0 2 rfl rfl)
theorem dJ16_min_5 : decode cJ16_min 5 = .ok (.iload_n 0, 1) := dk_26 (dk_at dksJ16_min_0 5 rfl rfl)
theorem dJ16_min_6 : decode cJ16_min 6 = .ok (.goto 4, 3) := dk_167 0 4 (dk_at dksJ16_min_0 6 rfl rfl)
theorem dJ16_min_9 : decode cJ16_min 9 = .ok (.iload_n 1, 1) := dk_27 (dk_at dksJ16_min_0 9 rfl rfl)
theorem dJ16_min_10 : decode cJ16_min 10 = .ok (.ireturn, 1) := dk_172 (dk_at dksJ16_min_0 10 rfl rfl)
def dkwJ17_copyOf_2_1 : List UInt8 := [27, 184, 1, 48, 184, 0, 150, 44, 176]
abbrev dktJ17_copyOf_2_1 : List UInt8 := dkwJ17_copyOf_2_1 ++ []
def dkwJ17_copyOf_2_0 : List UInt8 := [27, 42, 190, 160, 0, 11, 42, 182, 1, 63, 192, 1, 64, 176, 27, 188, 11, 77, 42, 3, 44, 3, 42, 190]
abbrev dktJ17_copyOf_2_0 : List UInt8 := dkwJ17_copyOf_2_0 ++ dktJ17_copyOf_2_1
theorem dksJ17_copyOf_2_0 : cJ17_copyOf_2.data.toList.drop 0 = dktJ17_copyOf_2_0 := by decide +kernel
theorem dksJ17_copyOf_2_1 : cJ17_copyOf_2.data.toList.drop 24 = dktJ17_copyOf_2_1 := dk_seg dksJ17_copyOf_2_0 24 rfl rfl
theorem dJ17_copyOf_2_0 : decode cJ17_copyOf_2 0 = .ok (.iload_n 1, 1) := dk_27 (dk_at dksJ17_copyOf_2_0 0 rfl rfl)
theorem dJ17_copyOf_2_1 : decode cJ17_copyOf_2 1 = .ok (.aload_n 0, 1) := dk_42 (dk_at dksJ17_copyOf_2_0 1 rfl rfl)
theorem dJ17_copyOf_2_2 : decode cJ17_copyOf_2 2 = .ok (.arraylength, 1) := dk_190 (dk_at dksJ17_copyOf_2_0 2 rfl rfl)
theorem dJ17_copyOf_2_3 : decode cJ17_copyOf_2 3 = .ok (.if_icmp .ne 11, 3) := dk_160 0 11 (dk_at dksJ17_copyOf_2_0 3 rfl rfl)
theorem dJ17_copyOf_2_6 : decode cJ17_copyOf_2 6 = .ok (.aload_n 0, 1) := dk_42 (dk_at dksJ17_copyOf_2_0 6 rfl rfl)
theorem dJ17_copyOf_2_7 : decode cJ17_copyOf_2 7 = .ok (.invokevirtual 319, 3) := dk_182 1 63 (dk_at dksJ17_copyOf_2_0 7 rfl rfl)
theorem dJ17_copyOf_2_10 : decode cJ17_copyOf_2 10 = .ok (.checkcast 320, 3) := dk_192 1 64 (dk_at dksJ17_copyOf_2_0 10 rfl rfl)
theorem dJ17_copyOf_2_13 : decode cJ17_copyOf_2 13 = .ok (.areturn, 1) := dk_176 (dk_at dksJ17_copyOf_2_0 13 rfl rfl)
theorem dJ17_copyOf_2_14 : decode cJ17_copyOf_2 14 = .ok (.iload_n 1, 1) := dk_27 (dk_at dksJ17_copyOf_2_0 14 rfl rfl)
theorem dJ17_copyOf_2_15 : decode cJ17_copyOf_2 15 = .ok (.newarray .long, 2) := dk_188_11 (dk_at dksJ17_copyOf_2_0 15 rfl rfl)
theorem dJ17_copyOf_2_17 : decode cJ17_copyOf_2 17 = .ok (.astore_n 2, 1) := dk_77 (dk_at dksJ17_copyOf_2_0 17 rfl rfl)
theorem dJ17_copyOf_2_18 : decode cJ17_copyOf_2 18 = .ok (.aload_n 0, 1) := dk_42 (dk_at dksJ17_copyOf_2_0 18 rfl rfl)
theorem dJ17_copyOf_2_19 : decode cJ17_copyOf_2 19 = .ok (.iconst 0, 1) := dk_3 (dk_at dksJ17_copyOf_2_0 19 rfl rfl)
theorem dJ17_copyOf_2_20 : decode cJ17_copyOf_2 20 = .ok (.aload_n 2, 1) := dk_44 (dk_at dksJ17_copyOf_2_0 20 rfl rfl)
theorem dJ17_copyOf_2_21 : decode cJ17_copyOf_2 21 = .ok (.iconst 0, 1) := dk_3 (dk_at dksJ17_copyOf_2_0 21 rfl rfl)
theorem dJ17_copyOf_2_22 : decode cJ17_copyOf_2 22 = .ok (.aload_n 0, 1) := dk_42 (dk_at dksJ17_copyOf_2_0 22 rfl rfl)
theorem dJ17_copyOf_2_23 : decode cJ17_copyOf_2 23 = .ok (.arraylength, 1) := dk_190 (dk_at dksJ17_copyOf_2_0 23 rfl rfl)
theorem dJ17_copyOf_2_24 : decode cJ17_copyOf_2 24 = .ok (.iload_n 1, 1) := dk_27 (dk_at dksJ17_copyOf_2_1 0 rfl rfl)
theorem dJ17_copyOf_2_25 : decode cJ17_copyOf_2 25 = .ok (.invokestatic 304, 3) := dk_184 1 48 (dk_at dksJ17_copyOf_2_1 1 rfl rfl)
theorem dJ17_copyOf_2_28 : decode cJ17_copyOf_2 28 = .ok (.invokestatic 150, 3) := dk_184 0 150 (dk_at dksJ17_copyOf_2_1 4 rfl rfl)
theorem dJ17_copyOf_2_31 : decode cJ17_copyOf_2 31 = .ok (.aload_n 2, 1) := dk_44 (dk_at dksJ17_copyOf_2_1 7 rfl rfl)
theorem dJ17_copyOf_2_32 : decode cJ17_copyOf_2 32 = .ok (.areturn, 1) := dk_176 (dk_at dksJ17_copyOf_2_1 8 rfl rfl)
def dkwJ17_copyOf_3_0 : List UInt8 := [42, 27, 42, 182, 0, 86, 184, 1, 44, 176]
abbrev dktJ17_copyOf_3_0 : List UInt8 := dkwJ17_copyOf_3_0 ++ []
theorem dksJ17_copyOf_3_0 : cJ17_copyOf_3.data.toList.drop 0 = dktJ17_copyOf_3_0 := by decide +kernel
theorem dJ17_copyOf_3_0 : decode cJ17_copyOf_3 0 = .ok (.aload_n 0, 1) := dk_42 (dk_at dksJ17_copyOf_3_0 0 rfl rfl)
theorem dJ17_copyOf_3_1 : decode cJ17_copyOf_3 1 = .ok (.iload_n 1, 1) := dk_27 (dk_at dksJ17_copyOf_3_0 1 rfl rfl)
theorem dJ17_copyOf_3_2 : decode cJ17_copyOf_3 2 = .ok (.aload_n 0, 1) := dk_42 (dk_at dksJ17_copyOf_3_0 2 rfl rfl)
theorem dJ17_copyOf_3_3 : decode cJ17_copyOf_3 3 = .ok (.invokevirtual 86, 3) := dk_182 0 86 (dk_at dksJ17_copyOf_3_0 3 rfl rfl)
theorem dJ17_copyOf_3_6 : decode cJ17_copyOf_3 6 = .ok (.invokestatic 300, 3) := dk_184 1 44 (dk_at dksJ17_copyOf_3_0 6 rfl rfl)
theorem dJ17_copyOf_3_9 : decode cJ17_copyOf_3 9 = .ok (.areturn, 1) := dk_176 (dk_at dksJ17_copyOf_3_0 9 rfl rfl)
def dkwJ17_copyOf_4_1 : List UInt8 := [78, 42, 3, 45, 3, 42, 190, 27, 184, 1, 48, 184, 0, 150, 45, 176]
abbrev dktJ17_copyOf_4_1 : List UInt8 := dkwJ17_copyOf_4_1 ++ []
def dkwJ17_copyOf_4_0 : List UInt8 := [44, 18, 110, 166, 0, 10, 27, 189, 0, 2, 167, 0, 14, 44, 182, 0, 90, 27, 184, 0, 95, 192, 0, 110]
abbrev dktJ17_copyOf_4_0 : List UInt8 := dkwJ17_copyOf_4_0 ++ dktJ17_copyOf_4_1
theorem dksJ17_copyOf_4_0 : cJ17_copyOf_4.data.toList.drop 0 = dktJ17_copyOf_4_0 := by decide +kernel
theorem dksJ17_copyOf_4_1 : cJ17_copyOf_4.data.toList.drop 24 = dktJ17_copyOf_4_1 := dk_seg dksJ17_copyOf_4_0 24 rfl rfl
theorem dJ17_copyOf_4_0 : decode cJ17_copyOf_4 0 = .ok (.aload_n 2, 1) := dk_44 (dk_at dksJ17_copyOf_4_0 0 rfl rfl)
theorem dJ17_copyOf_4_1 : decode cJ17_copyOf_4 1 = .ok (.ldc 110, 2) := dk_18 110 (dk_at dksJ17_copyOf_4_0 1 rfl rfl)
theorem dJ17_copyOf_4_3 : decode cJ17_copyOf_4 3 = .ok (.if_acmp .ne 10, 3) := dk_166 0 10 (dk_at dksJ17_copyOf_4_0 3 rfl rfl)
theorem dJ17_copyOf_4_6 : decode cJ17_copyOf_4 6 = .ok (.iload_n 1, 1) := dk_27 (dk_at dksJ17_copyOf_4_0 6 rfl rfl)
theorem dJ17_copyOf_4_7 : decode cJ17_copyOf_4 7 = .ok (.anewarray 2, 3) := dk_189 0 2 (dk_at dksJ17_copyOf_4_0 7 rfl rfl)
theorem dJ17_copyOf_4_10 : decode cJ17_copyOf_4 10 = .ok (.goto 14, 3) := dk_167 0 14 (dk_at dksJ17_copyOf_4_0 10 rfl rfl)
theorem dJ17_copyOf_4_13 : decode cJ17_copyOf_4 13 = .ok (.aload_n 2, 1) := dk_44 (dk_at dksJ17_copyOf_4_0 13 rfl rfl)
theorem dJ17_copyOf_4_14 : decode cJ17_copyOf_4 14 = .ok (.invokevirtual 90, 3) := dk_182 0 90 (dk_at dksJ17_copyOf_4_0 14 rfl rfl)
theorem dJ17_copyOf_4_17 : decode cJ17_copyOf_4 17 = .ok (.iload_n 1, 1) := dk_27 (dk_at dksJ17_copyOf_4_0 17 rfl rfl)
theorem dJ17_copyOf_4_18 : decode cJ17_copyOf_4 18 = .ok (.invokestatic 95, 3) := dk_184 0 95 (dk_at dksJ17_copyOf_4_0 18 rfl rfl)
theorem dJ17_copyOf_4_21 : decode cJ17_copyOf_4 21 = .ok (.checkcast 110, 3) := dk_192 0 110 (dk_at dksJ17_copyOf_4_0 21 rfl rfl)
theorem dJ17_copyOf_4_24 : decode cJ17_copyOf_4 24 = .ok (.astore_n 3, 1) := dk_78 (dk_at dksJ17_copyOf_4_1 0 rfl rfl)
theorem dJ17_copyOf_4_25 : decode cJ17_copyOf_4 25 = .ok (.aload_n 0, 1) := dk_42 (dk_at dksJ17_copyOf_4_1 1 rfl rfl)
theorem dJ17_copyOf_4_26 : decode cJ17_copyOf_4 26 = .ok (.iconst 0, 1) := dk_3 (dk_at dksJ17_copyOf_4_1 2 rfl rfl)
theorem dJ17_copyOf_4_27 : decode cJ17_copyOf_4 27 = .ok (.aload_n 3, 1) := dk_45 (dk_at dksJ17_copyOf_4_1 3 rfl rfl)
theorem dJ17_copyOf_4_28 : decode cJ17_copyOf_4 28 = .ok (.iconst 0, 1) := dk_3 (dk_at dksJ17_copyOf_4_1 4 rfl rfl)
theorem dJ17_copyOf_4_29 : decode cJ17_copyOf_4 29 = .ok (.aload_n 0, 1) := dk_42 (dk_at dksJ17_copyOf_4_1 5 rfl rfl)
theorem dJ17_copyOf_4_30 : decode cJ17_copyOf_4 30 = .ok (.arraylength, 1) := dk_190 (dk_at dksJ17_copyOf_4_1 6 rfl rfl)
theorem dJ17_copyOf_4_31 : decode cJ17_copyOf_4 31 = .ok (.iload_n 1, 1) := dk_27 (dk_at dksJ17_copyOf_4_1 7 rfl rfl)
theorem dJ17_copyOf_4_32 : decode cJ17_copyOf_4 32 = .ok (.invokestatic 304, 3) := dk_184 1 48 (dk_at dksJ17_copyOf_4_1 8 rfl rfl)
theorem dJ17_copyOf_4_35 : decode cJ17_copyOf_4 35 = .ok (.invokestatic 150, 3) := dk_184 0 150 (dk_at dksJ17_copyOf_4_1 11 rfl rfl)
theorem dJ17_copyOf_4_38 : decode cJ17_copyOf_4 38 = .ok (.aload_n 3, 1) := dk_45 (dk_at dksJ17_copyOf_4_1 14 rfl rfl)
theorem dJ17_copyOf_4_39 : decode cJ17_copyOf_4 39 = .ok (.areturn, 1) := dk_176 (dk_at dksJ17_copyOf_4_1 15 rfl rfl)
def dkwJ19_indexOf_1 : List UInt8 := [161, 0, 5, 2, 172, 42, 27, 28, 29, 184, 0, 95, 172]
abbrev dktJ19_indexOf_1 : List UInt8 := dkwJ19_indexOf_1 ++ []
def dkwJ19_indexOf_0 : List UInt8 := [27, 184, 0, 88, 154, 0, 5, 2, 172, 28, 3, 184, 0, 92, 61, 29, 42, 190, 184, 0, 38, 62, 28, 29]
abbrev dktJ19_indexOf_0 : List UInt8 := dkwJ19_indexOf_0 ++ dktJ19_indexOf_1
theorem dksJ19_indexOf_0 : cJ19_indexOf.data.toList.drop 0 = dktJ19_indexOf_0 := by decide +kernel
theorem dksJ19_indexOf_1 : cJ19_indexOf.data.toList.drop 24 = dktJ19_indexOf_1 := dk_seg dksJ19_indexOf_0 24 rfl rfl
theorem dJ19_indexOf_0 : decode cJ19_indexOf 0 = .ok (.iload_n 1, 1) := dk_27 (dk_at dksJ19_indexOf_0 0 rfl rfl)
theorem dJ19_indexOf_1 : decode cJ19_indexOf 1 = .ok (.invokestatic 88, 3) := dk_184 0 88 (dk_at dksJ19_indexOf_0 1 rfl rfl)
theorem dJ19_indexOf_4 : decode cJ19_indexOf 4 = .ok (.ifCond .ne 5, 3) := dk_154 0 5 (dk_at dksJ19_indexOf_0 4 rfl rfl)
theorem dJ19_indexOf_7 : decode cJ19_indexOf 7 = .ok (.iconst (-1), 1) := dk_2 (dk_at dksJ19_indexOf_0 7 rfl rfl)
theorem dJ19_indexOf_8 : decode cJ19_indexOf 8 = .ok (.ireturn, 1) := dk_172 (dk_at dksJ19_indexOf_0 8 rfl rfl)
theorem dJ19_indexOf_9 : decode cJ19_indexOf 9 = .ok (.iload_n 2, 1) := dk_28 (dk_at dksJ19_indexOf_0 9 rfl rfl)
theorem dJ19_indexOf_10 : decode cJ19_indexOf 10 = .ok (.iconst 0, 1) := dk_3 (dk_at dksJ19_indexOf_0 10 rfl rfl)
theorem dJ19_indexOf_11 : decode cJ19_indexOf 11 = .ok (.invokestatic 92, 3) := dk_184 0 92 (dk_at dksJ19_indexOf_0 11 rfl rfl)
theorem dJ19_indexOf_14 : decode cJ19_indexOf 14 = .ok (.istore_n 2, 1) := dk_61 (dk_at dksJ19_indexOf_0 14 rfl rfl)
theorem dJ19_indexOf_15 : decode cJ19_indexOf 15 = .ok (.iload_n 3, 1) := dk_29 (dk_at dksJ19_indexOf_0 15 rfl rfl)
theorem dJ19_indexOf_16 : decode cJ19_indexOf 16 = .ok (.aload_n 0, 1) := dk_42 (dk_at dksJ19_indexOf_0 16 rfl rfl)
theorem dJ19_indexOf_17 : decode cJ19_indexOf 17 = .ok (.arraylength, 1) := dk_190 (dk_at dksJ19_indexOf_0 17 rfl rfl)
theorem dJ19_indexOf_18 : decode cJ19_indexOf 18 = .ok (.invokestatic 38, 3) := dk_184 0 38 (dk_at dksJ19_indexOf_0 18 rfl rfl)
theorem dJ19_indexOf_21 : decode cJ19_indexOf 21 = .ok (.istore_n 3, 1) := dk_62 (dk_at dksJ19_indexOf_0 21 rfl rfl)
theorem dJ19_indexOf_22 : decode cJ19_indexOf 22 = .ok (.iload_n 2, 1) := dk_28 (dk_at dksJ19_indexOf_0 22 rfl rfl)
theorem dJ19_indexOf_23 : decode cJ19_indexOf 23 = .ok (.iload_n 3, 1) := dk_29 (dk_at dksJ19_indexOf_0 23 rfl rfl)
theorem dJ19_indexOf_24 : decode cJ19_indexOf 24 = .ok (.if_icmp .lt 5, 3) := dk_161 0 5 (dk_at dksJ19_indexOf_1 0 rfl rfl)
theorem dJ19_indexOf_27 : decode cJ19_indexOf 27 = .ok (.iconst (-1), 1) := dk_2 (dk_at dksJ19_indexOf_1 3 rfl rfl)
theorem dJ19_indexOf_28 : decode cJ19_indexOf 28 = .ok (.ireturn, 1) := dk_172 (dk_at dksJ19_indexOf_1 4 rfl rfl)
theorem dJ19_indexOf_29 : decode cJ19_indexOf 29 = .ok (.aload_n 0, 1) := dk_42 (dk_at dksJ19_indexOf_1 5 rfl rfl)
theorem dJ19_indexOf_30 : decode cJ19_indexOf 30 = .ok (.iload_n 1, 1) := dk_27 (dk_at dksJ19_indexOf_1 6 rfl rfl)
theorem dJ19_indexOf_31 : decode cJ19_indexOf 31 = .ok (.iload_n 2, 1) := dk_28 (dk_at dksJ19_indexOf_1 7 rfl rfl)
theorem dJ19_indexOf_32 : decode cJ19_indexOf 32 = .ok (.iload_n 3, 1) := dk_29 (dk_at dksJ19_indexOf_1 8 rfl rfl)
theorem dJ19_indexOf_33 : decode cJ19_indexOf 33 = .ok (.invokestatic 95, 3) := dk_184 0 95 (dk_at dksJ19_indexOf_1 9 rfl rfl)
theorem dJ19_indexOf_36 : decode cJ19_indexOf 36 = .ok (.ireturn, 1) := dk_172 (dk_at dksJ19_indexOf_1 12 rfl rfl)
def dkwJ19_canEncode_0 : List UInt8 := [26, 155, 0, 14, 26, 17, 0, 255, 163, 0, 7, 4, 167, 0, 4, 3, 172]
abbrev dktJ19_canEncode_0 : List UInt8 := dkwJ19_canEncode_0 ++ []
theorem dksJ19_canEncode_0 : cJ19_canEncode.data.toList.drop 0 = dktJ19_canEncode_0 := by decide +kernel
theorem dJ19_canEncode_0 : decode cJ19_canEncode 0 = .ok (.iload_n 0, 1) := dk_26 (dk_at dksJ19_canEncode_0 0 rfl rfl)
theorem dJ19_canEncode_1 : decode cJ19_canEncode 1 = .ok (.ifCond .lt 14, 3) := dk_155 0 14 (dk_at dksJ19_canEncode_0 1 rfl rfl)
theorem dJ19_canEncode_4 : decode cJ19_canEncode 4 = .ok (.iload_n 0, 1) := dk_26 (dk_at dksJ19_canEncode_0 4 rfl rfl)
theorem dJ19_canEncode_5 : decode cJ19_canEncode 5 = .ok (.sipush 255, 3) := dk_17 0 255 (dk_at dksJ19_canEncode_0 5 rfl rfl)
theorem dJ19_canEncode_8 : decode cJ19_canEncode 8 = .ok (.if_icmp .gt 7, 3) := dk_163 0 7 (dk_at dksJ19_canEncode_0 8 rfl rfl)
theorem dJ19_canEncode_11 : decode cJ19_canEncode 11 = .ok (.iconst 1, 1) := dk_4 (dk_at dksJ19_canEncode_0 11 rfl rfl)
theorem dJ19_canEncode_12 : decode cJ19_canEncode 12 = .ok (.goto 4, 3) := dk_167 0 4 (dk_at dksJ19_canEncode_0 12 rfl rfl)
theorem dJ19_canEncode_15 : decode cJ19_canEncode 15 = .ok (.iconst 0, 1) := dk_3 (dk_at dksJ19_canEncode_0 15 rfl rfl)
theorem dJ19_canEncode_16 : decode cJ19_canEncode 16 = .ok (.ireturn, 1) := dk_172 (dk_at dksJ19_canEncode_0 16 rfl rfl)
def dkwJ19_indexOfChar_1 : List UInt8 := [172, 132, 5, 1, 167, 255, 235, 2, 172]
abbrev dktJ19_indexOfChar_1 : List UInt8 := dkwJ19_indexOfChar_1 ++ []
def dkwJ19_indexOfChar_0 : List UInt8 := [27, 145, 54, 4, 28, 54, 5, 21, 5, 29, 162, 0, 21, 42, 21, 5, 51, 21, 4, 160, 0, 6, 21, 5]
abbrev dktJ19_indexOfChar_0 : List UInt8 := dkwJ19_indexOfChar_0 ++ dktJ19_indexOfChar_1
theorem dksJ19_indexOfChar_0 : cJ19_indexOfChar.data.toList.drop 0 = dktJ19_indexOfChar_0 := by decide +kernel
theorem dksJ19_indexOfChar_1 : cJ19_indexOfChar.data.toList.drop 24 = dktJ19_indexOfChar_1 := dk_seg dksJ19_indexOfChar_0 24 rfl rfl
theorem dJ19_indexOfChar_0 : decode cJ19_indexOfChar 0 = .ok (.iload_n 1, 1) := dk_27 (dk_at dksJ19_indexOfChar_0 0 rfl rfl)
theorem dJ19_indexOfChar_1 : decode cJ19_indexOfChar 1 = .ok (.i2b, 1) := dk_145 (dk_at dksJ19_indexOfChar_0 1 rfl rfl)
theorem dJ19_indexOfChar_2 : decode cJ19_indexOfChar 2 = .ok (.istore 4, 2) := dk_54 4 (dk_at dksJ19_indexOfChar_0 2 rfl rfl)
theorem dJ19_indexOfChar_4 : decode cJ19_indexOfChar 4 = .ok (.iload_n 2, 1) := dk_28 (dk_at dksJ19_indexOfChar_0 4 rfl rfl)
theorem dJ19_indexOfChar_5 : decode cJ19_indexOfChar 5 = .ok (.istore 5, 2) := dk_54 5 (dk_at dksJ19_indexOfChar_0 5 rfl rfl)
theorem dJ19_indexOfChar_7 : decode cJ19_indexOfChar 7 = .ok (.iload 5, 2) := dk_21 5 (dk_at dksJ19_indexOfChar_0 7 rfl rfl)
theorem dJ19_indexOfChar_9 : decode cJ19_indexOfChar 9 = .ok (.iload_n 3, 1) := dk_29 (dk_at dksJ19_indexOfChar_0 9 rfl rfl)
theorem dJ19_indexOfChar_10 : decode cJ19_indexOfChar 10 = .ok (.if_icmp .ge 21, 3) := dk_162 0 21 (dk_at dksJ19_indexOfChar_0 10 rfl rfl)
theorem dJ19_indexOfChar_13 : decode cJ19_indexOfChar 13 = .ok (.aload_n 0, 1) := dk_42 (dk_at dksJ19_indexOfChar_0 13 rfl rfl)
theorem dJ19_indexOfChar_14 : decode cJ19_indexOfChar 14 = .ok (.iload 5, 2) := dk_21 5 (dk_at dksJ19_indexOfChar_0 14 rfl rfl)
theorem dJ19_indexOfChar_16 : decode cJ19_indexOfChar 16 = .ok (.baload, 1) := dk_51 (dk_at dksJ19_indexOfChar_0 16 rfl rfl)
theorem dJ19_indexOfChar_17 : decode cJ19_indexOfChar 17 = .ok (.iload 4, 2) := dk_21 4 (dk_at dksJ19_indexOfChar_0 17 rfl rfl)
theorem dJ19_indexOfChar_19 : decode cJ19_indexOfChar 19 = .ok (.if_icmp .ne 6, 3) := dk_160 0 6 (dk_at dksJ19_indexOfChar_0 19 rfl rfl)
theorem dJ19_indexOfChar_22 : decode cJ19_indexOfChar 22 = .ok (.iload 5, 2) := dk_21 5 (dk_at dksJ19_indexOfChar_0 22 rfl rfl)
theorem dJ19_indexOfChar_24 : decode cJ19_indexOfChar 24 = .ok (.ireturn, 1) := dk_172 (dk_at dksJ19_indexOfChar_1 0 rfl rfl)
theorem dJ19_indexOfChar_25 : decode cJ19_indexOfChar 25 = .ok (.iinc 5 1, 3) := dk_132 5 1 (dk_at dksJ19_indexOfChar_1 1 rfl rfl)
theorem dJ19_indexOfChar_28 : decode cJ19_indexOfChar 28 = .ok (.goto (-21), 3) := dk_167 255 235 (dk_at dksJ19_indexOfChar_1 4 rfl rfl)
theorem dJ19_indexOfChar_31 : decode cJ19_indexOfChar 31 = .ok (.iconst (-1), 1) := dk_2 (dk_at dksJ19_indexOfChar_1 7 rfl rfl)
theorem dJ19_indexOfChar_32 : decode cJ19_indexOfChar 32 = .ok (.ireturn, 1) := dk_172 (dk_at dksJ19_indexOfChar_1 8 rfl rfl)
def dkwJ21_valueOf_1 : List UInt8 := [187, 0, 1, 89, 26, 183, 0, 199, 176]
abbrev dktJ21_valueOf_1 : List UInt8 := dkwJ21_valueOf_1 ++ []
def dkwJ21_valueOf_0 : List UInt8 := [26, 16, 128, 161, 0, 20, 26, 178, 0, 191, 163, 0, 13, 178, 0, 195, 26, 17, 0, 128, 96, 50, 176]
abbrev dktJ21_valueOf_0 : List UInt8 := dkwJ21_valueOf_0 ++ dktJ21_valueOf_1
theorem dksJ21_valueOf_0 : cJ21_valueOf.data.toList.drop 0 = dktJ21_valueOf_0 := by decide +kernel
theorem dksJ21_valueOf_1 : cJ21_valueOf.data.toList.drop 23 = dktJ21_valueOf_1 := dk_seg dksJ21_valueOf_0 23 rfl rfl
theorem dJ21_valueOf_0 : decode cJ21_valueOf 0 = .ok (.iload_n 0, 1) := dk_26 (dk_at dksJ21_valueOf_0 0 rfl rfl)
theorem dJ21_valueOf_1 : decode cJ21_valueOf 1 = .ok (.bipush (-128), 2) := dk_16 128 (dk_at dksJ21_valueOf_0 1 rfl rfl)
theorem dJ21_valueOf_3 : decode cJ21_valueOf 3 = .ok (.if_icmp .lt 20, 3) := dk_161 0 20 (dk_at dksJ21_valueOf_0 3 rfl rfl)
theorem dJ21_valueOf_6 : decode cJ21_valueOf 6 = .ok (.iload_n 0, 1) := dk_26 (dk_at dksJ21_valueOf_0 6 rfl rfl)
theorem dJ21_valueOf_7 : decode cJ21_valueOf 7 = .ok (.getstatic 191, 3) := dk_178 0 191 (dk_at dksJ21_valueOf_0 7 rfl rfl)
theorem dJ21_valueOf_10 : decode cJ21_valueOf 10 = .ok (.if_icmp .gt 13, 3) := dk_163 0 13 (dk_at dksJ21_valueOf_0 10 rfl rfl)
theorem dJ21_valueOf_13 : decode cJ21_valueOf 13 = .ok (.getstatic 195, 3) := dk_178 0 195 (dk_at dksJ21_valueOf_0 13 rfl rfl)
theorem dJ21_valueOf_16 : decode cJ21_valueOf 16 = .ok (.iload_n 0, 1) := dk_26 (dk_at dksJ21_valueOf_0 16 rfl rfl)
theorem dJ21_valueOf_17 : decode cJ21_valueOf 17 = .ok (.sipush 128, 3) := dk_17 0 128 (dk_at dksJ21_valueOf_0 17 rfl rfl)
theorem dJ21_valueOf_20 : decode cJ21_valueOf 20 = .ok (.iadd, 1) := dk_96 (dk_at dksJ21_valueOf_0 20 rfl rfl)
theorem dJ21_valueOf_21 : decode cJ21_valueOf 21 = .ok (.aaload, 1) := dk_50 (dk_at dksJ21_valueOf_0 21 rfl rfl)
theorem dJ21_valueOf_22 : decode cJ21_valueOf 22 = .ok (.areturn, 1) := dk_176 (dk_at dksJ21_valueOf_0 22 rfl rfl)
theorem dJ21_valueOf_23 : decode cJ21_valueOf 23 = .ok (.new 1, 3) := dk_187 0 1 (dk_at dksJ21_valueOf_1 0 rfl rfl)
theorem dJ21_valueOf_26 : decode cJ21_valueOf 26 = .ok (.dup, 1) := dk_89 (dk_at dksJ21_valueOf_1 3 rfl rfl)
theorem dJ21_valueOf_27 : decode cJ21_valueOf 27 = .ok (.iload_n 0, 1) := dk_26 (dk_at dksJ21_valueOf_1 4 rfl rfl)
theorem dJ21_valueOf_28 : decode cJ21_valueOf 28 = .ok (.invokespecial 199, 3) := dk_183 0 199 (dk_at dksJ21_valueOf_1 5 rfl rfl)
theorem dJ21_valueOf_31 : decode cJ21_valueOf 31 = .ok (.areturn, 1) := dk_176 (dk_at dksJ21_valueOf_1 8 rfl rfl)
theorem dJ21_intValue_0 : decode cJ21_intValue 0 = .ok (.aload_n 0, 1) := by decide +kernel
theorem dJ21_intValue_1 : decode cJ21_intValue 1 = .ok (.getfield 205, 3) := by decide +kernel
theorem dJ21_intValue_4 : decode cJ21_intValue 4 = .ok (.ireturn, 1) := by decide +kernel
def dkwJ21_equals_1 : List UInt8 := [167, 0, 4, 3, 172, 3, 172]
abbrev dktJ21_equals_1 : List UInt8 := dkwJ21_equals_1 ++ []
def dkwJ21_equals_0 : List UInt8 := [43, 193, 0, 1, 153, 0, 23, 42, 180, 0, 205, 43, 192, 0, 1, 182, 0, 211, 160, 0, 7, 4]
abbrev dktJ21_equals_0 : List UInt8 := dkwJ21_equals_0 ++ dktJ21_equals_1
theorem dksJ21_equals_0 : cJ21_equals.data.toList.drop 0 = dktJ21_equals_0 := by decide +kernel
theorem dksJ21_equals_1 : cJ21_equals.data.toList.drop 22 = dktJ21_equals_1 := dk_seg dksJ21_equals_0 22 rfl rfl
theorem dJ21_equals_0 : decode cJ21_equals 0 = .ok (.aload_n 1, 1) := dk_43 (dk_at dksJ21_equals_0 0 rfl rfl)
theorem dJ21_equals_1 : decode cJ21_equals 1 = .ok (.instanceof 1, 3) := dk_193 0 1 (dk_at dksJ21_equals_0 1 rfl rfl)
theorem dJ21_equals_4 : decode cJ21_equals 4 = .ok (.ifCond .eq 23, 3) := dk_153 0 23 (dk_at dksJ21_equals_0 4 rfl rfl)
theorem dJ21_equals_7 : decode cJ21_equals 7 = .ok (.aload_n 0, 1) := dk_42 (dk_at dksJ21_equals_0 7 rfl rfl)
theorem dJ21_equals_8 : decode cJ21_equals 8 = .ok (.getfield 205, 3) := dk_180 0 205 (dk_at dksJ21_equals_0 8 rfl rfl)
theorem dJ21_equals_11 : decode cJ21_equals 11 = .ok (.aload_n 1, 1) := dk_43 (dk_at dksJ21_equals_0 11 rfl rfl)
theorem dJ21_equals_12 : decode cJ21_equals 12 = .ok (.checkcast 1, 3) := dk_192 0 1 (dk_at dksJ21_equals_0 12 rfl rfl)
theorem dJ21_equals_15 : decode cJ21_equals 15 = .ok (.invokevirtual 211, 3) := dk_182 0 211 (dk_at dksJ21_equals_0 15 rfl rfl)
theorem dJ21_equals_18 : decode cJ21_equals 18 = .ok (.if_icmp .ne 7, 3) := dk_160 0 7 (dk_at dksJ21_equals_0 18 rfl rfl)
theorem dJ21_equals_21 : decode cJ21_equals 21 = .ok (.iconst 1, 1) := dk_4 (dk_at dksJ21_equals_0 21 rfl rfl)
theorem dJ21_equals_22 : decode cJ21_equals 22 = .ok (.goto 4, 3) := dk_167 0 4 (dk_at dksJ21_equals_1 0 rfl rfl)
theorem dJ21_equals_25 : decode cJ21_equals 25 = .ok (.iconst 0, 1) := dk_3 (dk_at dksJ21_equals_1 3 rfl rfl)
theorem dJ21_equals_26 : decode cJ21_equals 26 = .ok (.ireturn, 1) := dk_172 (dk_at dksJ21_equals_1 4 rfl rfl)
theorem dJ21_equals_27 : decode cJ21_equals 27 = .ok (.iconst 0, 1) := dk_3 (dk_at dksJ21_equals_1 5 rfl rfl)
theorem dJ21_equals_28 : decode cJ21_equals 28 = .ok (.ireturn, 1) := dk_172 (dk_at dksJ21_equals_1 6 rfl rfl)
def dkwJ24_init_0 : List UInt8 := [42, 183, 0, 1, 42, 44, 181, 0, 7, 42, 45, 181, 0, 13, 42, 43, 181, 0, 17, 177]
abbrev dktJ24_init_0 : List UInt8 := dkwJ24_init_0 ++ []
theorem dksJ24_init_0 : cJ24_init.data.toList.drop 0 = dktJ24_init_0 := by decide +kernel
theorem dJ24_init_0 : decode cJ24_init 0 = .ok (.aload_n 0, 1) := dk_42 (dk_at dksJ24_init_0 0 rfl rfl)
theorem dJ24_init_1 : decode cJ24_init 1 = .ok (.invokespecial 1, 3) := dk_183 0 1 (dk_at dksJ24_init_0 1 rfl rfl)
theorem dJ24_init_4 : decode cJ24_init 4 = .ok (.aload_n 0, 1) := dk_42 (dk_at dksJ24_init_0 4 rfl rfl)
theorem dJ24_init_5 : decode cJ24_init 5 = .ok (.aload_n 2, 1) := dk_44 (dk_at dksJ24_init_0 5 rfl rfl)
theorem dJ24_init_6 : decode cJ24_init 6 = .ok (.putfield 7, 3) := dk_181 0 7 (dk_at dksJ24_init_0 6 rfl rfl)
theorem dJ24_init_9 : decode cJ24_init 9 = .ok (.aload_n 0, 1) := dk_42 (dk_at dksJ24_init_0 9 rfl rfl)
theorem dJ24_init_10 : decode cJ24_init 10 = .ok (.aload_n 3, 1) := dk_45 (dk_at dksJ24_init_0 10 rfl rfl)
theorem dJ24_init_11 : decode cJ24_init 11 = .ok (.putfield 13, 3) := dk_181 0 13 (dk_at dksJ24_init_0 11 rfl rfl)
theorem dJ24_init_14 : decode cJ24_init 14 = .ok (.aload_n 0, 1) := dk_42 (dk_at dksJ24_init_0 14 rfl rfl)
theorem dJ24_init_15 : decode cJ24_init 15 = .ok (.aload_n 1, 1) := dk_43 (dk_at dksJ24_init_0 15 rfl rfl)
theorem dJ24_init_16 : decode cJ24_init 16 = .ok (.putfield 17, 3) := dk_181 0 17 (dk_at dksJ24_init_0 16 rfl rfl)
theorem dJ24_init_19 : decode cJ24_init 19 = .ok (.return_, 1) := dk_177 (dk_at dksJ24_init_0 19 rfl rfl)
def dkwJ26_init_1 : List UInt8 := [181, 0, 22, 177]
abbrev dktJ26_init_1 : List UInt8 := dkwJ26_init_1 ++ []
def dkwJ26_init_0 : List UInt8 := [42, 43, 181, 0, 1, 42, 183, 0, 7, 42, 2, 181, 0, 13, 42, 42, 180, 0, 1, 180, 0, 17]
abbrev dktJ26_init_0 : List UInt8 := dkwJ26_init_0 ++ dktJ26_init_1
theorem dksJ26_init_0 : cJ26_init.data.toList.drop 0 = dktJ26_init_0 := by decide +kernel
theorem dksJ26_init_1 : cJ26_init.data.toList.drop 22 = dktJ26_init_1 := dk_seg dksJ26_init_0 22 rfl rfl
theorem dJ26_init_0 : decode cJ26_init 0 = .ok (.aload_n 0, 1) := dk_42 (dk_at dksJ26_init_0 0 rfl rfl)
theorem dJ26_init_1 : decode cJ26_init 1 = .ok (.aload_n 1, 1) := dk_43 (dk_at dksJ26_init_0 1 rfl rfl)
theorem dJ26_init_2 : decode cJ26_init 2 = .ok (.putfield 1, 3) := dk_181 0 1 (dk_at dksJ26_init_0 2 rfl rfl)
theorem dJ26_init_5 : decode cJ26_init 5 = .ok (.aload_n 0, 1) := dk_42 (dk_at dksJ26_init_0 5 rfl rfl)
theorem dJ26_init_6 : decode cJ26_init 6 = .ok (.invokespecial 7, 3) := dk_183 0 7 (dk_at dksJ26_init_0 6 rfl rfl)
theorem dJ26_init_9 : decode cJ26_init 9 = .ok (.aload_n 0, 1) := dk_42 (dk_at dksJ26_init_0 9 rfl rfl)
theorem dJ26_init_10 : decode cJ26_init 10 = .ok (.iconst (-1), 1) := dk_2 (dk_at dksJ26_init_0 10 rfl rfl)
theorem dJ26_init_11 : decode cJ26_init 11 = .ok (.putfield 13, 3) := dk_181 0 13 (dk_at dksJ26_init_0 11 rfl rfl)
theorem dJ26_init_14 : decode cJ26_init 14 = .ok (.aload_n 0, 1) := dk_42 (dk_at dksJ26_init_0 14 rfl rfl)
theorem dJ26_init_15 : decode cJ26_init 15 = .ok (.aload_n 0, 1) := dk_42 (dk_at dksJ26_init_0 15 rfl rfl)
theorem dJ26_init_16 : decode cJ26_init 16 = .ok (.getfield 1, 3) := dk_180 0 1 (dk_at dksJ26_init_0 16 rfl rfl)
theorem dJ26_init_19 : decode cJ26_init 19 = .ok (.getfield 17, 3) := dk_180 0 17 (dk_at dksJ26_init_0 19 rfl rfl)
theorem dJ26_init_22 : decode cJ26_init 22 = .ok (.putfield 22, 3) := dk_181 0 22 (dk_at dksJ26_init_1 0 rfl rfl)
theorem dJ26_init_25 : decode cJ26_init 25 = .ok (.return_, 1) := dk_177 (dk_at dksJ26_init_1 3 rfl rfl)
def dkwJ26_hasNext_0 : List UInt8 := [42, 180, 0, 25, 42, 180, 0, 1, 180, 0, 28, 159, 0, 7, 4, 167, 0, 4, 3, 172]
abbrev dktJ26_hasNext_0 : List UInt8 := dkwJ26_hasNext_0 ++ []
theorem dksJ26_hasNext_0 : cJ26_hasNext.data.toList.drop 0 = dktJ26_hasNext_0 := by decide +kernel
theorem dJ26_hasNext_0 : decode cJ26_hasNext 0 = .ok (.aload_n 0, 1) := dk_42 (dk_at dksJ26_hasNext_0 0 rfl rfl)
theorem dJ26_hasNext_1 : decode cJ26_hasNext 1 = .ok (.getfield 25, 3) := dk_180 0 25 (dk_at dksJ26_hasNext_0 1 rfl rfl)
theorem dJ26_hasNext_4 : decode cJ26_hasNext 4 = .ok (.aload_n 0, 1) := dk_42 (dk_at dksJ26_hasNext_0 4 rfl rfl)
theorem dJ26_hasNext_5 : decode cJ26_hasNext 5 = .ok (.getfield 1, 3) := dk_180 0 1 (dk_at dksJ26_hasNext_0 5 rfl rfl)
theorem dJ26_hasNext_8 : decode cJ26_hasNext 8 = .ok (.getfield 28, 3) := dk_180 0 28 (dk_at dksJ26_hasNext_0 8 rfl rfl)
theorem dJ26_hasNext_11 : decode cJ26_hasNext 11 = .ok (.if_icmp .eq 7, 3) := dk_159 0 7 (dk_at dksJ26_hasNext_0 11 rfl rfl)
theorem dJ26_hasNext_14 : decode cJ26_hasNext 14 = .ok (.iconst 1, 1) := dk_4 (dk_at dksJ26_hasNext_0 14 rfl rfl)
theorem dJ26_hasNext_15 : decode cJ26_hasNext 15 = .ok (.goto 4, 3) := dk_167 0 4 (dk_at dksJ26_hasNext_0 15 rfl rfl)
theorem dJ26_hasNext_18 : decode cJ26_hasNext 18 = .ok (.iconst 0, 1) := dk_3 (dk_at dksJ26_hasNext_0 18 rfl rfl)
theorem dJ26_hasNext_19 : decode cJ26_hasNext 19 = .ok (.ireturn, 1) := dk_172 (dk_at dksJ26_hasNext_0 19 rfl rfl)
def dkwJ26_next_2 : List UInt8 := [183, 0, 43, 191, 42, 27, 4, 96, 181, 0, 25, 44, 42, 27, 90, 181, 0, 13, 50, 176]
abbrev dktJ26_next_2 : List UInt8 := dkwJ26_next_2 ++ []
def dkwJ26_next_1 : List UInt8 := [183, 0, 36, 191, 42, 180, 0, 1, 180, 0, 37, 77, 27, 44, 190, 161, 0, 11, 187, 0, 41, 89]
abbrev dktJ26_next_1 : List UInt8 := dkwJ26_next_1 ++ dktJ26_next_2
def dkwJ26_next_0 : List UInt8 := [42, 182, 0, 31, 42, 180, 0, 25, 60, 27, 42, 180, 0, 1, 180, 0, 28, 161, 0, 11, 187, 0, 34, 89]
abbrev dktJ26_next_0 : List UInt8 := dkwJ26_next_0 ++ dktJ26_next_1
theorem dksJ26_next_0 : cJ26_next.data.toList.drop 0 = dktJ26_next_0 := by decide +kernel
theorem dksJ26_next_1 : cJ26_next.data.toList.drop 24 = dktJ26_next_1 := dk_seg dksJ26_next_0 24 rfl rfl
theorem dksJ26_next_2 : cJ26_next.data.toList.drop 46 = dktJ26_next_2 := dk_seg dksJ26_next_1 22 rfl rfl
theorem dJ26_next_0 : decode cJ26_next 0 = .ok (.aload_n 0, 1) := dk_42 (dk_at dksJ26_next_0 0 rfl rfl)
theorem dJ26_next_1 : decode cJ26_next 1 = .ok (.invokevirtual 31, 3) := dk_182 0 31 (dk_at dksJ26_next_0 1 rfl rfl)
theorem dJ26_next_4 : decode cJ26_next 4 = .ok (.aload_n 0, 1) := dk_42 (dk_at dksJ26_next_0 4 rfl rfl)
theorem dJ26_next_5 : decode cJ26_next 5 = .ok (.getfield 25, 3) := dk_180 0 25 (dk_at dksJ26_next_0 5 rfl rfl)
theorem dJ26_next_8 : decode cJ26_next 8 = .ok (.istore_n 1, 1) := dk_60 (dk_at dksJ26_next_0 8 rfl rfl)
theorem dJ26_next_9 : decode cJ26_next 9 = .ok (.iload_n 1, 1) := dk_27 (dk_at dksJ26_next_0 9 rfl rfl)
theorem dJ26_next_10 : decode cJ26_next 10 = .ok (.aload_n 0, 1) := dk_42 (dk_at dksJ26_next_0 10 rfl rfl)
theorem dJ26_next_11 : decode cJ26_next 11 = .ok (.getfield 1, 3) := dk_180 0 1 (dk_at dksJ26_next_0 11 rfl rfl)
theorem dJ26_next_14 : decode cJ26_next 14 = .ok (.getfield 28, 3) := dk_180 0 28 (dk_at dksJ26_next_0 14 rfl rfl)
theorem dJ26_next_17 : decode cJ26_next 17 = .ok (.if_icmp .lt 11, 3) := dk_161 0 11 (dk_at dksJ26_next_0 17 rfl rfl)
theorem dJ26_next_20 : decode cJ26_next 20 = .ok (.new 34, 3) := dk_187 0 34 (dk_at dksJ26_next_0 20 rfl rfl)
theorem dJ26_next_23 : decode cJ26_next 23 = .ok (.dup, 1) := dk_89 (dk_at dksJ26_next_0 23 rfl rfl)
theorem dJ26_next_24 : decode cJ26_next 24 = .ok (.invokespecial 36, 3) := dk_183 0 36 (dk_at dksJ26_next_1 0 rfl rfl)
theorem dJ26_next_27 : decode cJ26_next 27 = .ok (.athrow, 1) := dk_191 (dk_at dksJ26_next_1 3 rfl rfl)
theorem dJ26_next_28 : decode cJ26_next 28 = .ok (.aload_n 0, 1) := dk_42 (dk_at dksJ26_next_1 4 rfl rfl)
theorem dJ26_next_29 : decode cJ26_next 29 = .ok (.getfield 1, 3) := dk_180 0 1 (dk_at dksJ26_next_1 5 rfl rfl)
theorem dJ26_next_32 : decode cJ26_next 32 = .ok (.getfield 37, 3) := dk_180 0 37 (dk_at dksJ26_next_1 8 rfl rfl)
theorem dJ26_next_35 : decode cJ26_next 35 = .ok (.astore_n 2, 1) := dk_77 (dk_at dksJ26_next_1 11 rfl rfl)
theorem dJ26_next_36 : decode cJ26_next 36 = .ok (.iload_n 1, 1) := dk_27 (dk_at dksJ26_next_1 12 rfl rfl)
theorem dJ26_next_37 : decode cJ26_next 37 = .ok (.aload_n 2, 1) := dk_44 (dk_at dksJ26_next_1 13 rfl rfl)
theorem dJ26_next_38 : decode cJ26_next 38 = .ok (.arraylength, 1) := dk_190 (dk_at dksJ26_next_1 14 rfl rfl)
theorem dJ26_next_39 : decode cJ26_next 39 = .ok (.if_icmp .lt 11, 3) := dk_161 0 11 (dk_at dksJ26_next_1 15 rfl rfl)
theorem dJ26_next_42 : decode cJ26_next 42 = .ok (.new 41, 3) := dk_187 0 41 (dk_at dksJ26_next_1 18 rfl rfl)
theorem dJ26_next_45 : decode cJ26_next 45 = .ok (.dup, 1) := dk_89 (dk_at dksJ26_next_1 21 rfl rfl)
theorem dJ26_next_46 : decode cJ26_next 46 = .ok (.invokespecial 43, 3) := dk_183 0 43 (dk_at dksJ26_next_2 0 rfl rfl)
theorem dJ26_next_49 : decode cJ26_next 49 = .ok (.athrow, 1) := dk_191 (dk_at dksJ26_next_2 3 rfl rfl)
theorem dJ26_next_50 : decode cJ26_next 50 = .ok (.aload_n 0, 1) := dk_42 (dk_at dksJ26_next_2 4 rfl rfl)
theorem dJ26_next_51 : decode cJ26_next 51 = .ok (.iload_n 1, 1) := dk_27 (dk_at dksJ26_next_2 5 rfl rfl)
theorem dJ26_next_52 : decode cJ26_next 52 = .ok (.iconst 1, 1) := dk_4 (dk_at dksJ26_next_2 6 rfl rfl)
theorem dJ26_next_53 : decode cJ26_next 53 = .ok (.iadd, 1) := dk_96 (dk_at dksJ26_next_2 7 rfl rfl)
theorem dJ26_next_54 : decode cJ26_next 54 = .ok (.putfield 25, 3) := dk_181 0 25 (dk_at dksJ26_next_2 8 rfl rfl)
theorem dJ26_next_57 : decode cJ26_next 57 = .ok (.aload_n 2, 1) := dk_44 (dk_at dksJ26_next_2 11 rfl rfl)
theorem dJ26_next_58 : decode cJ26_next 58 = .ok (.aload_n 0, 1) := dk_42 (dk_at dksJ26_next_2 12 rfl rfl)
theorem dJ26_next_59 : decode cJ26_next 59 = .ok (.iload_n 1, 1) := dk_27 (dk_at dksJ26_next_2 13 rfl rfl)
theorem dJ26_next_60 : decode cJ26_next 60 = .ok (.dup_x1, 1) := dk_90 (dk_at dksJ26_next_2 14 rfl rfl)
theorem dJ26_next_61 : decode cJ26_next 61 = .ok (.putfield 13, 3) := dk_181 0 13 (dk_at dksJ26_next_2 15 rfl rfl)
theorem dJ26_next_64 : decode cJ26_next 64 = .ok (.aaload, 1) := dk_50 (dk_at dksJ26_next_2 18 rfl rfl)
theorem dJ26_next_65 : decode cJ26_next 65 = .ok (.areturn, 1) := dk_176 (dk_at dksJ26_next_2 19 rfl rfl)
def dkwJ26_checkForComodification_0 : List UInt8 := [42, 180, 0, 1, 180, 0, 17, 42, 180, 0, 22, 159, 0, 11, 187, 0, 41, 89, 183, 0, 43, 191, 177]
abbrev dktJ26_checkForComodification_0 : List UInt8 := dkwJ26_checkForComodification_0 ++ []
theorem dksJ26_checkForComodification_0 : cJ26_checkForComodification.data.toList.drop 0 = dktJ26_checkForComodification_0 := by decide +kernel
theorem dJ26_checkForComodification_0 : decode cJ26_checkForComodification 0 = .ok (.aload_n 0, 1) := dk_42 (dk_at dksJ26_checkForComodification_0 0 rfl rfl)
theorem dJ26_checkForComodification_1 : decode cJ26_checkForComodification 1 = .ok (.getfield 1, 3) := dk_180 0 1 (dk_at dksJ26_checkForComodification_0 1 rfl rfl)
theorem dJ26_checkForComodification_4 : decode cJ26_checkForComodification 4 = .ok (.getfield 17, 3) := dk_180 0 17 (dk_at dksJ26_checkForComodification_0 4 rfl rfl)
theorem dJ26_checkForComodification_7 : decode cJ26_checkForComodification 7 = .ok (.aload_n 0, 1) := dk_42 (dk_at dksJ26_checkForComodification_0 7 rfl rfl)
theorem dJ26_checkForComodification_8 : decode cJ26_checkForComodification 8 = .ok (.getfield 22, 3) := dk_180 0 22 (dk_at dksJ26_checkForComodification_0 8 rfl rfl)
theorem dJ26_checkForComodification_11 : decode cJ26_checkForComodification 11 = .ok (.if_icmp .eq 11, 3) := dk_159 0 11 (dk_at dksJ26_checkForComodification_0 11 rfl rfl)
theorem dJ26_checkForComodification_14 : decode cJ26_checkForComodification 14 = .ok (.new 41, 3) := dk_187 0 41 (dk_at dksJ26_checkForComodification_0 14 rfl rfl)
theorem dJ26_checkForComodification_17 : decode cJ26_checkForComodification 17 = .ok (.dup, 1) := dk_89 (dk_at dksJ26_checkForComodification_0 17 rfl rfl)
theorem dJ26_checkForComodification_18 : decode cJ26_checkForComodification 18 = .ok (.invokespecial 43, 3) := dk_183 0 43 (dk_at dksJ26_checkForComodification_0 18 rfl rfl)
theorem dJ26_checkForComodification_21 : decode cJ26_checkForComodification 21 = .ok (.athrow, 1) := dk_191 (dk_at dksJ26_checkForComodification_0 21 rfl rfl)
theorem dJ26_checkForComodification_22 : decode cJ26_checkForComodification 22 = .ok (.return_, 1) := dk_177 (dk_at dksJ26_checkForComodification_0 22 rfl rfl)
def dkwJ28_init_1 : List UInt8 := [180, 0, 22, 160, 0, 7, 1, 167, 0, 8, 43, 28, 182, 0, 25, 181, 0, 29, 42, 28, 181, 0, 33, 177]
abbrev dktJ28_init_1 : List UInt8 := dkwJ28_init_1 ++ []
def dkwJ28_init_0 : List UInt8 := [42, 43, 181, 0, 1, 42, 183, 0, 7, 42, 42, 180, 0, 1, 180, 0, 13, 181, 0, 19, 42, 28, 43]
abbrev dktJ28_init_0 : List UInt8 := dkwJ28_init_0 ++ dktJ28_init_1
theorem dksJ28_init_0 : cJ28_init.data.toList.drop 0 = dktJ28_init_0 := by decide +kernel
theorem dksJ28_init_1 : cJ28_init.data.toList.drop 23 = dktJ28_init_1 := dk_seg dksJ28_init_0 23 rfl rfl
theorem dJ28_init_0 : decode cJ28_init 0 = .ok (.aload_n 0, 1) := dk_42 (dk_at dksJ28_init_0 0 rfl rfl)
theorem dJ28_init_1 : decode cJ28_init 1 = .ok (.aload_n 1, 1) := dk_43 (dk_at dksJ28_init_0 1 rfl rfl)
theorem dJ28_init_2 : decode cJ28_init 2 = .ok (.putfield 1, 3) := dk_181 0 1 (dk_at dksJ28_init_0 2 rfl rfl)
theorem dJ28_init_5 : decode cJ28_init 5 = .ok (.aload_n 0, 1) := dk_42 (dk_at dksJ28_init_0 5 rfl rfl)
theorem dJ28_init_6 : decode cJ28_init 6 = .ok (.invokespecial 7, 3) := dk_183 0 7 (dk_at dksJ28_init_0 6 rfl rfl)
theorem dJ28_init_9 : decode cJ28_init 9 = .ok (.aload_n 0, 1) := dk_42 (dk_at dksJ28_init_0 9 rfl rfl)
theorem dJ28_init_10 : decode cJ28_init 10 = .ok (.aload_n 0, 1) := dk_42 (dk_at dksJ28_init_0 10 rfl rfl)
theorem dJ28_init_11 : decode cJ28_init 11 = .ok (.getfield 1, 3) := dk_180 0 1 (dk_at dksJ28_init_0 11 rfl rfl)
theorem dJ28_init_14 : decode cJ28_init 14 = .ok (.getfield 13, 3) := dk_180 0 13 (dk_at dksJ28_init_0 14 rfl rfl)
theorem dJ28_init_17 : decode cJ28_init 17 = .ok (.putfield 19, 3) := dk_181 0 19 (dk_at dksJ28_init_0 17 rfl rfl)
theorem dJ28_init_20 : decode cJ28_init 20 = .ok (.aload_n 0, 1) := dk_42 (dk_at dksJ28_init_0 20 rfl rfl)
theorem dJ28_init_21 : decode cJ28_init 21 = .ok (.iload_n 2, 1) := dk_28 (dk_at dksJ28_init_0 21 rfl rfl)
theorem dJ28_init_22 : decode cJ28_init 22 = .ok (.aload_n 1, 1) := dk_43 (dk_at dksJ28_init_0 22 rfl rfl)
theorem dJ28_init_23 : decode cJ28_init 23 = .ok (.getfield 22, 3) := dk_180 0 22 (dk_at dksJ28_init_1 0 rfl rfl)
theorem dJ28_init_26 : decode cJ28_init 26 = .ok (.if_icmp .ne 7, 3) := dk_160 0 7 (dk_at dksJ28_init_1 3 rfl rfl)
theorem dJ28_init_29 : decode cJ28_init 29 = .ok (.aconst_null, 1) := dk_1 (dk_at dksJ28_init_1 6 rfl rfl)
theorem dJ28_init_30 : decode cJ28_init 30 = .ok (.goto 8, 3) := dk_167 0 8 (dk_at dksJ28_init_1 7 rfl rfl)
theorem dJ28_init_33 : decode cJ28_init 33 = .ok (.aload_n 1, 1) := dk_43 (dk_at dksJ28_init_1 10 rfl rfl)
theorem dJ28_init_34 : decode cJ28_init 34 = .ok (.iload_n 2, 1) := dk_28 (dk_at dksJ28_init_1 11 rfl rfl)
theorem dJ28_init_35 : decode cJ28_init 35 = .ok (.invokevirtual 25, 3) := dk_182 0 25 (dk_at dksJ28_init_1 12 rfl rfl)
theorem dJ28_init_38 : decode cJ28_init 38 = .ok (.putfield 29, 3) := dk_181 0 29 (dk_at dksJ28_init_1 15 rfl rfl)
theorem dJ28_init_41 : decode cJ28_init 41 = .ok (.aload_n 0, 1) := dk_42 (dk_at dksJ28_init_1 18 rfl rfl)
theorem dJ28_init_42 : decode cJ28_init 42 = .ok (.iload_n 2, 1) := dk_28 (dk_at dksJ28_init_1 19 rfl rfl)
theorem dJ28_init_43 : decode cJ28_init 43 = .ok (.putfield 33, 3) := dk_181 0 33 (dk_at dksJ28_init_1 20 rfl rfl)
theorem dJ28_init_46 : decode cJ28_init 46 = .ok (.return_, 1) := dk_177 (dk_at dksJ28_init_1 23 rfl rfl)
def dkwJ28_hasPrevious_0 : List UInt8 := [42, 180, 0, 33, 158, 0, 7, 4, 167, 0, 4, 3, 172]
abbrev dktJ28_hasPrevious_0 : List UInt8 := dkwJ28_hasPrevious_0 ++ []
theorem dksJ28_hasPrevious_0 : cJ28_hasPrevious.data.toList.drop 0 = dktJ28_hasPrevious_0 := by decide +kernel
theorem dJ28_hasPrevious_0 : decode cJ28_hasPrevious 0 = .ok (.aload_n 0, 1) := dk_42 (dk_at dksJ28_hasPrevious_0 0 rfl rfl)
theorem dJ28_hasPrevious_1 : decode cJ28_hasPrevious 1 = .ok (.getfield 33, 3) := dk_180 0 33 (dk_at dksJ28_hasPrevious_0 1 rfl rfl)
theorem dJ28_hasPrevious_4 : decode cJ28_hasPrevious 4 = .ok (.ifCond .le 7, 3) := dk_158 0 7 (dk_at dksJ28_hasPrevious_0 4 rfl rfl)
theorem dJ28_hasPrevious_7 : decode cJ28_hasPrevious 7 = .ok (.iconst 1, 1) := dk_4 (dk_at dksJ28_hasPrevious_0 7 rfl rfl)
theorem dJ28_hasPrevious_8 : decode cJ28_hasPrevious 8 = .ok (.goto 4, 3) := dk_167 0 4 (dk_at dksJ28_hasPrevious_0 8 rfl rfl)
theorem dJ28_hasPrevious_11 : decode cJ28_hasPrevious 11 = .ok (.iconst 0, 1) := dk_3 (dk_at dksJ28_hasPrevious_0 11 rfl rfl)
theorem dJ28_hasPrevious_12 : decode cJ28_hasPrevious 12 = .ok (.ireturn, 1) := dk_172 (dk_at dksJ28_hasPrevious_0 12 rfl rfl)
def dkwJ28_hasNext_0 : List UInt8 := [42, 180, 0, 33, 42, 180, 0, 1, 180, 0, 22, 162, 0, 7, 4, 167, 0, 4, 3, 172]
abbrev dktJ28_hasNext_0 : List UInt8 := dkwJ28_hasNext_0 ++ []
theorem dksJ28_hasNext_0 : cJ28_hasNext.data.toList.drop 0 = dktJ28_hasNext_0 := by decide +kernel
theorem dJ28_hasNext_0 : decode cJ28_hasNext 0 = .ok (.aload_n 0, 1) := dk_42 (dk_at dksJ28_hasNext_0 0 rfl rfl)
theorem dJ28_hasNext_1 : decode cJ28_hasNext 1 = .ok (.getfield 33, 3) := dk_180 0 33 (dk_at dksJ28_hasNext_0 1 rfl rfl)
theorem dJ28_hasNext_4 : decode cJ28_hasNext 4 = .ok (.aload_n 0, 1) := dk_42 (dk_at dksJ28_hasNext_0 4 rfl rfl)
theorem dJ28_hasNext_5 : decode cJ28_hasNext 5 = .ok (.getfield 1, 3) := dk_180 0 1 (dk_at dksJ28_hasNext_0 5 rfl rfl)
theorem dJ28_hasNext_8 : decode cJ28_hasNext 8 = .ok (.getfield 22, 3) := dk_180 0 22 (dk_at dksJ28_hasNext_0 8 rfl rfl)
theorem dJ28_hasNext_11 : decode cJ28_hasNext 11 = .ok (.if_icmp .ge 7, 3) := dk_162 0 7 (dk_at dksJ28_hasNext_0 11 rfl rfl)
theorem dJ28_hasNext_14 : decode cJ28_hasNext 14 = .ok (.iconst 1, 1) := dk_4 (dk_at dksJ28_hasNext_0 14 rfl rfl)
theorem dJ28_hasNext_15 : decode cJ28_hasNext 15 = .ok (.goto 4, 3) := dk_167 0 4 (dk_at dksJ28_hasNext_0 15 rfl rfl)
theorem dJ28_hasNext_18 : decode cJ28_hasNext 18 = .ok (.iconst 0, 1) := dk_3 (dk_at dksJ28_hasNext_0 18 rfl rfl)
theorem dJ28_hasNext_19 : decode cJ28_hasNext 19 = .ok (.ireturn, 1) := dk_172 (dk_at dksJ28_hasNext_0 19 rfl rfl)
def dkwJ28_previous_2 : List UInt8 := [181, 0, 29, 181, 0, 46, 42, 89, 180, 0, 33, 4, 100, 181, 0, 33, 42, 180, 0, 46, 180, 0, 52, 176]
abbrev dktJ28_previous_2 : List UInt8 := dkwJ28_previous_2 ++ []
def dkwJ28_previous_1 : List UInt8 := [180, 0, 29, 199, 0, 13, 42, 180, 0, 1, 180, 0, 59, 167, 0, 10, 42, 180, 0, 29, 180, 0, 62, 90]
abbrev dktJ28_previous_1 : List UInt8 := dkwJ28_previous_1 ++ dktJ28_previous_2
def dkwJ28_previous_0 : List UInt8 := [42, 182, 0, 36, 42, 182, 0, 56, 154, 0, 11, 187, 0, 43, 89, 183, 0, 45, 191, 42, 42, 42]
abbrev dktJ28_previous_0 : List UInt8 := dkwJ28_previous_0 ++ dktJ28_previous_1
theorem dksJ28_previous_0 : cJ28_previous.data.toList.drop 0 = dktJ28_previous_0 := by decide +kernel
theorem dksJ28_previous_1 : cJ28_previous.data.toList.drop 22 = dktJ28_previous_1 := dk_seg dksJ28_previous_0 22 rfl rfl
theorem dksJ28_previous_2 : cJ28_previous.data.toList.drop 46 = dktJ28_previous_2 := dk_seg dksJ28_previous_1 24 rfl rfl
theorem dJ28_previous_0 : decode cJ28_previous 0 = .ok (.aload_n 0, 1) := dk_42 (dk_at dksJ28_previous_0 0 rfl rfl)
theorem dJ28_previous_1 : decode cJ28_previous 1 = .ok (.invokevirtual 36, 3) := dk_182 0 36 (dk_at dksJ28_previous_0 1 rfl rfl)
theorem dJ28_previous_4 : decode cJ28_previous 4 = .ok (.aload_n 0, 1) := dk_42 (dk_at dksJ28_previous_0 4 rfl rfl)
theorem dJ28_previous_5 : decode cJ28_previous 5 = .ok (.invokevirtual 56, 3) := dk_182 0 56 (dk_at dksJ28_previous_0 5 rfl rfl)
theorem dJ28_previous_8 : decode cJ28_previous 8 = .ok (.ifCond .ne 11, 3) := dk_154 0 11 (dk_at dksJ28_previous_0 8 rfl rfl)
theorem dJ28_previous_11 : decode cJ28_previous 11 = .ok (.new 43, 3) := dk_187 0 43 (dk_at dksJ28_previous_0 11 rfl rfl)
theorem dJ28_previous_14 : decode cJ28_previous 14 = .ok (.dup, 1) := dk_89 (dk_at dksJ28_previous_0 14 rfl rfl)
theorem dJ28_previous_15 : decode cJ28_previous 15 = .ok (.invokespecial 45, 3) := dk_183 0 45 (dk_at dksJ28_previous_0 15 rfl rfl)
theorem dJ28_previous_18 : decode cJ28_previous 18 = .ok (.athrow, 1) := dk_191 (dk_at dksJ28_previous_0 18 rfl rfl)
theorem dJ28_previous_19 : decode cJ28_previous 19 = .ok (.aload_n 0, 1) := dk_42 (dk_at dksJ28_previous_0 19 rfl rfl)
theorem dJ28_previous_20 : decode cJ28_previous 20 = .ok (.aload_n 0, 1) := dk_42 (dk_at dksJ28_previous_0 20 rfl rfl)
theorem dJ28_previous_21 : decode cJ28_previous 21 = .ok (.aload_n 0, 1) := dk_42 (dk_at dksJ28_previous_0 21 rfl rfl)
theorem dJ28_previous_22 : decode cJ28_previous 22 = .ok (.getfield 29, 3) := dk_180 0 29 (dk_at dksJ28_previous_1 0 rfl rfl)
theorem dJ28_previous_25 : decode cJ28_previous 25 = .ok (.ifnonnull 13, 3) := dk_199 0 13 (dk_at dksJ28_previous_1 3 rfl rfl)
theorem dJ28_previous_28 : decode cJ28_previous 28 = .ok (.aload_n 0, 1) := dk_42 (dk_at dksJ28_previous_1 6 rfl rfl)
theorem dJ28_previous_29 : decode cJ28_previous 29 = .ok (.getfield 1, 3) := dk_180 0 1 (dk_at dksJ28_previous_1 7 rfl rfl)
theorem dJ28_previous_32 : decode cJ28_previous 32 = .ok (.getfield 59, 3) := dk_180 0 59 (dk_at dksJ28_previous_1 10 rfl rfl)
theorem dJ28_previous_35 : decode cJ28_previous 35 = .ok (.goto 10, 3) := dk_167 0 10 (dk_at dksJ28_previous_1 13 rfl rfl)
theorem dJ28_previous_38 : decode cJ28_previous 38 = .ok (.aload_n 0, 1) := dk_42 (dk_at dksJ28_previous_1 16 rfl rfl)
theorem dJ28_previous_39 : decode cJ28_previous 39 = .ok (.getfield 29, 3) := dk_180 0 29 (dk_at dksJ28_previous_1 17 rfl rfl)
theorem dJ28_previous_42 : decode cJ28_previous 42 = .ok (.getfield 62, 3) := dk_180 0 62 (dk_at dksJ28_previous_1 20 rfl rfl)
theorem dJ28_previous_45 : decode cJ28_previous 45 = .ok (.dup_x1, 1) := dk_90 (dk_at dksJ28_previous_1 23 rfl rfl)
theorem dJ28_previous_46 : decode cJ28_previous 46 = .ok (.putfield 29, 3) := dk_181 0 29 (dk_at dksJ28_previous_2 0 rfl rfl)
theorem dJ28_previous_49 : decode cJ28_previous 49 = .ok (.putfield 46, 3) := dk_181 0 46 (dk_at dksJ28_previous_2 3 rfl rfl)
theorem dJ28_previous_52 : decode cJ28_previous 52 = .ok (.aload_n 0, 1) := dk_42 (dk_at dksJ28_previous_2 6 rfl rfl)
theorem dJ28_previous_53 : decode cJ28_previous 53 = .ok (.dup, 1) := dk_89 (dk_at dksJ28_previous_2 7 rfl rfl)
theorem dJ28_previous_54 : decode cJ28_previous 54 = .ok (.getfield 33, 3) := dk_180 0 33 (dk_at dksJ28_previous_2 8 rfl rfl)
theorem dJ28_previous_57 : decode cJ28_previous 57 = .ok (.iconst 1, 1) := dk_4 (dk_at dksJ28_previous_2 11 rfl rfl)
theorem dJ28_previous_58 : decode cJ28_previous 58 = .ok (.isub, 1) := dk_100 (dk_at dksJ28_previous_2 12 rfl rfl)
theorem dJ28_previous_59 : decode cJ28_previous 59 = .ok (.putfield 33, 3) := dk_181 0 33 (dk_at dksJ28_previous_2 13 rfl rfl)
theorem dJ28_previous_62 : decode cJ28_previous 62 = .ok (.aload_n 0, 1) := dk_42 (dk_at dksJ28_previous_2 16 rfl rfl)
theorem dJ28_previous_63 : decode cJ28_previous 63 = .ok (.getfield 46, 3) := dk_180 0 46 (dk_at dksJ28_previous_2 17 rfl rfl)
theorem dJ28_previous_66 : decode cJ28_previous 66 = .ok (.getfield 52, 3) := dk_180 0 52 (dk_at dksJ28_previous_2 20 rfl rfl)
theorem dJ28_previous_69 : decode cJ28_previous 69 = .ok (.areturn, 1) := dk_176 (dk_at dksJ28_previous_2 23 rfl rfl)
def dkwJ28_checkForComodification_0 : List UInt8 := [42, 180, 0, 1, 180, 0, 13, 42, 180, 0, 19, 159, 0, 11, 187, 0, 91, 89, 183, 0, 93, 191, 177]
abbrev dktJ28_checkForComodification_0 : List UInt8 := dkwJ28_checkForComodification_0 ++ []
theorem dksJ28_checkForComodification_0 : cJ28_checkForComodification.data.toList.drop 0 = dktJ28_checkForComodification_0 := by decide +kernel
theorem dJ28_checkForComodification_0 : decode cJ28_checkForComodification 0 = .ok (.aload_n 0, 1) := dk_42 (dk_at dksJ28_checkForComodification_0 0 rfl rfl)
theorem dJ28_checkForComodification_1 : decode cJ28_checkForComodification 1 = .ok (.getfield 1, 3) := dk_180 0 1 (dk_at dksJ28_checkForComodification_0 1 rfl rfl)
theorem dJ28_checkForComodification_4 : decode cJ28_checkForComodification 4 = .ok (.getfield 13, 3) := dk_180 0 13 (dk_at dksJ28_checkForComodification_0 4 rfl rfl)
theorem dJ28_checkForComodification_7 : decode cJ28_checkForComodification 7 = .ok (.aload_n 0, 1) := dk_42 (dk_at dksJ28_checkForComodification_0 7 rfl rfl)
theorem dJ28_checkForComodification_8 : decode cJ28_checkForComodification 8 = .ok (.getfield 19, 3) := dk_180 0 19 (dk_at dksJ28_checkForComodification_0 8 rfl rfl)
theorem dJ28_checkForComodification_11 : decode cJ28_checkForComodification 11 = .ok (.if_icmp .eq 11, 3) := dk_159 0 11 (dk_at dksJ28_checkForComodification_0 11 rfl rfl)
theorem dJ28_checkForComodification_14 : decode cJ28_checkForComodification 14 = .ok (.new 91, 3) := dk_187 0 91 (dk_at dksJ28_checkForComodification_0 14 rfl rfl)
theorem dJ28_checkForComodification_17 : decode cJ28_checkForComodification 17 = .ok (.dup, 1) := dk_89 (dk_at dksJ28_checkForComodification_0 17 rfl rfl)
theorem dJ28_checkForComodification_18 : decode cJ28_checkForComodification 18 = .ok (.invokespecial 93, 3) := dk_183 0 93 (dk_at dksJ28_checkForComodification_0 18 rfl rfl)
theorem dJ28_checkForComodification_21 : decode cJ28_checkForComodification 21 = .ok (.athrow, 1) := dk_191 (dk_at dksJ28_checkForComodification_0 21 rfl rfl)
theorem dJ28_checkForComodification_22 : decode cJ28_checkForComodification 22 = .ok (.return_, 1) := dk_177 (dk_at dksJ28_checkForComodification_0 22 rfl rfl)
def dkwJ28_next_2 : List UInt8 := [42, 180, 0, 46, 180, 0, 52, 176]
abbrev dktJ28_next_2 : List UInt8 := dkwJ28_next_2 ++ []
def dkwJ28_next_1 : List UInt8 := [181, 0, 46, 42, 42, 180, 0, 29, 180, 0, 49, 181, 0, 29, 42, 89, 180, 0, 33, 4, 96, 181, 0, 33]
abbrev dktJ28_next_1 : List UInt8 := dkwJ28_next_1 ++ dktJ28_next_2
def dkwJ28_next_0 : List UInt8 := [42, 182, 0, 36, 42, 182, 0, 39, 154, 0, 11, 187, 0, 43, 89, 183, 0, 45, 191, 42, 42, 180, 0, 29]
abbrev dktJ28_next_0 : List UInt8 := dkwJ28_next_0 ++ dktJ28_next_1
theorem dksJ28_next_0 : cJ28_next.data.toList.drop 0 = dktJ28_next_0 := by decide +kernel
theorem dksJ28_next_1 : cJ28_next.data.toList.drop 24 = dktJ28_next_1 := dk_seg dksJ28_next_0 24 rfl rfl
theorem dksJ28_next_2 : cJ28_next.data.toList.drop 48 = dktJ28_next_2 := dk_seg dksJ28_next_1 24 rfl rfl
theorem dJ28_next_0 : decode cJ28_next 0 = .ok (.aload_n 0, 1) := dk_42 (dk_at dksJ28_next_0 0 rfl rfl)
theorem dJ28_next_1 : decode cJ28_next 1 = .ok (.invokevirtual 36, 3) := dk_182 0 36 (dk_at dksJ28_next_0 1 rfl rfl)
theorem dJ28_next_4 : decode cJ28_next 4 = .ok (.aload_n 0, 1) := dk_42 (dk_at dksJ28_next_0 4 rfl rfl)
theorem dJ28_next_5 : decode cJ28_next 5 = .ok (.invokevirtual 39, 3) := dk_182 0 39 (dk_at dksJ28_next_0 5 rfl rfl)
theorem dJ28_next_8 : decode cJ28_next 8 = .ok (.ifCond .ne 11, 3) := dk_154 0 11 (dk_at dksJ28_next_0 8 rfl rfl)
theorem dJ28_next_11 : decode cJ28_next 11 = .ok (.new 43, 3) := dk_187 0 43 (dk_at dksJ28_next_0 11 rfl rfl)
theorem dJ28_next_14 : decode cJ28_next 14 = .ok (.dup, 1) := dk_89 (dk_at dksJ28_next_0 14 rfl rfl)
theorem dJ28_next_15 : decode cJ28_next 15 = .ok (.invokespecial 45, 3) := dk_183 0 45 (dk_at dksJ28_next_0 15 rfl rfl)
theorem dJ28_next_18 : decode cJ28_next 18 = .ok (.athrow, 1) := dk_191 (dk_at dksJ28_next_0 18 rfl rfl)
theorem dJ28_next_19 : decode cJ28_next 19 = .ok (.aload_n 0, 1) := dk_42 (dk_at dksJ28_next_0 19 rfl rfl)
theorem dJ28_next_20 : decode cJ28_next 20 = .ok (.aload_n 0, 1) := dk_42 (dk_at dksJ28_next_0 20 rfl rfl)
theorem dJ28_next_21 : decode cJ28_next 21 = .ok (.getfield 29, 3) := dk_180 0 29 (dk_at dksJ28_next_0 21 rfl rfl)
theorem dJ28_next_24 : decode cJ28_next 24 = .ok (.putfield 46, 3) := dk_181 0 46 (dk_at dksJ28_next_1 0 rfl rfl)
theorem dJ28_next_27 : decode cJ28_next 27 = .ok (.aload_n 0, 1) := dk_42 (dk_at dksJ28_next_1 3 rfl rfl)
theorem dJ28_next_28 : decode cJ28_next 28 = .ok (.aload_n 0, 1) := dk_42 (dk_at dksJ28_next_1 4 rfl rfl)
theorem dJ28_next_29 : decode cJ28_next 29 = .ok (.getfield 29, 3) := dk_180 0 29 (dk_at dksJ28_next_1 5 rfl rfl)
theorem dJ28_next_32 : decode cJ28_next 32 = .ok (.getfield 49, 3) := dk_180 0 49 (dk_at dksJ28_next_1 8 rfl rfl)
theorem dJ28_next_35 : decode cJ28_next 35 = .ok (.putfield 29, 3) := dk_181 0 29 (dk_at dksJ28_next_1 11 rfl rfl)
theorem dJ28_next_38 : decode cJ28_next 38 = .ok (.aload_n 0, 1) := dk_42 (dk_at dksJ28_next_1 14 rfl rfl)
theorem dJ28_next_39 : decode cJ28_next 39 = .ok (.dup, 1) := dk_89 (dk_at dksJ28_next_1 15 rfl rfl)
theorem dJ28_next_40 : decode cJ28_next 40 = .ok (.getfield 33, 3) := dk_180 0 33 (dk_at dksJ28_next_1 16 rfl rfl)
theorem dJ28_next_43 : decode cJ28_next 43 = .ok (.iconst 1, 1) := dk_4 (dk_at dksJ28_next_1 19 rfl rfl)
theorem dJ28_next_44 : decode cJ28_next 44 = .ok (.iadd, 1) := dk_96 (dk_at dksJ28_next_1 20 rfl rfl)
theorem dJ28_next_45 : decode cJ28_next 45 = .ok (.putfield 33, 3) := dk_181 0 33 (dk_at dksJ28_next_1 21 rfl rfl)
theorem dJ28_next_48 : decode cJ28_next 48 = .ok (.aload_n 0, 1) := dk_42 (dk_at dksJ28_next_2 0 rfl rfl)
theorem dJ28_next_49 : decode cJ28_next 49 = .ok (.getfield 46, 3) := dk_180 0 46 (dk_at dksJ28_next_2 1 rfl rfl)
theorem dJ28_next_52 : decode cJ28_next 52 = .ok (.getfield 52, 3) := dk_180 0 52 (dk_at dksJ28_next_2 4 rfl rfl)
theorem dJ28_next_55 : decode cJ28_next 55 = .ok (.areturn, 1) := dk_176 (dk_at dksJ28_next_2 7 rfl rfl)
def dkwJ28_remove_3 : List UInt8 := [181, 0, 46, 42, 89, 180, 0, 19, 4, 96, 181, 0, 19, 177]
abbrev dktJ28_remove_3 : List UInt8 := dkwJ28_remove_3 ++ []
def dkwJ28_remove_2 : List UInt8 := [166, 0, 11, 42, 43, 181, 0, 29, 167, 0, 13, 42, 89, 180, 0, 33, 4, 100, 181, 0, 33, 42, 1]
abbrev dktJ28_remove_2 : List UInt8 := dkwJ28_remove_2 ++ dktJ28_remove_3
def dkwJ28_remove_1 : List UInt8 := [180, 0, 49, 76, 42, 180, 0, 1, 42, 180, 0, 46, 182, 0, 68, 87, 42, 180, 0, 29, 42, 180, 0, 46]
abbrev dktJ28_remove_1 : List UInt8 := dkwJ28_remove_1 ++ dktJ28_remove_2
def dkwJ28_remove_0 : List UInt8 := [42, 182, 0, 36, 42, 180, 0, 46, 199, 0, 11, 187, 0, 65, 89, 183, 0, 67, 191, 42, 180, 0, 46]
abbrev dktJ28_remove_0 : List UInt8 := dkwJ28_remove_0 ++ dktJ28_remove_1
theorem dksJ28_remove_0 : cJ28_remove.data.toList.drop 0 = dktJ28_remove_0 := by decide +kernel
theorem dksJ28_remove_1 : cJ28_remove.data.toList.drop 23 = dktJ28_remove_1 := dk_seg dksJ28_remove_0 23 rfl rfl
theorem dksJ28_remove_2 : cJ28_remove.data.toList.drop 47 = dktJ28_remove_2 := dk_seg dksJ28_remove_1 24 rfl rfl
theorem dksJ28_remove_3 : cJ28_remove.data.toList.drop 70 = dktJ28_remove_3 := dk_seg dksJ28_remove_2 23 rfl rfl
theorem dJ28_remove_0 : decode cJ28_remove 0 = .ok (.aload_n 0, 1) := dk_42 (dk_at dksJ28_remove_0 0 rfl rfl)
theorem dJ28_remove_1 : decode cJ28_remove 1 = .ok (.invokevirtual 36, 3) := dk_182 0 36 (dk_at dksJ28_remove_0 1 rfl rfl)
theorem dJ28_remove_4 : decode cJ28_remove 4 = .ok (.aload_n 0, 1) := dk_42 (dk_at dksJ28_remove_0 4 rfl rfl)
theorem dJ28_remove_5 : decode cJ28_remove 5 = .ok (.getfield 46, 3) := dk_180 0 46 (dk_at dksJ28_remove_0 5 rfl rfl)
theorem dJ28_remove_8 : decode cJ28_remove 8 = .ok (.ifnonnull 11, 3) := dk_199 0 11 (dk_at dksJ28_remove_0 8 rfl rfl)
theorem dJ28_remove_11 : decode cJ28_remove 11 = .ok (.new 65, 3) := dk_187 0 65 (dk_at dksJ28_remove_0 11 rfl rfl)
theorem dJ28_remove_14 : decode cJ28_remove 14 = .ok (.dup, 1) := dk_89 (dk_at dksJ28_remove_0 14 rfl rfl)
theorem dJ28_remove_15 : decode cJ28_remove 15 = .ok (.invokespecial 67, 3) := dk_183 0 67 (dk_at dksJ28_remove_0 15 rfl rfl)
theorem dJ28_remove_18 : decode cJ28_remove 18 = .ok (.athrow, 1) := dk_191 (dk_at dksJ28_remove_0 18 rfl rfl)
theorem dJ28_remove_19 : decode cJ28_remove 19 = .ok (.aload_n 0, 1) := dk_42 (dk_at dksJ28_remove_0 19 rfl rfl)
theorem dJ28_remove_20 : decode cJ28_remove 20 = .ok (.getfield 46, 3) := dk_180 0 46 (dk_at dksJ28_remove_0 20 rfl rfl)
theorem dJ28_remove_23 : decode cJ28_remove 23 = .ok (.getfield 49, 3) := dk_180 0 49 (dk_at dksJ28_remove_1 0 rfl rfl)
theorem dJ28_remove_26 : decode cJ28_remove 26 = .ok (.astore_n 1, 1) := dk_76 (dk_at dksJ28_remove_1 3 rfl rfl)
theorem dJ28_remove_27 : decode cJ28_remove 27 = .ok (.aload_n 0, 1) := dk_42 (dk_at dksJ28_remove_1 4 rfl rfl)
theorem dJ28_remove_28 : decode cJ28_remove 28 = .ok (.getfield 1, 3) := dk_180 0 1 (dk_at dksJ28_remove_1 5 rfl rfl)
theorem dJ28_remove_31 : decode cJ28_remove 31 = .ok (.aload_n 0, 1) := dk_42 (dk_at dksJ28_remove_1 8 rfl rfl)
theorem dJ28_remove_32 : decode cJ28_remove 32 = .ok (.getfield 46, 3) := dk_180 0 46 (dk_at dksJ28_remove_1 9 rfl rfl)
theorem dJ28_remove_35 : decode cJ28_remove 35 = .ok (.invokevirtual 68, 3) := dk_182 0 68 (dk_at dksJ28_remove_1 12 rfl rfl)
theorem dJ28_remove_38 : decode cJ28_remove 38 = .ok (.pop, 1) := dk_87 (dk_at dksJ28_remove_1 15 rfl rfl)
theorem dJ28_remove_39 : decode cJ28_remove 39 = .ok (.aload_n 0, 1) := dk_42 (dk_at dksJ28_remove_1 16 rfl rfl)
theorem dJ28_remove_40 : decode cJ28_remove 40 = .ok (.getfield 29, 3) := dk_180 0 29 (dk_at dksJ28_remove_1 17 rfl rfl)
theorem dJ28_remove_43 : decode cJ28_remove 43 = .ok (.aload_n 0, 1) := dk_42 (dk_at dksJ28_remove_1 20 rfl rfl)
theorem dJ28_remove_44 : decode cJ28_remove 44 = .ok (.getfield 46, 3) := dk_180 0 46 (dk_at dksJ28_remove_1 21 rfl rfl)
theorem dJ28_remove_47 : decode cJ28_remove 47 = .ok (.if_acmp .ne 11, 3) := dk_166 0 11 (dk_at dksJ28_remove_2 0 rfl rfl)
theorem dJ28_remove_50 : decode cJ28_remove 50 = .ok (.aload_n 0, 1) := dk_42 (dk_at dksJ28_remove_2 3 rfl rfl)
theorem dJ28_remove_51 : decode cJ28_remove 51 = .ok (.aload_n 1, 1) := dk_43 (dk_at dksJ28_remove_2 4 rfl rfl)
theorem dJ28_remove_52 : decode cJ28_remove 52 = .ok (.putfield 29, 3) := dk_181 0 29 (dk_at dksJ28_remove_2 5 rfl rfl)
theorem dJ28_remove_55 : decode cJ28_remove 55 = .ok (.goto 13, 3) := dk_167 0 13 (dk_at dksJ28_remove_2 8 rfl rfl)
theorem dJ28_remove_58 : decode cJ28_remove 58 = .ok (.aload_n 0, 1) := dk_42 (dk_at dksJ28_remove_2 11 rfl rfl)
theorem dJ28_remove_59 : decode cJ28_remove 59 = .ok (.dup, 1) := dk_89 (dk_at dksJ28_remove_2 12 rfl rfl)
theorem dJ28_remove_60 : decode cJ28_remove 60 = .ok (.getfield 33, 3) := dk_180 0 33 (dk_at dksJ28_remove_2 13 rfl rfl)
theorem dJ28_remove_63 : decode cJ28_remove 63 = .ok (.iconst 1, 1) := dk_4 (dk_at dksJ28_remove_2 16 rfl rfl)
theorem dJ28_remove_64 : decode cJ28_remove 64 = .ok (.isub, 1) := dk_100 (dk_at dksJ28_remove_2 17 rfl rfl)
theorem dJ28_remove_65 : decode cJ28_remove 65 = .ok (.putfield 33, 3) := dk_181 0 33 (dk_at dksJ28_remove_2 18 rfl rfl)
theorem dJ28_remove_68 : decode cJ28_remove 68 = .ok (.aload_n 0, 1) := dk_42 (dk_at dksJ28_remove_2 21 rfl rfl)
theorem dJ28_remove_69 : decode cJ28_remove 69 = .ok (.aconst_null, 1) := dk_1 (dk_at dksJ28_remove_2 22 rfl rfl)
theorem dJ28_remove_70 : decode cJ28_remove 70 = .ok (.putfield 46, 3) := dk_181 0 46 (dk_at dksJ28_remove_3 0 rfl rfl)
theorem dJ28_remove_73 : decode cJ28_remove 73 = .ok (.aload_n 0, 1) := dk_42 (dk_at dksJ28_remove_3 3 rfl rfl)
theorem dJ28_remove_74 : decode cJ28_remove 74 = .ok (.dup, 1) := dk_89 (dk_at dksJ28_remove_3 4 rfl rfl)
theorem dJ28_remove_75 : decode cJ28_remove 75 = .ok (.getfield 19, 3) := dk_180 0 19 (dk_at dksJ28_remove_3 5 rfl rfl)
theorem dJ28_remove_78 : decode cJ28_remove 78 = .ok (.iconst 1, 1) := dk_4 (dk_at dksJ28_remove_3 8 rfl rfl)
theorem dJ28_remove_79 : decode cJ28_remove 79 = .ok (.iadd, 1) := dk_96 (dk_at dksJ28_remove_3 9 rfl rfl)
theorem dJ28_remove_80 : decode cJ28_remove 80 = .ok (.putfield 19, 3) := dk_181 0 19 (dk_at dksJ28_remove_3 10 rfl rfl)
theorem dJ28_remove_83 : decode cJ28_remove 83 = .ok (.return_, 1) := dk_177 (dk_at dksJ28_remove_3 13 rfl rfl)
def dkwJ29_checkIndex_0 : List UInt8 := [26, 27, 1, 184, 0, 105, 172]
abbrev dktJ29_checkIndex_0 : List UInt8 := dkwJ29_checkIndex_0 ++ []
theorem dksJ29_checkIndex_0 : cJ29_checkIndex.data.toList.drop 0 = dktJ29_checkIndex_0 := by decide +kernel
theorem dJ29_checkIndex_0 : decode cJ29_checkIndex 0 = .ok (.iload_n 0, 1) := dk_26 (dk_at dksJ29_checkIndex_0 0 rfl rfl)
theorem dJ29_checkIndex_1 : decode cJ29_checkIndex 1 = .ok (.iload_n 1, 1) := dk_27 (dk_at dksJ29_checkIndex_0 1 rfl rfl)
theorem dJ29_checkIndex_2 : decode cJ29_checkIndex 2 = .ok (.aconst_null, 1) := dk_1 (dk_at dksJ29_checkIndex_0 2 rfl rfl)
theorem dJ29_checkIndex_3 : decode cJ29_checkIndex 3 = .ok (.invokestatic 105, 3) := dk_184 0 105 (dk_at dksJ29_checkIndex_0 3 rfl rfl)
theorem dJ29_checkIndex_6 : decode cJ29_checkIndex 6 = .ok (.ireturn, 1) := dk_172 (dk_at dksJ29_checkIndex_0 6 rfl rfl)
def dkwJ32_hasNext_0 : List UInt8 := [42, 180, 0, 24, 182, 0, 28, 172]
abbrev dktJ32_hasNext_0 : List UInt8 := dkwJ32_hasNext_0 ++ []
theorem dksJ32_hasNext_0 : cJ32_hasNext.data.toList.drop 0 = dktJ32_hasNext_0 := by decide +kernel
theorem dJ32_hasNext_0 : decode cJ32_hasNext 0 = .ok (.aload_n 0, 1) := dk_42 (dk_at dksJ32_hasNext_0 0 rfl rfl)
theorem dJ32_hasNext_1 : decode cJ32_hasNext 1 = .ok (.getfield 24, 3) := dk_180 0 24 (dk_at dksJ32_hasNext_0 1 rfl rfl)
theorem dJ32_hasNext_4 : decode cJ32_hasNext 4 = .ok (.invokevirtual 28, 3) := dk_182 0 28 (dk_at dksJ32_hasNext_0 4 rfl rfl)
theorem dJ32_hasNext_7 : decode cJ32_hasNext 7 = .ok (.ireturn, 1) := dk_172 (dk_at dksJ32_hasNext_0 7 rfl rfl)
def dkwJ32_next_0 : List UInt8 := [42, 180, 0, 24, 182, 0, 32, 176]
abbrev dktJ32_next_0 : List UInt8 := dkwJ32_next_0 ++ []
theorem dksJ32_next_0 : cJ32_next.data.toList.drop 0 = dktJ32_next_0 := by decide +kernel
theorem dJ32_next_0 : decode cJ32_next 0 = .ok (.aload_n 0, 1) := dk_42 (dk_at dksJ32_next_0 0 rfl rfl)
theorem dJ32_next_1 : decode cJ32_next 1 = .ok (.getfield 24, 3) := dk_180 0 24 (dk_at dksJ32_next_0 1 rfl rfl)
theorem dJ32_next_4 : decode cJ32_next 4 = .ok (.invokevirtual 32, 3) := dk_182 0 32 (dk_at dksJ32_next_0 4 rfl rfl)
theorem dJ32_next_7 : decode cJ32_next 7 = .ok (.areturn, 1) := dk_176 (dk_at dksJ32_next_0 7 rfl rfl)
def dkwJ32_remove_0 : List UInt8 := [42, 180, 0, 24, 182, 0, 36, 177]
abbrev dktJ32_remove_0 : List UInt8 := dkwJ32_remove_0 ++ []
theorem dksJ32_remove_0 : cJ32_remove.data.toList.drop 0 = dktJ32_remove_0 := by decide +kernel
theorem dJ32_remove_0 : decode cJ32_remove 0 = .ok (.aload_n 0, 1) := dk_42 (dk_at dksJ32_remove_0 0 rfl rfl)
theorem dJ32_remove_1 : decode cJ32_remove 1 = .ok (.getfield 24, 3) := dk_180 0 24 (dk_at dksJ32_remove_0 1 rfl rfl)
theorem dJ32_remove_4 : decode cJ32_remove 4 = .ok (.invokevirtual 36, 3) := dk_182 0 36 (dk_at dksJ32_remove_0 4 rfl rfl)
theorem dJ32_remove_7 : decode cJ32_remove 7 = .ok (.return_, 1) := dk_177 (dk_at dksJ32_remove_0 7 rfl rfl)
def dkwJ32_init_1 : List UInt8 := [182, 0, 15, 183, 0, 21, 181, 0, 24, 177]
abbrev dktJ32_init_1 : List UInt8 := dkwJ32_init_1 ++ []
def dkwJ32_init_0 : List UInt8 := [42, 43, 181, 0, 1, 42, 183, 0, 7, 42, 187, 0, 13, 89, 42, 180, 0, 1, 42, 180, 0, 1]
abbrev dktJ32_init_0 : List UInt8 := dkwJ32_init_0 ++ dktJ32_init_1
theorem dksJ32_init_0 : cJ32_init.data.toList.drop 0 = dktJ32_init_0 := by decide +kernel
theorem dksJ32_init_1 : cJ32_init.data.toList.drop 22 = dktJ32_init_1 := dk_seg dksJ32_init_0 22 rfl rfl
theorem dJ32_init_0 : decode cJ32_init 0 = .ok (.aload_n 0, 1) := dk_42 (dk_at dksJ32_init_0 0 rfl rfl)
theorem dJ32_init_1 : decode cJ32_init 1 = .ok (.aload_n 1, 1) := dk_43 (dk_at dksJ32_init_0 1 rfl rfl)
theorem dJ32_init_2 : decode cJ32_init 2 = .ok (.putfield 1, 3) := dk_181 0 1 (dk_at dksJ32_init_0 2 rfl rfl)
theorem dJ32_init_5 : decode cJ32_init 5 = .ok (.aload_n 0, 1) := dk_42 (dk_at dksJ32_init_0 5 rfl rfl)
theorem dJ32_init_6 : decode cJ32_init 6 = .ok (.invokespecial 7, 3) := dk_183 0 7 (dk_at dksJ32_init_0 6 rfl rfl)
theorem dJ32_init_9 : decode cJ32_init 9 = .ok (.aload_n 0, 1) := dk_42 (dk_at dksJ32_init_0 9 rfl rfl)
theorem dJ32_init_10 : decode cJ32_init 10 = .ok (.new 13, 3) := dk_187 0 13 (dk_at dksJ32_init_0 10 rfl rfl)
theorem dJ32_init_13 : decode cJ32_init 13 = .ok (.dup, 1) := dk_89 (dk_at dksJ32_init_0 13 rfl rfl)
theorem dJ32_init_14 : decode cJ32_init 14 = .ok (.aload_n 0, 1) := dk_42 (dk_at dksJ32_init_0 14 rfl rfl)
theorem dJ32_init_15 : decode cJ32_init 15 = .ok (.getfield 1, 3) := dk_180 0 1 (dk_at dksJ32_init_0 15 rfl rfl)
theorem dJ32_init_18 : decode cJ32_init 18 = .ok (.aload_n 0, 1) := dk_42 (dk_at dksJ32_init_0 18 rfl rfl)
theorem dJ32_init_19 : decode cJ32_init 19 = .ok (.getfield 1, 3) := dk_180 0 1 (dk_at dksJ32_init_0 19 rfl rfl)
theorem dJ32_init_22 : decode cJ32_init 22 = .ok (.invokevirtual 15, 3) := dk_182 0 15 (dk_at dksJ32_init_1 0 rfl rfl)
theorem dJ32_init_25 : decode cJ32_init 25 = .ok (.invokespecial 21, 3) := dk_183 0 21 (dk_at dksJ32_init_1 3 rfl rfl)
theorem dJ32_init_28 : decode cJ32_init 28 = .ok (.putfield 24, 3) := dk_181 0 24 (dk_at dksJ32_init_1 6 rfl rfl)
theorem dJ32_init_31 : decode cJ32_init 31 = .ok (.return_, 1) := dk_177 (dk_at dksJ32_init_1 9 rfl rfl)
def dkwJ35_hasNext_0 : List UInt8 := [42, 180, 0, 19, 158, 0, 7, 4, 167, 0, 4, 3, 172]
abbrev dktJ35_hasNext_0 : List UInt8 := dkwJ35_hasNext_0 ++ []
theorem dksJ35_hasNext_0 : cJ35_hasNext.data.toList.drop 0 = dktJ35_hasNext_0 := by decide +kernel
theorem dJ35_hasNext_0 : decode cJ35_hasNext 0 = .ok (.aload_n 0, 1) := dk_42 (dk_at dksJ35_hasNext_0 0 rfl rfl)
theorem dJ35_hasNext_1 : decode cJ35_hasNext 1 = .ok (.getfield 19, 3) := dk_180 0 19 (dk_at dksJ35_hasNext_0 1 rfl rfl)
theorem dJ35_hasNext_4 : decode cJ35_hasNext 4 = .ok (.ifCond .le 7, 3) := dk_158 0 7 (dk_at dksJ35_hasNext_0 4 rfl rfl)
theorem dJ35_hasNext_7 : decode cJ35_hasNext 7 = .ok (.iconst 1, 1) := dk_4 (dk_at dksJ35_hasNext_0 7 rfl rfl)
theorem dJ35_hasNext_8 : decode cJ35_hasNext 8 = .ok (.goto 4, 3) := dk_167 0 4 (dk_at dksJ35_hasNext_0 8 rfl rfl)
theorem dJ35_hasNext_11 : decode cJ35_hasNext 11 = .ok (.iconst 0, 1) := dk_3 (dk_at dksJ35_hasNext_0 11 rfl rfl)
theorem dJ35_hasNext_12 : decode cJ35_hasNext 12 = .ok (.ireturn, 1) := dk_172 (dk_at dksJ35_hasNext_0 12 rfl rfl)
def dkwJ35_next_2 : List UInt8 := [181, 0, 29, 42, 89, 180, 0, 19, 4, 100, 181, 0, 19, 44, 176]
abbrev dktJ35_next_2 : List UInt8 := dkwJ35_next_2 ++ []
def dkwJ35_next_1 : List UInt8 := [42, 180, 0, 29, 184, 0, 39, 77, 42, 42, 42, 180, 0, 29, 90, 181, 0, 23, 43, 190, 184, 0, 43]
abbrev dktJ35_next_1 : List UInt8 := dkwJ35_next_1 ++ dktJ35_next_2
def dkwJ35_next_0 : List UInt8 := [42, 180, 0, 19, 157, 0, 11, 187, 0, 32, 89, 183, 0, 34, 191, 42, 180, 0, 1, 180, 0, 35, 76, 43]
abbrev dktJ35_next_0 : List UInt8 := dkwJ35_next_0 ++ dktJ35_next_1
theorem dksJ35_next_0 : cJ35_next.data.toList.drop 0 = dktJ35_next_0 := by decide +kernel
theorem dksJ35_next_1 : cJ35_next.data.toList.drop 24 = dktJ35_next_1 := dk_seg dksJ35_next_0 24 rfl rfl
theorem dksJ35_next_2 : cJ35_next.data.toList.drop 47 = dktJ35_next_2 := dk_seg dksJ35_next_1 23 rfl rfl
theorem dJ35_next_0 : decode cJ35_next 0 = .ok (.aload_n 0, 1) := dk_42 (dk_at dksJ35_next_0 0 rfl rfl)
theorem dJ35_next_1 : decode cJ35_next 1 = .ok (.getfield 19, 3) := dk_180 0 19 (dk_at dksJ35_next_0 1 rfl rfl)
theorem dJ35_next_4 : decode cJ35_next 4 = .ok (.ifCond .gt 11, 3) := dk_157 0 11 (dk_at dksJ35_next_0 4 rfl rfl)
theorem dJ35_next_7 : decode cJ35_next 7 = .ok (.new 32, 3) := dk_187 0 32 (dk_at dksJ35_next_0 7 rfl rfl)
theorem dJ35_next_10 : decode cJ35_next 10 = .ok (.dup, 1) := dk_89 (dk_at dksJ35_next_0 10 rfl rfl)
theorem dJ35_next_11 : decode cJ35_next 11 = .ok (.invokespecial 34, 3) := dk_183 0 34 (dk_at dksJ35_next_0 11 rfl rfl)
theorem dJ35_next_14 : decode cJ35_next 14 = .ok (.athrow, 1) := dk_191 (dk_at dksJ35_next_0 14 rfl rfl)
theorem dJ35_next_15 : decode cJ35_next 15 = .ok (.aload_n 0, 1) := dk_42 (dk_at dksJ35_next_0 15 rfl rfl)
theorem dJ35_next_16 : decode cJ35_next 16 = .ok (.getfield 1, 3) := dk_180 0 1 (dk_at dksJ35_next_0 16 rfl rfl)
theorem dJ35_next_19 : decode cJ35_next 19 = .ok (.getfield 35, 3) := dk_180 0 35 (dk_at dksJ35_next_0 19 rfl rfl)
theorem dJ35_next_22 : decode cJ35_next 22 = .ok (.astore_n 1, 1) := dk_76 (dk_at dksJ35_next_0 22 rfl rfl)
theorem dJ35_next_23 : decode cJ35_next 23 = .ok (.aload_n 1, 1) := dk_43 (dk_at dksJ35_next_0 23 rfl rfl)
theorem dJ35_next_24 : decode cJ35_next 24 = .ok (.aload_n 0, 1) := dk_42 (dk_at dksJ35_next_1 0 rfl rfl)
theorem dJ35_next_25 : decode cJ35_next 25 = .ok (.getfield 29, 3) := dk_180 0 29 (dk_at dksJ35_next_1 1 rfl rfl)
theorem dJ35_next_28 : decode cJ35_next 28 = .ok (.invokestatic 39, 3) := dk_184 0 39 (dk_at dksJ35_next_1 4 rfl rfl)
theorem dJ35_next_31 : decode cJ35_next 31 = .ok (.astore_n 2, 1) := dk_77 (dk_at dksJ35_next_1 7 rfl rfl)
theorem dJ35_next_32 : decode cJ35_next 32 = .ok (.aload_n 0, 1) := dk_42 (dk_at dksJ35_next_1 8 rfl rfl)
theorem dJ35_next_33 : decode cJ35_next 33 = .ok (.aload_n 0, 1) := dk_42 (dk_at dksJ35_next_1 9 rfl rfl)
theorem dJ35_next_34 : decode cJ35_next 34 = .ok (.aload_n 0, 1) := dk_42 (dk_at dksJ35_next_1 10 rfl rfl)
theorem dJ35_next_35 : decode cJ35_next 35 = .ok (.getfield 29, 3) := dk_180 0 29 (dk_at dksJ35_next_1 11 rfl rfl)
theorem dJ35_next_38 : decode cJ35_next 38 = .ok (.dup_x1, 1) := dk_90 (dk_at dksJ35_next_1 14 rfl rfl)
theorem dJ35_next_39 : decode cJ35_next 39 = .ok (.putfield 23, 3) := dk_181 0 23 (dk_at dksJ35_next_1 15 rfl rfl)
theorem dJ35_next_42 : decode cJ35_next 42 = .ok (.aload_n 1, 1) := dk_43 (dk_at dksJ35_next_1 18 rfl rfl)
theorem dJ35_next_43 : decode cJ35_next 43 = .ok (.arraylength, 1) := dk_190 (dk_at dksJ35_next_1 19 rfl rfl)
theorem dJ35_next_44 : decode cJ35_next 44 = .ok (.invokestatic 43, 3) := dk_184 0 43 (dk_at dksJ35_next_1 20 rfl rfl)
theorem dJ35_next_47 : decode cJ35_next 47 = .ok (.putfield 29, 3) := dk_181 0 29 (dk_at dksJ35_next_2 0 rfl rfl)
theorem dJ35_next_50 : decode cJ35_next 50 = .ok (.aload_n 0, 1) := dk_42 (dk_at dksJ35_next_2 3 rfl rfl)
theorem dJ35_next_51 : decode cJ35_next 51 = .ok (.dup, 1) := dk_89 (dk_at dksJ35_next_2 4 rfl rfl)
theorem dJ35_next_52 : decode cJ35_next 52 = .ok (.getfield 19, 3) := dk_180 0 19 (dk_at dksJ35_next_2 5 rfl rfl)
theorem dJ35_next_55 : decode cJ35_next 55 = .ok (.iconst 1, 1) := dk_4 (dk_at dksJ35_next_2 8 rfl rfl)
theorem dJ35_next_56 : decode cJ35_next 56 = .ok (.isub, 1) := dk_100 (dk_at dksJ35_next_2 9 rfl rfl)
theorem dJ35_next_57 : decode cJ35_next 57 = .ok (.putfield 19, 3) := dk_181 0 19 (dk_at dksJ35_next_2 10 rfl rfl)
theorem dJ35_next_60 : decode cJ35_next 60 = .ok (.aload_n 2, 1) := dk_44 (dk_at dksJ35_next_2 13 rfl rfl)
theorem dJ35_next_61 : decode cJ35_next 61 = .ok (.areturn, 1) := dk_176 (dk_at dksJ35_next_2 14 rfl rfl)
def dkwJ35_init_1 : List UInt8 := [181, 0, 23, 42, 43, 180, 0, 26, 181, 0, 29, 177]
abbrev dktJ35_init_1 : List UInt8 := dkwJ35_init_1 ++ []
def dkwJ35_init_0 : List UInt8 := [42, 43, 181, 0, 1, 42, 183, 0, 7, 42, 42, 180, 0, 1, 182, 0, 13, 181, 0, 19, 42, 2]
abbrev dktJ35_init_0 : List UInt8 := dkwJ35_init_0 ++ dktJ35_init_1
theorem dksJ35_init_0 : cJ35_init.data.toList.drop 0 = dktJ35_init_0 := by decide +kernel
theorem dksJ35_init_1 : cJ35_init.data.toList.drop 22 = dktJ35_init_1 := dk_seg dksJ35_init_0 22 rfl rfl
theorem dJ35_init_0 : decode cJ35_init 0 = .ok (.aload_n 0, 1) := dk_42 (dk_at dksJ35_init_0 0 rfl rfl)
theorem dJ35_init_1 : decode cJ35_init 1 = .ok (.aload_n 1, 1) := dk_43 (dk_at dksJ35_init_0 1 rfl rfl)
theorem dJ35_init_2 : decode cJ35_init 2 = .ok (.putfield 1, 3) := dk_181 0 1 (dk_at dksJ35_init_0 2 rfl rfl)
theorem dJ35_init_5 : decode cJ35_init 5 = .ok (.aload_n 0, 1) := dk_42 (dk_at dksJ35_init_0 5 rfl rfl)
theorem dJ35_init_6 : decode cJ35_init 6 = .ok (.invokespecial 7, 3) := dk_183 0 7 (dk_at dksJ35_init_0 6 rfl rfl)
theorem dJ35_init_9 : decode cJ35_init 9 = .ok (.aload_n 0, 1) := dk_42 (dk_at dksJ35_init_0 9 rfl rfl)
theorem dJ35_init_10 : decode cJ35_init 10 = .ok (.aload_n 0, 1) := dk_42 (dk_at dksJ35_init_0 10 rfl rfl)
theorem dJ35_init_11 : decode cJ35_init 11 = .ok (.getfield 1, 3) := dk_180 0 1 (dk_at dksJ35_init_0 11 rfl rfl)
theorem dJ35_init_14 : decode cJ35_init 14 = .ok (.invokevirtual 13, 3) := dk_182 0 13 (dk_at dksJ35_init_0 14 rfl rfl)
theorem dJ35_init_17 : decode cJ35_init 17 = .ok (.putfield 19, 3) := dk_181 0 19 (dk_at dksJ35_init_0 17 rfl rfl)
theorem dJ35_init_20 : decode cJ35_init 20 = .ok (.aload_n 0, 1) := dk_42 (dk_at dksJ35_init_0 20 rfl rfl)
theorem dJ35_init_21 : decode cJ35_init 21 = .ok (.iconst (-1), 1) := dk_2 (dk_at dksJ35_init_0 21 rfl rfl)
theorem dJ35_init_22 : decode cJ35_init 22 = .ok (.putfield 23, 3) := dk_181 0 23 (dk_at dksJ35_init_1 0 rfl rfl)
theorem dJ35_init_25 : decode cJ35_init 25 = .ok (.aload_n 0, 1) := dk_42 (dk_at dksJ35_init_1 3 rfl rfl)
theorem dJ35_init_26 : decode cJ35_init 26 = .ok (.aload_n 1, 1) := dk_43 (dk_at dksJ35_init_1 4 rfl rfl)
theorem dJ35_init_27 : decode cJ35_init 27 = .ok (.getfield 26, 3) := dk_180 0 26 (dk_at dksJ35_init_1 5 rfl rfl)
theorem dJ35_init_30 : decode cJ35_init 30 = .ok (.putfield 29, 3) := dk_181 0 29 (dk_at dksJ35_init_1 8 rfl rfl)
theorem dJ35_init_33 : decode cJ35_init 33 = .ok (.return_, 1) := dk_177 (dk_at dksJ35_init_1 11 rfl rfl)
theorem dJ36_init_0 : decode cJ36_init 0 = .ok (.return_, 1) := by decide +kernel
def dkwJ36_equals_0 : List UInt8 := [42, 43, 166, 0, 7, 4, 167, 0, 4, 3, 172]
abbrev dktJ36_equals_0 : List UInt8 := dkwJ36_equals_0 ++ []
theorem dksJ36_equals_0 : cJ36_equals.data.toList.drop 0 = dktJ36_equals_0 := by decide +kernel
theorem dJ36_equals_0 : decode cJ36_equals 0 = .ok (.aload_n 0, 1) := dk_42 (dk_at dksJ36_equals_0 0 rfl rfl)
theorem dJ36_equals_1 : decode cJ36_equals 1 = .ok (.aload_n 1, 1) := dk_43 (dk_at dksJ36_equals_0 1 rfl rfl)
theorem dJ36_equals_2 : decode cJ36_equals 2 = .ok (.if_acmp .ne 7, 3) := dk_166 0 7 (dk_at dksJ36_equals_0 2 rfl rfl)
theorem dJ36_equals_5 : decode cJ36_equals 5 = .ok (.iconst 1, 1) := dk_4 (dk_at dksJ36_equals_0 5 rfl rfl)
theorem dJ36_equals_6 : decode cJ36_equals 6 = .ok (.goto 4, 3) := dk_167 0 4 (dk_at dksJ36_equals_0 6 rfl rfl)
theorem dJ36_equals_9 : decode cJ36_equals 9 = .ok (.iconst 0, 1) := dk_3 (dk_at dksJ36_equals_0 9 rfl rfl)
theorem dJ36_equals_10 : decode cJ36_equals 10 = .ok (.ireturn, 1) := dk_172 (dk_at dksJ36_equals_0 10 rfl rfl)
def dkwJ15_newLength_1 : List UInt8 := [184, 0, 201, 172]
abbrev dktJ15_newLength_1 : List UInt8 := dkwJ15_newLength_1 ++ []
def dkwJ15_newLength_0 : List UInt8 := [26, 27, 28, 184, 0, 194, 96, 62, 3, 29, 162, 0, 11, 29, 18, 200, 163, 0, 5, 29, 172, 26, 27]
abbrev dktJ15_newLength_0 : List UInt8 := dkwJ15_newLength_0 ++ dktJ15_newLength_1
theorem dksJ15_newLength_0 : cJ15_newLength.data.toList.drop 0 = dktJ15_newLength_0 := by decide +kernel
theorem dksJ15_newLength_1 : cJ15_newLength.data.toList.drop 23 = dktJ15_newLength_1 := dk_seg dksJ15_newLength_0 23 rfl rfl
theorem dJ15_newLength_0 : decode cJ15_newLength 0 = .ok (.iload_n 0, 1) := dk_26 (dk_at dksJ15_newLength_0 0 rfl rfl)
theorem dJ15_newLength_1 : decode cJ15_newLength 1 = .ok (.iload_n 1, 1) := dk_27 (dk_at dksJ15_newLength_0 1 rfl rfl)
theorem dJ15_newLength_2 : decode cJ15_newLength 2 = .ok (.iload_n 2, 1) := dk_28 (dk_at dksJ15_newLength_0 2 rfl rfl)
theorem dJ15_newLength_3 : decode cJ15_newLength 3 = .ok (.invokestatic 194, 3) := dk_184 0 194 (dk_at dksJ15_newLength_0 3 rfl rfl)
theorem dJ15_newLength_6 : decode cJ15_newLength 6 = .ok (.iadd, 1) := dk_96 (dk_at dksJ15_newLength_0 6 rfl rfl)
theorem dJ15_newLength_7 : decode cJ15_newLength 7 = .ok (.istore_n 3, 1) := dk_62 (dk_at dksJ15_newLength_0 7 rfl rfl)
theorem dJ15_newLength_8 : decode cJ15_newLength 8 = .ok (.iconst 0, 1) := dk_3 (dk_at dksJ15_newLength_0 8 rfl rfl)
theorem dJ15_newLength_9 : decode cJ15_newLength 9 = .ok (.iload_n 3, 1) := dk_29 (dk_at dksJ15_newLength_0 9 rfl rfl)
theorem dJ15_newLength_10 : decode cJ15_newLength 10 = .ok (.if_icmp .ge 11, 3) := dk_162 0 11 (dk_at dksJ15_newLength_0 10 rfl rfl)
theorem dJ15_newLength_13 : decode cJ15_newLength 13 = .ok (.iload_n 3, 1) := dk_29 (dk_at dksJ15_newLength_0 13 rfl rfl)
theorem dJ15_newLength_14 : decode cJ15_newLength 14 = .ok (.ldc 200, 2) := dk_18 200 (dk_at dksJ15_newLength_0 14 rfl rfl)
theorem dJ15_newLength_16 : decode cJ15_newLength 16 = .ok (.if_icmp .gt 5, 3) := dk_163 0 5 (dk_at dksJ15_newLength_0 16 rfl rfl)
theorem dJ15_newLength_19 : decode cJ15_newLength 19 = .ok (.iload_n 3, 1) := dk_29 (dk_at dksJ15_newLength_0 19 rfl rfl)
theorem dJ15_newLength_20 : decode cJ15_newLength 20 = .ok (.ireturn, 1) := dk_172 (dk_at dksJ15_newLength_0 20 rfl rfl)
theorem dJ15_newLength_21 : decode cJ15_newLength 21 = .ok (.iload_n 0, 1) := dk_26 (dk_at dksJ15_newLength_0 21 rfl rfl)
theorem dJ15_newLength_22 : decode cJ15_newLength 22 = .ok (.iload_n 1, 1) := dk_27 (dk_at dksJ15_newLength_0 22 rfl rfl)
theorem dJ15_newLength_23 : decode cJ15_newLength 23 = .ok (.invokestatic 201, 3) := dk_184 0 201 (dk_at dksJ15_newLength_1 0 rfl rfl)
theorem dJ15_newLength_26 : decode cJ15_newLength 26 = .ok (.ireturn, 1) := dk_172 (dk_at dksJ15_newLength_1 3 rfl rfl)
def dkwJ15_hugeLength_2 : List UInt8 := [191, 28, 18, 200, 163, 0, 6, 18, 200, 172, 28, 172]
abbrev dktJ15_hugeLength_2 : List UInt8 := dkwJ15_hugeLength_2 ++ []
def dkwJ15_hugeLength_1 : List UInt8 := [26, 182, 0, 98, 18, 208, 182, 0, 94, 27, 182, 0, 98, 18, 210, 182, 0, 94, 182, 0, 101, 183, 0, 212]
abbrev dktJ15_hugeLength_1 : List UInt8 := dkwJ15_hugeLength_1 ++ dktJ15_hugeLength_2
def dkwJ15_hugeLength_0 : List UInt8 := [26, 27, 96, 61, 28, 156, 0, 44, 187, 0, 204, 89, 187, 0, 89, 89, 183, 0, 91, 18, 206, 182, 0, 94]
abbrev dktJ15_hugeLength_0 : List UInt8 := dkwJ15_hugeLength_0 ++ dktJ15_hugeLength_1
theorem dksJ15_hugeLength_0 : cJ15_hugeLength.data.toList.drop 0 = dktJ15_hugeLength_0 := by decide +kernel
theorem dksJ15_hugeLength_1 : cJ15_hugeLength.data.toList.drop 24 = dktJ15_hugeLength_1 := dk_seg dksJ15_hugeLength_0 24 rfl rfl
theorem dksJ15_hugeLength_2 : cJ15_hugeLength.data.toList.drop 48 = dktJ15_hugeLength_2 := dk_seg dksJ15_hugeLength_1 24 rfl rfl
theorem dJ15_hugeLength_0 : decode cJ15_hugeLength 0 = .ok (.iload_n 0, 1) := dk_26 (dk_at dksJ15_hugeLength_0 0 rfl rfl)
theorem dJ15_hugeLength_1 : decode cJ15_hugeLength 1 = .ok (.iload_n 1, 1) := dk_27 (dk_at dksJ15_hugeLength_0 1 rfl rfl)
theorem dJ15_hugeLength_2 : decode cJ15_hugeLength 2 = .ok (.iadd, 1) := dk_96 (dk_at dksJ15_hugeLength_0 2 rfl rfl)
theorem dJ15_hugeLength_3 : decode cJ15_hugeLength 3 = .ok (.istore_n 2, 1) := dk_61 (dk_at dksJ15_hugeLength_0 3 rfl rfl)
theorem dJ15_hugeLength_4 : decode cJ15_hugeLength 4 = .ok (.iload_n 2, 1) := dk_28 (dk_at dksJ15_hugeLength_0 4 rfl rfl)
theorem dJ15_hugeLength_5 : decode cJ15_hugeLength 5 = .ok (.ifCond .ge 44, 3) := dk_156 0 44 (dk_at dksJ15_hugeLength_0 5 rfl rfl)
theorem dJ15_hugeLength_8 : decode cJ15_hugeLength 8 = .ok (.new 204, 3) := dk_187 0 204 (dk_at dksJ15_hugeLength_0 8 rfl rfl)
theorem dJ15_hugeLength_11 : decode cJ15_hugeLength 11 = .ok (.dup, 1) := dk_89 (dk_at dksJ15_hugeLength_0 11 rfl rfl)
theorem dJ15_hugeLength_12 : decode cJ15_hugeLength 12 = .ok (.new 89, 3) := dk_187 0 89 (dk_at dksJ15_hugeLength_0 12 rfl rfl)
theorem dJ15_hugeLength_15 : decode cJ15_hugeLength 15 = .ok (.dup, 1) := dk_89 (dk_at dksJ15_hugeLength_0 15 rfl rfl)
theorem dJ15_hugeLength_16 : decode cJ15_hugeLength 16 = .ok (.invokespecial 91, 3) := dk_183 0 91 (dk_at dksJ15_hugeLength_0 16 rfl rfl)
theorem dJ15_hugeLength_19 : decode cJ15_hugeLength 19 = .ok (.ldc 206, 2) := dk_18 206 (dk_at dksJ15_hugeLength_0 19 rfl rfl)
theorem dJ15_hugeLength_21 : decode cJ15_hugeLength 21 = .ok (.invokevirtual 94, 3) := dk_182 0 94 (dk_at dksJ15_hugeLength_0 21 rfl rfl)
theorem dJ15_hugeLength_24 : decode cJ15_hugeLength 24 = .ok (.iload_n 0, 1) := dk_26 (dk_at dksJ15_hugeLength_1 0 rfl rfl)
theorem dJ15_hugeLength_25 : decode cJ15_hugeLength 25 = .ok (.invokevirtual 98, 3) := dk_182 0 98 (dk_at dksJ15_hugeLength_1 1 rfl rfl)
theorem dJ15_hugeLength_28 : decode cJ15_hugeLength 28 = .ok (.ldc 208, 2) := dk_18 208 (dk_at dksJ15_hugeLength_1 4 rfl rfl)
theorem dJ15_hugeLength_30 : decode cJ15_hugeLength 30 = .ok (.invokevirtual 94, 3) := dk_182 0 94 (dk_at dksJ15_hugeLength_1 6 rfl rfl)
theorem dJ15_hugeLength_33 : decode cJ15_hugeLength 33 = .ok (.iload_n 1, 1) := dk_27 (dk_at dksJ15_hugeLength_1 9 rfl rfl)
theorem dJ15_hugeLength_34 : decode cJ15_hugeLength 34 = .ok (.invokevirtual 98, 3) := dk_182 0 98 (dk_at dksJ15_hugeLength_1 10 rfl rfl)
theorem dJ15_hugeLength_37 : decode cJ15_hugeLength 37 = .ok (.ldc 210, 2) := dk_18 210 (dk_at dksJ15_hugeLength_1 13 rfl rfl)
theorem dJ15_hugeLength_39 : decode cJ15_hugeLength 39 = .ok (.invokevirtual 94, 3) := dk_182 0 94 (dk_at dksJ15_hugeLength_1 15 rfl rfl)
theorem dJ15_hugeLength_42 : decode cJ15_hugeLength 42 = .ok (.invokevirtual 101, 3) := dk_182 0 101 (dk_at dksJ15_hugeLength_1 18 rfl rfl)
theorem dJ15_hugeLength_45 : decode cJ15_hugeLength 45 = .ok (.invokespecial 212, 3) := dk_183 0 212 (dk_at dksJ15_hugeLength_1 21 rfl rfl)
theorem dJ15_hugeLength_48 : decode cJ15_hugeLength 48 = .ok (.athrow, 1) := dk_191 (dk_at dksJ15_hugeLength_2 0 rfl rfl)
theorem dJ15_hugeLength_49 : decode cJ15_hugeLength 49 = .ok (.iload_n 2, 1) := dk_28 (dk_at dksJ15_hugeLength_2 1 rfl rfl)
theorem dJ15_hugeLength_50 : decode cJ15_hugeLength 50 = .ok (.ldc 200, 2) := dk_18 200 (dk_at dksJ15_hugeLength_2 2 rfl rfl)
theorem dJ15_hugeLength_52 : decode cJ15_hugeLength 52 = .ok (.if_icmp .gt 6, 3) := dk_163 0 6 (dk_at dksJ15_hugeLength_2 4 rfl rfl)
theorem dJ15_hugeLength_55 : decode cJ15_hugeLength 55 = .ok (.ldc 200, 2) := dk_18 200 (dk_at dksJ15_hugeLength_2 7 rfl rfl)
theorem dJ15_hugeLength_57 : decode cJ15_hugeLength 57 = .ok (.ireturn, 1) := dk_172 (dk_at dksJ15_hugeLength_2 9 rfl rfl)
theorem dJ15_hugeLength_58 : decode cJ15_hugeLength 58 = .ok (.iload_n 2, 1) := dk_28 (dk_at dksJ15_hugeLength_2 10 rfl rfl)
theorem dJ15_hugeLength_59 : decode cJ15_hugeLength 59 = .ok (.ireturn, 1) := dk_172 (dk_at dksJ15_hugeLength_2 11 rfl rfl)
def dkwJ18_checkIndex_0 : List UInt8 := [26, 155, 0, 8, 26, 27, 161, 0, 10, 44, 26, 27, 184, 0, 95, 191, 26, 172]
abbrev dktJ18_checkIndex_0 : List UInt8 := dkwJ18_checkIndex_0 ++ []
theorem dksJ18_checkIndex_0 : cJ18_checkIndex.data.toList.drop 0 = dktJ18_checkIndex_0 := by decide +kernel
theorem dJ18_checkIndex_0 : decode cJ18_checkIndex 0 = .ok (.iload_n 0, 1) := dk_26 (dk_at dksJ18_checkIndex_0 0 rfl rfl)
theorem dJ18_checkIndex_1 : decode cJ18_checkIndex 1 = .ok (.ifCond .lt 8, 3) := dk_155 0 8 (dk_at dksJ18_checkIndex_0 1 rfl rfl)
theorem dJ18_checkIndex_4 : decode cJ18_checkIndex 4 = .ok (.iload_n 0, 1) := dk_26 (dk_at dksJ18_checkIndex_0 4 rfl rfl)
theorem dJ18_checkIndex_5 : decode cJ18_checkIndex 5 = .ok (.iload_n 1, 1) := dk_27 (dk_at dksJ18_checkIndex_0 5 rfl rfl)
theorem dJ18_checkIndex_6 : decode cJ18_checkIndex 6 = .ok (.if_icmp .lt 10, 3) := dk_161 0 10 (dk_at dksJ18_checkIndex_0 6 rfl rfl)
theorem dJ18_checkIndex_9 : decode cJ18_checkIndex 9 = .ok (.aload_n 2, 1) := dk_44 (dk_at dksJ18_checkIndex_0 9 rfl rfl)
theorem dJ18_checkIndex_10 : decode cJ18_checkIndex 10 = .ok (.iload_n 0, 1) := dk_26 (dk_at dksJ18_checkIndex_0 10 rfl rfl)
theorem dJ18_checkIndex_11 : decode cJ18_checkIndex 11 = .ok (.iload_n 1, 1) := dk_27 (dk_at dksJ18_checkIndex_0 11 rfl rfl)
theorem dJ18_checkIndex_12 : decode cJ18_checkIndex 12 = .ok (.invokestatic 95, 3) := dk_184 0 95 (dk_at dksJ18_checkIndex_0 12 rfl rfl)
theorem dJ18_checkIndex_15 : decode cJ18_checkIndex 15 = .ok (.athrow, 1) := dk_191 (dk_at dksJ18_checkIndex_0 15 rfl rfl)
theorem dJ18_checkIndex_16 : decode cJ18_checkIndex 16 = .ok (.iload_n 0, 1) := dk_26 (dk_at dksJ18_checkIndex_0 16 rfl rfl)
theorem dJ18_checkIndex_17 : decode cJ18_checkIndex 17 = .ok (.ireturn, 1) := dk_172 (dk_at dksJ18_checkIndex_0 17 rfl rfl)
def dkwX2_init_0 : List UInt8 := [42, 183, 0, 3, 42, 2, 181, 0, 9, 42, 2, 181, 0, 15, 177]
abbrev dktX2_init_0 : List UInt8 := dkwX2_init_0 ++ []
theorem dksX2_init_0 : cX2_init.data.toList.drop 0 = dktX2_init_0 := by decide +kernel
theorem dX2_init_0 : decode cX2_init 0 = .ok (.aload_n 0, 1) := dk_42 (dk_at dksX2_init_0 0 rfl rfl)
theorem dX2_init_1 : decode cX2_init 1 = .ok (.invokespecial 3, 3) := dk_183 0 3 (dk_at dksX2_init_0 1 rfl rfl)
theorem dX2_init_4 : decode cX2_init 4 = .ok (.aload_n 0, 1) := dk_42 (dk_at dksX2_init_0 4 rfl rfl)
theorem dX2_init_5 : decode cX2_init 5 = .ok (.iconst (-1), 1) := dk_2 (dk_at dksX2_init_0 5 rfl rfl)
theorem dX2_init_6 : decode cX2_init 6 = .ok (.putfield 9, 3) := dk_181 0 9 (dk_at dksX2_init_0 6 rfl rfl)
theorem dX2_init_9 : decode cX2_init 9 = .ok (.aload_n 0, 1) := dk_42 (dk_at dksX2_init_0 9 rfl rfl)
theorem dX2_init_10 : decode cX2_init 10 = .ok (.iconst (-1), 1) := dk_2 (dk_at dksX2_init_0 10 rfl rfl)
theorem dX2_init_11 : decode cX2_init 11 = .ok (.putfield 15, 3) := dk_181 0 15 (dk_at dksX2_init_0 11 rfl rfl)
theorem dX2_init_14 : decode cX2_init 14 = .ok (.return_, 1) := dk_177 (dk_at dksX2_init_0 14 rfl rfl)
def dkwX2_anew_1 : List UInt8 := [43, 176]
abbrev dktX2_anew_1 : List UInt8 := dkwX2_anew_1 ++ []
def dkwX2_anew_0 : List UInt8 := [187, 0, 10, 89, 183, 0, 25, 76, 43, 42, 180, 0, 9, 181, 0, 9, 43, 42, 180, 0, 15, 181, 0, 15]
abbrev dktX2_anew_0 : List UInt8 := dkwX2_anew_0 ++ dktX2_anew_1
theorem dksX2_anew_0 : cX2_anew.data.toList.drop 0 = dktX2_anew_0 := by decide +kernel
theorem dksX2_anew_1 : cX2_anew.data.toList.drop 24 = dktX2_anew_1 := dk_seg dksX2_anew_0 24 rfl rfl
theorem dX2_anew_0 : decode cX2_anew 0 = .ok (.new 10, 3) := dk_187 0 10 (dk_at dksX2_anew_0 0 rfl rfl)
theorem dX2_anew_3 : decode cX2_anew 3 = .ok (.dup, 1) := dk_89 (dk_at dksX2_anew_0 3 rfl rfl)
theorem dX2_anew_4 : decode cX2_anew 4 = .ok (.invokespecial 25, 3) := dk_183 0 25 (dk_at dksX2_anew_0 4 rfl rfl)
theorem dX2_anew_7 : decode cX2_anew 7 = .ok (.astore_n 1, 1) := dk_76 (dk_at dksX2_anew_0 7 rfl rfl)
theorem dX2_anew_8 : decode cX2_anew 8 = .ok (.aload_n 1, 1) := dk_43 (dk_at dksX2_anew_0 8 rfl rfl)
theorem dX2_anew_9 : decode cX2_anew 9 = .ok (.aload_n 0, 1) := dk_42 (dk_at dksX2_anew_0 9 rfl rfl)
theorem dX2_anew_10 : decode cX2_anew 10 = .ok (.getfield 9, 3) := dk_180 0 9 (dk_at dksX2_anew_0 10 rfl rfl)
theorem dX2_anew_13 : decode cX2_anew 13 = .ok (.putfield 9, 3) := dk_181 0 9 (dk_at dksX2_anew_0 13 rfl rfl)
theorem dX2_anew_16 : decode cX2_anew 16 = .ok (.aload_n 1, 1) := dk_43 (dk_at dksX2_anew_0 16 rfl rfl)
theorem dX2_anew_17 : decode cX2_anew 17 = .ok (.aload_n 0, 1) := dk_42 (dk_at dksX2_anew_0 17 rfl rfl)
theorem dX2_anew_18 : decode cX2_anew 18 = .ok (.getfield 15, 3) := dk_180 0 15 (dk_at dksX2_anew_0 18 rfl rfl)
theorem dX2_anew_21 : decode cX2_anew 21 = .ok (.putfield 15, 3) := dk_181 0 15 (dk_at dksX2_anew_0 21 rfl rfl)
theorem dX2_anew_24 : decode cX2_anew 24 = .ok (.aload_n 1, 1) := dk_43 (dk_at dksX2_anew_1 0 rfl rfl)
theorem dX2_anew_25 : decode cX2_anew 25 = .ok (.areturn, 1) := dk_176 (dk_at dksX2_anew_1 1 rfl rfl)
def dkwX2_interrupt_0 : List UInt8 := [42, 4, 181, 0, 18, 42, 27, 181, 0, 22, 42, 180, 0, 15, 172]
abbrev dktX2_interrupt_0 : List UInt8 := dkwX2_interrupt_0 ++ []
theorem dksX2_interrupt_0 : cX2_interrupt.data.toList.drop 0 = dktX2_interrupt_0 := by decide +kernel
theorem dX2_interrupt_0 : decode cX2_interrupt 0 = .ok (.aload_n 0, 1) := dk_42 (dk_at dksX2_interrupt_0 0 rfl rfl)
theorem dX2_interrupt_1 : decode cX2_interrupt 1 = .ok (.iconst 1, 1) := dk_4 (dk_at dksX2_interrupt_0 1 rfl rfl)
theorem dX2_interrupt_2 : decode cX2_interrupt 2 = .ok (.putfield 18, 3) := dk_181 0 18 (dk_at dksX2_interrupt_0 2 rfl rfl)
theorem dX2_interrupt_5 : decode cX2_interrupt 5 = .ok (.aload_n 0, 1) := dk_42 (dk_at dksX2_interrupt_0 5 rfl rfl)
theorem dX2_interrupt_6 : decode cX2_interrupt 6 = .ok (.iload_n 1, 1) := dk_27 (dk_at dksX2_interrupt_0 6 rfl rfl)
theorem dX2_interrupt_7 : decode cX2_interrupt 7 = .ok (.putfield 22, 3) := dk_181 0 22 (dk_at dksX2_interrupt_0 7 rfl rfl)
theorem dX2_interrupt_10 : decode cX2_interrupt 10 = .ok (.aload_n 0, 1) := dk_42 (dk_at dksX2_interrupt_0 10 rfl rfl)
theorem dX2_interrupt_11 : decode cX2_interrupt 11 = .ok (.getfield 15, 3) := dk_180 0 15 (dk_at dksX2_interrupt_0 11 rfl rfl)
theorem dX2_interrupt_14 : decode cX2_interrupt 14 = .ok (.ireturn, 1) := dk_172 (dk_at dksX2_interrupt_0 14 rfl rfl)
def dkwX2_trap_1 : List UInt8 := [181, 0, 22, 42, 180, 0, 9, 172]
abbrev dktX2_trap_1 : List UInt8 := dkwX2_trap_1 ++ []
def dkwX2_trap_0 : List UInt8 := [42, 180, 0, 18, 154, 0, 11, 42, 180, 0, 9, 2, 160, 0, 5, 2, 172, 42, 4, 181, 0, 18, 42, 27]
abbrev dktX2_trap_0 : List UInt8 := dkwX2_trap_0 ++ dktX2_trap_1
theorem dksX2_trap_0 : cX2_trap.data.toList.drop 0 = dktX2_trap_0 := by decide +kernel
theorem dksX2_trap_1 : cX2_trap.data.toList.drop 24 = dktX2_trap_1 := dk_seg dksX2_trap_0 24 rfl rfl
theorem dX2_trap_0 : decode cX2_trap 0 = .ok (.aload_n 0, 1) := dk_42 (dk_at dksX2_trap_0 0 rfl rfl)
theorem dX2_trap_1 : decode cX2_trap 1 = .ok (.getfield 18, 3) := dk_180 0 18 (dk_at dksX2_trap_0 1 rfl rfl)
theorem dX2_trap_4 : decode cX2_trap 4 = .ok (.ifCond .ne 11, 3) := dk_154 0 11 (dk_at dksX2_trap_0 4 rfl rfl)
theorem dX2_trap_7 : decode cX2_trap 7 = .ok (.aload_n 0, 1) := dk_42 (dk_at dksX2_trap_0 7 rfl rfl)
theorem dX2_trap_8 : decode cX2_trap 8 = .ok (.getfield 9, 3) := dk_180 0 9 (dk_at dksX2_trap_0 8 rfl rfl)
theorem dX2_trap_11 : decode cX2_trap 11 = .ok (.iconst (-1), 1) := dk_2 (dk_at dksX2_trap_0 11 rfl rfl)
theorem dX2_trap_12 : decode cX2_trap 12 = .ok (.if_icmp .ne 5, 3) := dk_160 0 5 (dk_at dksX2_trap_0 12 rfl rfl)
theorem dX2_trap_15 : decode cX2_trap 15 = .ok (.iconst (-1), 1) := dk_2 (dk_at dksX2_trap_0 15 rfl rfl)
theorem dX2_trap_16 : decode cX2_trap 16 = .ok (.ireturn, 1) := dk_172 (dk_at dksX2_trap_0 16 rfl rfl)
theorem dX2_trap_17 : decode cX2_trap 17 = .ok (.aload_n 0, 1) := dk_42 (dk_at dksX2_trap_0 17 rfl rfl)
theorem dX2_trap_18 : decode cX2_trap 18 = .ok (.iconst 1, 1) := dk_4 (dk_at dksX2_trap_0 18 rfl rfl)
theorem dX2_trap_19 : decode cX2_trap 19 = .ok (.putfield 18, 3) := dk_181 0 18 (dk_at dksX2_trap_0 19 rfl rfl)
theorem dX2_trap_22 : decode cX2_trap 22 = .ok (.aload_n 0, 1) := dk_42 (dk_at dksX2_trap_0 22 rfl rfl)
theorem dX2_trap_23 : decode cX2_trap 23 = .ok (.iload_n 1, 1) := dk_27 (dk_at dksX2_trap_0 23 rfl rfl)
theorem dX2_trap_24 : decode cX2_trap 24 = .ok (.putfield 22, 3) := dk_181 0 22 (dk_at dksX2_trap_1 0 rfl rfl)
theorem dX2_trap_27 : decode cX2_trap 27 = .ok (.aload_n 0, 1) := dk_42 (dk_at dksX2_trap_1 3 rfl rfl)
theorem dX2_trap_28 : decode cX2_trap 28 = .ok (.getfield 9, 3) := dk_180 0 9 (dk_at dksX2_trap_1 4 rfl rfl)
theorem dX2_trap_31 : decode cX2_trap 31 = .ok (.ireturn, 1) := dk_172 (dk_at dksX2_trap_1 7 rfl rfl)
def dkwX2_goBack_0 : List UInt8 := [42, 3, 181, 0, 18, 42, 180, 0, 22, 172]
abbrev dktX2_goBack_0 : List UInt8 := dkwX2_goBack_0 ++ []
theorem dksX2_goBack_0 : cX2_goBack.data.toList.drop 0 = dktX2_goBack_0 := by decide +kernel
theorem dX2_goBack_0 : decode cX2_goBack 0 = .ok (.aload_n 0, 1) := dk_42 (dk_at dksX2_goBack_0 0 rfl rfl)
theorem dX2_goBack_1 : decode cX2_goBack 1 = .ok (.iconst 0, 1) := dk_3 (dk_at dksX2_goBack_0 1 rfl rfl)
theorem dX2_goBack_2 : decode cX2_goBack 2 = .ok (.putfield 18, 3) := dk_181 0 18 (dk_at dksX2_goBack_0 2 rfl rfl)
theorem dX2_goBack_5 : decode cX2_goBack 5 = .ok (.aload_n 0, 1) := dk_42 (dk_at dksX2_goBack_0 5 rfl rfl)
theorem dX2_goBack_6 : decode cX2_goBack 6 = .ok (.getfield 22, 3) := dk_180 0 22 (dk_at dksX2_goBack_0 6 rfl rfl)
theorem dX2_goBack_9 : decode cX2_goBack 9 = .ok (.ireturn, 1) := dk_172 (dk_at dksX2_goBack_0 9 rfl rfl)
def dkwX2_isSame_1 : List UInt8 := [180, 0, 22, 160, 0, 7, 4, 167, 0, 4, 3, 172]
abbrev dktX2_isSame_1 : List UInt8 := dkwX2_isSame_1 ++ []
def dkwX2_isSame_0 : List UInt8 := [42, 180, 0, 18, 43, 180, 0, 18, 160, 0, 25, 42, 180, 0, 18, 153, 0, 14, 42, 180, 0, 22, 43]
abbrev dktX2_isSame_0 : List UInt8 := dkwX2_isSame_0 ++ dktX2_isSame_1
theorem dksX2_isSame_0 : cX2_isSame.data.toList.drop 0 = dktX2_isSame_0 := by decide +kernel
theorem dksX2_isSame_1 : cX2_isSame.data.toList.drop 23 = dktX2_isSame_1 := dk_seg dksX2_isSame_0 23 rfl rfl
theorem dX2_isSame_0 : decode cX2_isSame 0 = .ok (.aload_n 0, 1) := dk_42 (dk_at dksX2_isSame_0 0 rfl rfl)
theorem dX2_isSame_1 : decode cX2_isSame 1 = .ok (.getfield 18, 3) := dk_180 0 18 (dk_at dksX2_isSame_0 1 rfl rfl)
theorem dX2_isSame_4 : decode cX2_isSame 4 = .ok (.aload_n 1, 1) := dk_43 (dk_at dksX2_isSame_0 4 rfl rfl)
theorem dX2_isSame_5 : decode cX2_isSame 5 = .ok (.getfield 18, 3) := dk_180 0 18 (dk_at dksX2_isSame_0 5 rfl rfl)
theorem dX2_isSame_8 : decode cX2_isSame 8 = .ok (.if_icmp .ne 25, 3) := dk_160 0 25 (dk_at dksX2_isSame_0 8 rfl rfl)
theorem dX2_isSame_11 : decode cX2_isSame 11 = .ok (.aload_n 0, 1) := dk_42 (dk_at dksX2_isSame_0 11 rfl rfl)
theorem dX2_isSame_12 : decode cX2_isSame 12 = .ok (.getfield 18, 3) := dk_180 0 18 (dk_at dksX2_isSame_0 12 rfl rfl)
theorem dX2_isSame_15 : decode cX2_isSame 15 = .ok (.ifCond .eq 14, 3) := dk_153 0 14 (dk_at dksX2_isSame_0 15 rfl rfl)
theorem dX2_isSame_18 : decode cX2_isSame 18 = .ok (.aload_n 0, 1) := dk_42 (dk_at dksX2_isSame_0 18 rfl rfl)
theorem dX2_isSame_19 : decode cX2_isSame 19 = .ok (.getfield 22, 3) := dk_180 0 22 (dk_at dksX2_isSame_0 19 rfl rfl)
theorem dX2_isSame_22 : decode cX2_isSame 22 = .ok (.aload_n 1, 1) := dk_43 (dk_at dksX2_isSame_0 22 rfl rfl)
theorem dX2_isSame_23 : decode cX2_isSame 23 = .ok (.getfield 22, 3) := dk_180 0 22 (dk_at dksX2_isSame_1 0 rfl rfl)
theorem dX2_isSame_26 : decode cX2_isSame 26 = .ok (.if_icmp .ne 7, 3) := dk_160 0 7 (dk_at dksX2_isSame_1 3 rfl rfl)
theorem dX2_isSame_29 : decode cX2_isSame 29 = .ok (.iconst 1, 1) := dk_4 (dk_at dksX2_isSame_1 6 rfl rfl)
theorem dX2_isSame_30 : decode cX2_isSame 30 = .ok (.goto 4, 3) := dk_167 0 4 (dk_at dksX2_isSame_1 7 rfl rfl)
theorem dX2_isSame_33 : decode cX2_isSame 33 = .ok (.iconst 0, 1) := dk_3 (dk_at dksX2_isSame_1 10 rfl rfl)
theorem dX2_isSame_34 : decode cX2_isSame 34 = .ok (.ireturn, 1) := dk_172 (dk_at dksX2_isSame_1 11 rfl rfl)
def dkwX4_traps_0 : List UInt8 := [42, 180, 0, 9, 8, 160, 0, 11, 27, 154, 0, 7, 4, 167, 0, 4, 3, 172]
abbrev dktX4_traps_0 : List UInt8 := dkwX4_traps_0 ++ []
theorem dksX4_traps_0 : cX4_traps.data.toList.drop 0 = dktX4_traps_0 := by decide +kernel
theorem dX4_traps_0 : decode cX4_traps 0 = .ok (.aload_n 0, 1) := dk_42 (dk_at dksX4_traps_0 0 rfl rfl)
theorem dX4_traps_1 : decode cX4_traps 1 = .ok (.getfield 9, 3) := dk_180 0 9 (dk_at dksX4_traps_0 1 rfl rfl)
theorem dX4_traps_4 : decode cX4_traps 4 = .ok (.iconst 5, 1) := dk_8 (dk_at dksX4_traps_0 4 rfl rfl)
theorem dX4_traps_5 : decode cX4_traps 5 = .ok (.if_icmp .ne 11, 3) := dk_160 0 11 (dk_at dksX4_traps_0 5 rfl rfl)
theorem dX4_traps_8 : decode cX4_traps 8 = .ok (.iload_n 1, 1) := dk_27 (dk_at dksX4_traps_0 8 rfl rfl)
theorem dX4_traps_9 : decode cX4_traps 9 = .ok (.ifCond .ne 7, 3) := dk_154 0 7 (dk_at dksX4_traps_0 9 rfl rfl)
theorem dX4_traps_12 : decode cX4_traps 12 = .ok (.iconst 1, 1) := dk_4 (dk_at dksX4_traps_0 12 rfl rfl)
theorem dX4_traps_13 : decode cX4_traps 13 = .ok (.goto 4, 3) := dk_167 0 4 (dk_at dksX4_traps_0 13 rfl rfl)
theorem dX4_traps_16 : decode cX4_traps 16 = .ok (.iconst 0, 1) := dk_3 (dk_at dksX4_traps_0 16 rfl rfl)
theorem dX4_traps_17 : decode cX4_traps 17 = .ok (.ireturn, 1) := dk_172 (dk_at dksX4_traps_0 17 rfl rfl)
def dkwX4_isForMemory_0 : List UInt8 := [42, 180, 0, 9, 16, 9, 159, 0, 10, 42, 182, 0, 31, 153, 0, 7, 4, 167, 0, 4, 3, 172]
abbrev dktX4_isForMemory_0 : List UInt8 := dkwX4_isForMemory_0 ++ []
theorem dksX4_isForMemory_0 : cX4_isForMemory.data.toList.drop 0 = dktX4_isForMemory_0 := by decide +kernel
theorem dX4_isForMemory_0 : decode cX4_isForMemory 0 = .ok (.aload_n 0, 1) := dk_42 (dk_at dksX4_isForMemory_0 0 rfl rfl)
theorem dX4_isForMemory_1 : decode cX4_isForMemory 1 = .ok (.getfield 9, 3) := dk_180 0 9 (dk_at dksX4_isForMemory_0 1 rfl rfl)
theorem dX4_isForMemory_4 : decode cX4_isForMemory 4 = .ok (.bipush 9, 2) := dk_16 9 (dk_at dksX4_isForMemory_0 4 rfl rfl)
theorem dX4_isForMemory_6 : decode cX4_isForMemory 6 = .ok (.if_icmp .eq 10, 3) := dk_159 0 10 (dk_at dksX4_isForMemory_0 6 rfl rfl)
theorem dX4_isForMemory_9 : decode cX4_isForMemory 9 = .ok (.aload_n 0, 1) := dk_42 (dk_at dksX4_isForMemory_0 9 rfl rfl)
theorem dX4_isForMemory_10 : decode cX4_isForMemory 10 = .ok (.invokevirtual 31, 3) := dk_182 0 31 (dk_at dksX4_isForMemory_0 10 rfl rfl)
theorem dX4_isForMemory_13 : decode cX4_isForMemory 13 = .ok (.ifCond .eq 7, 3) := dk_153 0 7 (dk_at dksX4_isForMemory_0 13 rfl rfl)
theorem dX4_isForMemory_16 : decode cX4_isForMemory 16 = .ok (.iconst 1, 1) := dk_4 (dk_at dksX4_isForMemory_0 16 rfl rfl)
theorem dX4_isForMemory_17 : decode cX4_isForMemory 17 = .ok (.goto 4, 3) := dk_167 0 4 (dk_at dksX4_isForMemory_0 17 rfl rfl)
theorem dX4_isForMemory_20 : decode cX4_isForMemory 20 = .ok (.iconst 0, 1) := dk_3 (dk_at dksX4_isForMemory_0 20 rfl rfl)
theorem dX4_isForMemory_21 : decode cX4_isForMemory 21 = .ok (.ireturn, 1) := dk_172 (dk_at dksX4_isForMemory_0 21 rfl rfl)
def dkwX4_isStore_0 : List UInt8 := [42, 180, 0, 9, 16, 10, 159, 0, 12, 42, 180, 0, 9, 16, 11, 160, 0, 7, 4, 167, 0, 4, 3, 172]
abbrev dktX4_isStore_0 : List UInt8 := dkwX4_isStore_0 ++ []
theorem dksX4_isStore_0 : cX4_isStore.data.toList.drop 0 = dktX4_isStore_0 := by decide +kernel
theorem dX4_isStore_0 : decode cX4_isStore 0 = .ok (.aload_n 0, 1) := dk_42 (dk_at dksX4_isStore_0 0 rfl rfl)
theorem dX4_isStore_1 : decode cX4_isStore 1 = .ok (.getfield 9, 3) := dk_180 0 9 (dk_at dksX4_isStore_0 1 rfl rfl)
theorem dX4_isStore_4 : decode cX4_isStore 4 = .ok (.bipush 10, 2) := dk_16 10 (dk_at dksX4_isStore_0 4 rfl rfl)
theorem dX4_isStore_6 : decode cX4_isStore 6 = .ok (.if_icmp .eq 12, 3) := dk_159 0 12 (dk_at dksX4_isStore_0 6 rfl rfl)
theorem dX4_isStore_9 : decode cX4_isStore 9 = .ok (.aload_n 0, 1) := dk_42 (dk_at dksX4_isStore_0 9 rfl rfl)
theorem dX4_isStore_10 : decode cX4_isStore 10 = .ok (.getfield 9, 3) := dk_180 0 9 (dk_at dksX4_isStore_0 10 rfl rfl)
theorem dX4_isStore_13 : decode cX4_isStore 13 = .ok (.bipush 11, 2) := dk_16 11 (dk_at dksX4_isStore_0 13 rfl rfl)
theorem dX4_isStore_15 : decode cX4_isStore 15 = .ok (.if_icmp .ne 7, 3) := dk_160 0 7 (dk_at dksX4_isStore_0 15 rfl rfl)
theorem dX4_isStore_18 : decode cX4_isStore 18 = .ok (.iconst 1, 1) := dk_4 (dk_at dksX4_isStore_0 18 rfl rfl)
theorem dX4_isStore_19 : decode cX4_isStore 19 = .ok (.goto 4, 3) := dk_167 0 4 (dk_at dksX4_isStore_0 19 rfl rfl)
theorem dX4_isStore_22 : decode cX4_isStore 22 = .ok (.iconst 0, 1) := dk_3 (dk_at dksX4_isStore_0 22 rfl rfl)
theorem dX4_isStore_23 : decode cX4_isStore 23 = .ok (.ireturn, 1) := dk_172 (dk_at dksX4_isStore_0 23 rfl rfl)
def dkwX4_isIndirect_0 : List UInt8 := [42, 180, 0, 9, 16, 16, 159, 0, 12, 42, 180, 0, 9, 16, 17, 160, 0, 7, 4, 167, 0, 4, 3, 172]
abbrev dktX4_isIndirect_0 : List UInt8 := dkwX4_isIndirect_0 ++ []
theorem dksX4_isIndirect_0 : cX4_isIndirect.data.toList.drop 0 = dktX4_isIndirect_0 := by decide +kernel
theorem dX4_isIndirect_0 : decode cX4_isIndirect 0 = .ok (.aload_n 0, 1) := dk_42 (dk_at dksX4_isIndirect_0 0 rfl rfl)
theorem dX4_isIndirect_1 : decode cX4_isIndirect 1 = .ok (.getfield 9, 3) := dk_180 0 9 (dk_at dksX4_isIndirect_0 1 rfl rfl)
theorem dX4_isIndirect_4 : decode cX4_isIndirect 4 = .ok (.bipush 16, 2) := dk_16 16 (dk_at dksX4_isIndirect_0 4 rfl rfl)
theorem dX4_isIndirect_6 : decode cX4_isIndirect 6 = .ok (.if_icmp .eq 12, 3) := dk_159 0 12 (dk_at dksX4_isIndirect_0 6 rfl rfl)
theorem dX4_isIndirect_9 : decode cX4_isIndirect 9 = .ok (.aload_n 0, 1) := dk_42 (dk_at dksX4_isIndirect_0 9 rfl rfl)
theorem dX4_isIndirect_10 : decode cX4_isIndirect 10 = .ok (.getfield 9, 3) := dk_180 0 9 (dk_at dksX4_isIndirect_0 10 rfl rfl)
theorem dX4_isIndirect_13 : decode cX4_isIndirect 13 = .ok (.bipush 17, 2) := dk_16 17 (dk_at dksX4_isIndirect_0 13 rfl rfl)
theorem dX4_isIndirect_15 : decode cX4_isIndirect 15 = .ok (.if_icmp .ne 7, 3) := dk_160 0 7 (dk_at dksX4_isIndirect_0 15 rfl rfl)
theorem dX4_isIndirect_18 : decode cX4_isIndirect 18 = .ok (.iconst 1, 1) := dk_4 (dk_at dksX4_isIndirect_0 18 rfl rfl)
theorem dX4_isIndirect_19 : decode cX4_isIndirect 19 = .ok (.goto 4, 3) := dk_167 0 4 (dk_at dksX4_isIndirect_0 19 rfl rfl)
theorem dX4_isIndirect_22 : decode cX4_isIndirect 22 = .ok (.iconst 0, 1) := dk_3 (dk_at dksX4_isIndirect_0 22 rfl rfl)
theorem dX4_isIndirect_23 : decode cX4_isIndirect 23 = .ok (.ireturn, 1) := dk_172 (dk_at dksX4_isIndirect_0 23 rfl rfl)
def dkwX4_stored_0 : List UInt8 := [42, 180, 0, 9, 16, 10, 160, 0, 7, 28, 167, 0, 12, 27, 18, 50, 126, 28, 18, 51, 126, 128, 172]
abbrev dktX4_stored_0 : List UInt8 := dkwX4_stored_0 ++ []
theorem dksX4_stored_0 : cX4_stored.data.toList.drop 0 = dktX4_stored_0 := by decide +kernel
theorem dX4_stored_0 : decode cX4_stored 0 = .ok (.aload_n 0, 1) := dk_42 (dk_at dksX4_stored_0 0 rfl rfl)
theorem dX4_stored_1 : decode cX4_stored 1 = .ok (.getfield 9, 3) := dk_180 0 9 (dk_at dksX4_stored_0 1 rfl rfl)
theorem dX4_stored_4 : decode cX4_stored 4 = .ok (.bipush 10, 2) := dk_16 10 (dk_at dksX4_stored_0 4 rfl rfl)
theorem dX4_stored_6 : decode cX4_stored 6 = .ok (.if_icmp .ne 7, 3) := dk_160 0 7 (dk_at dksX4_stored_0 6 rfl rfl)
theorem dX4_stored_9 : decode cX4_stored 9 = .ok (.iload_n 2, 1) := dk_28 (dk_at dksX4_stored_0 9 rfl rfl)
theorem dX4_stored_10 : decode cX4_stored 10 = .ok (.goto 12, 3) := dk_167 0 12 (dk_at dksX4_stored_0 10 rfl rfl)
theorem dX4_stored_13 : decode cX4_stored 13 = .ok (.iload_n 1, 1) := dk_27 (dk_at dksX4_stored_0 13 rfl rfl)
theorem dX4_stored_14 : decode cX4_stored 14 = .ok (.ldc 50, 2) := dk_18 50 (dk_at dksX4_stored_0 14 rfl rfl)
theorem dX4_stored_16 : decode cX4_stored 16 = .ok (.iand, 1) := dk_126 (dk_at dksX4_stored_0 16 rfl rfl)
theorem dX4_stored_17 : decode cX4_stored 17 = .ok (.iload_n 2, 1) := dk_28 (dk_at dksX4_stored_0 17 rfl rfl)
theorem dX4_stored_18 : decode cX4_stored 18 = .ok (.ldc 51, 2) := dk_18 51 (dk_at dksX4_stored_0 18 rfl rfl)
theorem dX4_stored_20 : decode cX4_stored 20 = .ok (.iand, 1) := dk_126 (dk_at dksX4_stored_0 20 rfl rfl)
theorem dX4_stored_21 : decode cX4_stored 21 = .ok (.ior, 1) := dk_128 (dk_at dksX4_stored_0 21 rfl rfl)
theorem dX4_stored_22 : decode cX4_stored 22 = .ok (.ireturn, 1) := dk_172 (dk_at dksX4_stored_0 22 rfl rfl)
def dkwX4_hasResult_1 : List UInt8 := [167, 0, 4, 3, 172]
abbrev dktX4_hasResult_1 : List UInt8 := dkwX4_hasResult_1 ++ []
def dkwX4_hasResult_0 : List UInt8 := [42, 180, 0, 9, 4, 16, 9, 184, 0, 27, 154, 0, 12, 42, 180, 0, 9, 16, 15, 160, 0, 7, 4]
abbrev dktX4_hasResult_0 : List UInt8 := dkwX4_hasResult_0 ++ dktX4_hasResult_1
theorem dksX4_hasResult_0 : cX4_hasResult.data.toList.drop 0 = dktX4_hasResult_0 := by decide +kernel
theorem dksX4_hasResult_1 : cX4_hasResult.data.toList.drop 23 = dktX4_hasResult_1 := dk_seg dksX4_hasResult_0 23 rfl rfl
theorem dX4_hasResult_0 : decode cX4_hasResult 0 = .ok (.aload_n 0, 1) := dk_42 (dk_at dksX4_hasResult_0 0 rfl rfl)
theorem dX4_hasResult_1 : decode cX4_hasResult 1 = .ok (.getfield 9, 3) := dk_180 0 9 (dk_at dksX4_hasResult_0 1 rfl rfl)
theorem dX4_hasResult_4 : decode cX4_hasResult 4 = .ok (.iconst 1, 1) := dk_4 (dk_at dksX4_hasResult_0 4 rfl rfl)
theorem dX4_hasResult_5 : decode cX4_hasResult 5 = .ok (.bipush 9, 2) := dk_16 9 (dk_at dksX4_hasResult_0 5 rfl rfl)
theorem dX4_hasResult_7 : decode cX4_hasResult 7 = .ok (.invokestatic 27, 3) := dk_184 0 27 (dk_at dksX4_hasResult_0 7 rfl rfl)
theorem dX4_hasResult_10 : decode cX4_hasResult 10 = .ok (.ifCond .ne 12, 3) := dk_154 0 12 (dk_at dksX4_hasResult_0 10 rfl rfl)
theorem dX4_hasResult_13 : decode cX4_hasResult 13 = .ok (.aload_n 0, 1) := dk_42 (dk_at dksX4_hasResult_0 13 rfl rfl)
theorem dX4_hasResult_14 : decode cX4_hasResult 14 = .ok (.getfield 9, 3) := dk_180 0 9 (dk_at dksX4_hasResult_0 14 rfl rfl)
theorem dX4_hasResult_17 : decode cX4_hasResult 17 = .ok (.bipush 15, 2) := dk_16 15 (dk_at dksX4_hasResult_0 17 rfl rfl)
theorem dX4_hasResult_19 : decode cX4_hasResult 19 = .ok (.if_icmp .ne 7, 3) := dk_160 0 7 (dk_at dksX4_hasResult_0 19 rfl rfl)
theorem dX4_hasResult_22 : decode cX4_hasResult 22 = .ok (.iconst 1, 1) := dk_4 (dk_at dksX4_hasResult_0 22 rfl rfl)
theorem dX4_hasResult_23 : decode cX4_hasResult 23 = .ok (.goto 4, 3) := dk_167 0 4 (dk_at dksX4_hasResult_1 0 rfl rfl)
theorem dX4_hasResult_26 : decode cX4_hasResult 26 = .ok (.iconst 0, 1) := dk_3 (dk_at dksX4_hasResult_1 3 rfl rfl)
theorem dX4_hasResult_27 : decode cX4_hasResult 27 = .ok (.ireturn, 1) := dk_172 (dk_at dksX4_hasResult_1 4 rfl rfl)
def dkwX4_reckon_3 : List UInt8 := [172, 27, 28, 130, 172, 27, 28, 162, 0, 7, 4, 167, 0, 4, 3, 172]
abbrev dktX4_reckon_3 : List UInt8 := dkwX4_reckon_3 ++ []
def dkwX4_reckon_2 : List UInt8 := [42, 180, 0, 24, 172, 27, 28, 96, 172, 27, 28, 100, 172, 27, 28, 104, 172, 27, 28, 108, 172, 27, 28, 126]
abbrev dktX4_reckon_2 : List UInt8 := dkwX4_reckon_2 ++ dktX4_reckon_3
def dkwX4_reckon_1 : List UInt8 := [170, 0, 0, 0, 0, 0, 0, 73, 0, 0, 0, 1, 0, 0, 0, 7, 0, 0, 0, 44, 0, 0, 0, 49, 0, 0, 0, 53, 0, 0, 0, 57, 0, 0, 0, 61, 0, 0, 0, 65, 0, 0, 0, 69]
abbrev dktX4_reckon_1 : List UInt8 := dkwX4_reckon_1 ++ dktX4_reckon_2
def dkwX4_reckon_0 : List UInt8 := [42, 180, 0, 9]
abbrev dktX4_reckon_0 : List UInt8 := dkwX4_reckon_0 ++ dktX4_reckon_1
theorem dksX4_reckon_0 : cX4_reckon.data.toList.drop 0 = dktX4_reckon_0 := by decide +kernel
theorem dksX4_reckon_1 : cX4_reckon.data.toList.drop 4 = dktX4_reckon_1 := dk_seg dksX4_reckon_0 4 rfl rfl
theorem dksX4_reckon_2 : cX4_reckon.data.toList.drop 48 = dktX4_reckon_2 := dk_seg dksX4_reckon_1 44 rfl rfl
theorem dksX4_reckon_3 : cX4_reckon.data.toList.drop 72 = dktX4_reckon_3 := dk_seg dksX4_reckon_2 24 rfl rfl
theorem dX4_reckon_0 : decode cX4_reckon 0 = .ok (.aload_n 0, 1) := dk_42 (dk_at dksX4_reckon_0 0 rfl rfl)
theorem dX4_reckon_1 : decode cX4_reckon 1 = .ok (.getfield 9, 3) := dk_180 0 9 (dk_at dksX4_reckon_0 1 rfl rfl)
theorem dX4_reckon_4 : decode cX4_reckon 4 = .ok (.tableswitch 73 1 7 #[44, 49, 53, 57, 61, 65, 69], 44) := by decide +kernel
theorem dX4_reckon_48 : decode cX4_reckon 48 = .ok (.aload_n 0, 1) := dk_42 (dk_at dksX4_reckon_2 0 rfl rfl)
theorem dX4_reckon_49 : decode cX4_reckon 49 = .ok (.getfield 24, 3) := dk_180 0 24 (dk_at dksX4_reckon_2 1 rfl rfl)
theorem dX4_reckon_52 : decode cX4_reckon 52 = .ok (.ireturn, 1) := dk_172 (dk_at dksX4_reckon_2 4 rfl rfl)
theorem dX4_reckon_53 : decode cX4_reckon 53 = .ok (.iload_n 1, 1) := dk_27 (dk_at dksX4_reckon_2 5 rfl rfl)
theorem dX4_reckon_54 : decode cX4_reckon 54 = .ok (.iload_n 2, 1) := dk_28 (dk_at dksX4_reckon_2 6 rfl rfl)
theorem dX4_reckon_55 : decode cX4_reckon 55 = .ok (.iadd, 1) := dk_96 (dk_at dksX4_reckon_2 7 rfl rfl)
theorem dX4_reckon_56 : decode cX4_reckon 56 = .ok (.ireturn, 1) := dk_172 (dk_at dksX4_reckon_2 8 rfl rfl)
theorem dX4_reckon_57 : decode cX4_reckon 57 = .ok (.iload_n 1, 1) := dk_27 (dk_at dksX4_reckon_2 9 rfl rfl)
theorem dX4_reckon_58 : decode cX4_reckon 58 = .ok (.iload_n 2, 1) := dk_28 (dk_at dksX4_reckon_2 10 rfl rfl)
theorem dX4_reckon_59 : decode cX4_reckon 59 = .ok (.isub, 1) := dk_100 (dk_at dksX4_reckon_2 11 rfl rfl)
theorem dX4_reckon_60 : decode cX4_reckon 60 = .ok (.ireturn, 1) := dk_172 (dk_at dksX4_reckon_2 12 rfl rfl)
theorem dX4_reckon_61 : decode cX4_reckon 61 = .ok (.iload_n 1, 1) := dk_27 (dk_at dksX4_reckon_2 13 rfl rfl)
theorem dX4_reckon_62 : decode cX4_reckon 62 = .ok (.iload_n 2, 1) := dk_28 (dk_at dksX4_reckon_2 14 rfl rfl)
theorem dX4_reckon_63 : decode cX4_reckon 63 = .ok (.imul, 1) := dk_104 (dk_at dksX4_reckon_2 15 rfl rfl)
theorem dX4_reckon_64 : decode cX4_reckon 64 = .ok (.ireturn, 1) := dk_172 (dk_at dksX4_reckon_2 16 rfl rfl)
theorem dX4_reckon_65 : decode cX4_reckon 65 = .ok (.iload_n 1, 1) := dk_27 (dk_at dksX4_reckon_2 17 rfl rfl)
theorem dX4_reckon_66 : decode cX4_reckon 66 = .ok (.iload_n 2, 1) := dk_28 (dk_at dksX4_reckon_2 18 rfl rfl)
theorem dX4_reckon_67 : decode cX4_reckon 67 = .ok (.idiv, 1) := dk_108 (dk_at dksX4_reckon_2 19 rfl rfl)
theorem dX4_reckon_68 : decode cX4_reckon 68 = .ok (.ireturn, 1) := dk_172 (dk_at dksX4_reckon_2 20 rfl rfl)
theorem dX4_reckon_69 : decode cX4_reckon 69 = .ok (.iload_n 1, 1) := dk_27 (dk_at dksX4_reckon_2 21 rfl rfl)
theorem dX4_reckon_70 : decode cX4_reckon 70 = .ok (.iload_n 2, 1) := dk_28 (dk_at dksX4_reckon_2 22 rfl rfl)
theorem dX4_reckon_71 : decode cX4_reckon 71 = .ok (.iand, 1) := dk_126 (dk_at dksX4_reckon_2 23 rfl rfl)
theorem dX4_reckon_72 : decode cX4_reckon 72 = .ok (.ireturn, 1) := dk_172 (dk_at dksX4_reckon_3 0 rfl rfl)
theorem dX4_reckon_73 : decode cX4_reckon 73 = .ok (.iload_n 1, 1) := dk_27 (dk_at dksX4_reckon_3 1 rfl rfl)
theorem dX4_reckon_74 : decode cX4_reckon 74 = .ok (.iload_n 2, 1) := dk_28 (dk_at dksX4_reckon_3 2 rfl rfl)
theorem dX4_reckon_75 : decode cX4_reckon 75 = .ok (.ixor, 1) := dk_130 (dk_at dksX4_reckon_3 3 rfl rfl)
theorem dX4_reckon_76 : decode cX4_reckon 76 = .ok (.ireturn, 1) := dk_172 (dk_at dksX4_reckon_3 4 rfl rfl)
theorem dX4_reckon_77 : decode cX4_reckon 77 = .ok (.iload_n 1, 1) := dk_27 (dk_at dksX4_reckon_3 5 rfl rfl)
theorem dX4_reckon_78 : decode cX4_reckon 78 = .ok (.iload_n 2, 1) := dk_28 (dk_at dksX4_reckon_3 6 rfl rfl)
theorem dX4_reckon_79 : decode cX4_reckon 79 = .ok (.if_icmp .ge 7, 3) := dk_162 0 7 (dk_at dksX4_reckon_3 7 rfl rfl)
theorem dX4_reckon_82 : decode cX4_reckon 82 = .ok (.iconst 1, 1) := dk_4 (dk_at dksX4_reckon_3 10 rfl rfl)
theorem dX4_reckon_83 : decode cX4_reckon 83 = .ok (.goto 4, 3) := dk_167 0 4 (dk_at dksX4_reckon_3 11 rfl rfl)
theorem dX4_reckon_86 : decode cX4_reckon 86 = .ok (.iconst 0, 1) := dk_3 (dk_at dksX4_reckon_3 14 rfl rfl)
theorem dX4_reckon_87 : decode cX4_reckon 87 = .ok (.ireturn, 1) := dk_172 (dk_at dksX4_reckon_3 15 rfl rfl)
def dkwX4_isCondition_0 : List UInt8 := [42, 180, 0, 9, 16, 12, 159, 0, 12, 42, 180, 0, 9, 16, 13, 160, 0, 7, 4, 167, 0, 4, 3, 172]
abbrev dktX4_isCondition_0 : List UInt8 := dkwX4_isCondition_0 ++ []
theorem dksX4_isCondition_0 : cX4_isCondition.data.toList.drop 0 = dktX4_isCondition_0 := by decide +kernel
theorem dX4_isCondition_0 : decode cX4_isCondition 0 = .ok (.aload_n 0, 1) := dk_42 (dk_at dksX4_isCondition_0 0 rfl rfl)
theorem dX4_isCondition_1 : decode cX4_isCondition 1 = .ok (.getfield 9, 3) := dk_180 0 9 (dk_at dksX4_isCondition_0 1 rfl rfl)
theorem dX4_isCondition_4 : decode cX4_isCondition 4 = .ok (.bipush 12, 2) := dk_16 12 (dk_at dksX4_isCondition_0 4 rfl rfl)
theorem dX4_isCondition_6 : decode cX4_isCondition 6 = .ok (.if_icmp .eq 12, 3) := dk_159 0 12 (dk_at dksX4_isCondition_0 6 rfl rfl)
theorem dX4_isCondition_9 : decode cX4_isCondition 9 = .ok (.aload_n 0, 1) := dk_42 (dk_at dksX4_isCondition_0 9 rfl rfl)
theorem dX4_isCondition_10 : decode cX4_isCondition 10 = .ok (.getfield 9, 3) := dk_180 0 9 (dk_at dksX4_isCondition_0 10 rfl rfl)
theorem dX4_isCondition_13 : decode cX4_isCondition 13 = .ok (.bipush 13, 2) := dk_16 13 (dk_at dksX4_isCondition_0 13 rfl rfl)
theorem dX4_isCondition_15 : decode cX4_isCondition 15 = .ok (.if_icmp .ne 7, 3) := dk_160 0 7 (dk_at dksX4_isCondition_0 15 rfl rfl)
theorem dX4_isCondition_18 : decode cX4_isCondition 18 = .ok (.iconst 1, 1) := dk_4 (dk_at dksX4_isCondition_0 18 rfl rfl)
theorem dX4_isCondition_19 : decode cX4_isCondition 19 = .ok (.goto 4, 3) := dk_167 0 4 (dk_at dksX4_isCondition_0 19 rfl rfl)
theorem dX4_isCondition_22 : decode cX4_isCondition 22 = .ok (.iconst 0, 1) := dk_3 (dk_at dksX4_isCondition_0 22 rfl rfl)
theorem dX4_isCondition_23 : decode cX4_isCondition 23 = .ok (.ireturn, 1) := dk_172 (dk_at dksX4_isCondition_0 23 rfl rfl)
def dkwX4_isFulfilled_1 : List UInt8 := [162, 0, 7, 4, 167, 0, 4, 3, 172]
abbrev dktX4_isFulfilled_1 : List UInt8 := dkwX4_isFulfilled_1 ++ []
def dkwX4_isFulfilled_0 : List UInt8 := [42, 180, 0, 9, 16, 12, 160, 0, 16, 27, 28, 160, 0, 7, 4, 167, 0, 17, 3, 167, 0, 13, 27, 28]
abbrev dktX4_isFulfilled_0 : List UInt8 := dkwX4_isFulfilled_0 ++ dktX4_isFulfilled_1
theorem dksX4_isFulfilled_0 : cX4_isFulfilled.data.toList.drop 0 = dktX4_isFulfilled_0 := by decide +kernel
theorem dksX4_isFulfilled_1 : cX4_isFulfilled.data.toList.drop 24 = dktX4_isFulfilled_1 := dk_seg dksX4_isFulfilled_0 24 rfl rfl
theorem dX4_isFulfilled_0 : decode cX4_isFulfilled 0 = .ok (.aload_n 0, 1) := dk_42 (dk_at dksX4_isFulfilled_0 0 rfl rfl)
theorem dX4_isFulfilled_1 : decode cX4_isFulfilled 1 = .ok (.getfield 9, 3) := dk_180 0 9 (dk_at dksX4_isFulfilled_0 1 rfl rfl)
theorem dX4_isFulfilled_4 : decode cX4_isFulfilled 4 = .ok (.bipush 12, 2) := dk_16 12 (dk_at dksX4_isFulfilled_0 4 rfl rfl)
theorem dX4_isFulfilled_6 : decode cX4_isFulfilled 6 = .ok (.if_icmp .ne 16, 3) := dk_160 0 16 (dk_at dksX4_isFulfilled_0 6 rfl rfl)
theorem dX4_isFulfilled_9 : decode cX4_isFulfilled 9 = .ok (.iload_n 1, 1) := dk_27 (dk_at dksX4_isFulfilled_0 9 rfl rfl)
theorem dX4_isFulfilled_10 : decode cX4_isFulfilled 10 = .ok (.iload_n 2, 1) := dk_28 (dk_at dksX4_isFulfilled_0 10 rfl rfl)
theorem dX4_isFulfilled_11 : decode cX4_isFulfilled 11 = .ok (.if_icmp .ne 7, 3) := dk_160 0 7 (dk_at dksX4_isFulfilled_0 11 rfl rfl)
theorem dX4_isFulfilled_14 : decode cX4_isFulfilled 14 = .ok (.iconst 1, 1) := dk_4 (dk_at dksX4_isFulfilled_0 14 rfl rfl)
theorem dX4_isFulfilled_15 : decode cX4_isFulfilled 15 = .ok (.goto 17, 3) := dk_167 0 17 (dk_at dksX4_isFulfilled_0 15 rfl rfl)
theorem dX4_isFulfilled_18 : decode cX4_isFulfilled 18 = .ok (.iconst 0, 1) := dk_3 (dk_at dksX4_isFulfilled_0 18 rfl rfl)
theorem dX4_isFulfilled_19 : decode cX4_isFulfilled 19 = .ok (.goto 13, 3) := dk_167 0 13 (dk_at dksX4_isFulfilled_0 19 rfl rfl)
theorem dX4_isFulfilled_22 : decode cX4_isFulfilled 22 = .ok (.iload_n 1, 1) := dk_27 (dk_at dksX4_isFulfilled_0 22 rfl rfl)
theorem dX4_isFulfilled_23 : decode cX4_isFulfilled 23 = .ok (.iload_n 2, 1) := dk_28 (dk_at dksX4_isFulfilled_0 23 rfl rfl)
theorem dX4_isFulfilled_24 : decode cX4_isFulfilled 24 = .ok (.if_icmp .ge 7, 3) := dk_162 0 7 (dk_at dksX4_isFulfilled_1 0 rfl rfl)
theorem dX4_isFulfilled_27 : decode cX4_isFulfilled 27 = .ok (.iconst 1, 1) := dk_4 (dk_at dksX4_isFulfilled_1 3 rfl rfl)
theorem dX4_isFulfilled_28 : decode cX4_isFulfilled 28 = .ok (.goto 4, 3) := dk_167 0 4 (dk_at dksX4_isFulfilled_1 4 rfl rfl)
theorem dX4_isFulfilled_31 : decode cX4_isFulfilled 31 = .ok (.iconst 0, 1) := dk_3 (dk_at dksX4_isFulfilled_1 7 rfl rfl)
theorem dX4_isFulfilled_32 : decode cX4_isFulfilled 32 = .ok (.ireturn, 1) := dk_172 (dk_at dksX4_isFulfilled_1 8 rfl rfl)
def dkwX4_init_1 : List UInt8 := [181, 0, 21, 42, 21, 5, 181, 0, 24, 177]
abbrev dktX4_init_1 : List UInt8 := dkwX4_init_1 ++ []
def dkwX4_init_0 : List UInt8 := [42, 183, 0, 3, 42, 27, 181, 0, 9, 42, 28, 181, 0, 15, 42, 29, 181, 0, 18, 42, 21, 4]
abbrev dktX4_init_0 : List UInt8 := dkwX4_init_0 ++ dktX4_init_1
theorem dksX4_init_0 : cX4_init.data.toList.drop 0 = dktX4_init_0 := by decide +kernel
theorem dksX4_init_1 : cX4_init.data.toList.drop 22 = dktX4_init_1 := dk_seg dksX4_init_0 22 rfl rfl
theorem dX4_init_0 : decode cX4_init 0 = .ok (.aload_n 0, 1) := dk_42 (dk_at dksX4_init_0 0 rfl rfl)
theorem dX4_init_1 : decode cX4_init 1 = .ok (.invokespecial 3, 3) := dk_183 0 3 (dk_at dksX4_init_0 1 rfl rfl)
theorem dX4_init_4 : decode cX4_init 4 = .ok (.aload_n 0, 1) := dk_42 (dk_at dksX4_init_0 4 rfl rfl)
theorem dX4_init_5 : decode cX4_init 5 = .ok (.iload_n 1, 1) := dk_27 (dk_at dksX4_init_0 5 rfl rfl)
theorem dX4_init_6 : decode cX4_init 6 = .ok (.putfield 9, 3) := dk_181 0 9 (dk_at dksX4_init_0 6 rfl rfl)
theorem dX4_init_9 : decode cX4_init 9 = .ok (.aload_n 0, 1) := dk_42 (dk_at dksX4_init_0 9 rfl rfl)
theorem dX4_init_10 : decode cX4_init 10 = .ok (.iload_n 2, 1) := dk_28 (dk_at dksX4_init_0 10 rfl rfl)
theorem dX4_init_11 : decode cX4_init 11 = .ok (.putfield 15, 3) := dk_181 0 15 (dk_at dksX4_init_0 11 rfl rfl)
theorem dX4_init_14 : decode cX4_init 14 = .ok (.aload_n 0, 1) := dk_42 (dk_at dksX4_init_0 14 rfl rfl)
theorem dX4_init_15 : decode cX4_init 15 = .ok (.iload_n 3, 1) := dk_29 (dk_at dksX4_init_0 15 rfl rfl)
theorem dX4_init_16 : decode cX4_init 16 = .ok (.putfield 18, 3) := dk_181 0 18 (dk_at dksX4_init_0 16 rfl rfl)
theorem dX4_init_19 : decode cX4_init 19 = .ok (.aload_n 0, 1) := dk_42 (dk_at dksX4_init_0 19 rfl rfl)
theorem dX4_init_20 : decode cX4_init 20 = .ok (.iload 4, 2) := dk_21 4 (dk_at dksX4_init_0 20 rfl rfl)
theorem dX4_init_22 : decode cX4_init 22 = .ok (.putfield 21, 3) := dk_181 0 21 (dk_at dksX4_init_1 0 rfl rfl)
theorem dX4_init_25 : decode cX4_init 25 = .ok (.aload_n 0, 1) := dk_42 (dk_at dksX4_init_1 3 rfl rfl)
theorem dX4_init_26 : decode cX4_init 26 = .ok (.iload 5, 2) := dk_21 5 (dk_at dksX4_init_1 4 rfl rfl)
theorem dX4_init_28 : decode cX4_init 28 = .ok (.putfield 24, 3) := dk_181 0 24 (dk_at dksX4_init_1 6 rfl rfl)
theorem dX4_init_31 : decode cX4_init 31 = .ok (.return_, 1) := dk_177 (dk_at dksX4_init_1 9 rfl rfl)
def dkwX4_needsA_0 : List UInt8 := [42, 182, 0, 41, 153, 0, 15, 42, 180, 0, 9, 4, 159, 0, 7, 4, 167, 0, 4, 3, 172]
abbrev dktX4_needsA_0 : List UInt8 := dkwX4_needsA_0 ++ []
theorem dksX4_needsA_0 : cX4_needsA.data.toList.drop 0 = dktX4_needsA_0 := by decide +kernel
theorem dX4_needsA_0 : decode cX4_needsA 0 = .ok (.aload_n 0, 1) := dk_42 (dk_at dksX4_needsA_0 0 rfl rfl)
theorem dX4_needsA_1 : decode cX4_needsA 1 = .ok (.invokevirtual 41, 3) := dk_182 0 41 (dk_at dksX4_needsA_0 1 rfl rfl)
theorem dX4_needsA_4 : decode cX4_needsA 4 = .ok (.ifCond .eq 15, 3) := dk_153 0 15 (dk_at dksX4_needsA_0 4 rfl rfl)
theorem dX4_needsA_7 : decode cX4_needsA 7 = .ok (.aload_n 0, 1) := dk_42 (dk_at dksX4_needsA_0 7 rfl rfl)
theorem dX4_needsA_8 : decode cX4_needsA 8 = .ok (.getfield 9, 3) := dk_180 0 9 (dk_at dksX4_needsA_0 8 rfl rfl)
theorem dX4_needsA_11 : decode cX4_needsA 11 = .ok (.iconst 1, 1) := dk_4 (dk_at dksX4_needsA_0 11 rfl rfl)
theorem dX4_needsA_12 : decode cX4_needsA 12 = .ok (.if_icmp .eq 7, 3) := dk_159 0 7 (dk_at dksX4_needsA_0 12 rfl rfl)
theorem dX4_needsA_15 : decode cX4_needsA 15 = .ok (.iconst 1, 1) := dk_4 (dk_at dksX4_needsA_0 15 rfl rfl)
theorem dX4_needsA_16 : decode cX4_needsA 16 = .ok (.goto 4, 3) := dk_167 0 4 (dk_at dksX4_needsA_0 16 rfl rfl)
theorem dX4_needsA_19 : decode cX4_needsA 19 = .ok (.iconst 0, 1) := dk_3 (dk_at dksX4_needsA_0 19 rfl rfl)
theorem dX4_needsA_20 : decode cX4_needsA 20 = .ok (.ireturn, 1) := dk_172 (dk_at dksX4_needsA_0 20 rfl rfl)
def dkwX4_isForQueue_1 : List UInt8 := [3, 172]
abbrev dktX4_isForQueue_1 : List UInt8 := dkwX4_isForQueue_1 ++ []
def dkwX4_isForQueue_0 : List UInt8 := [42, 180, 0, 9, 4, 16, 13, 184, 0, 27, 154, 0, 10, 42, 182, 0, 38, 153, 0, 7, 4, 167, 0, 4]
abbrev dktX4_isForQueue_0 : List UInt8 := dkwX4_isForQueue_0 ++ dktX4_isForQueue_1
theorem dksX4_isForQueue_0 : cX4_isForQueue.data.toList.drop 0 = dktX4_isForQueue_0 := by decide +kernel
theorem dksX4_isForQueue_1 : cX4_isForQueue.data.toList.drop 24 = dktX4_isForQueue_1 := dk_seg dksX4_isForQueue_0 24 rfl rfl
theorem dX4_isForQueue_0 : decode cX4_isForQueue 0 = .ok (.aload_n 0, 1) := dk_42 (dk_at dksX4_isForQueue_0 0 rfl rfl)
theorem dX4_isForQueue_1 : decode cX4_isForQueue 1 = .ok (.getfield 9, 3) := dk_180 0 9 (dk_at dksX4_isForQueue_0 1 rfl rfl)
theorem dX4_isForQueue_4 : decode cX4_isForQueue 4 = .ok (.iconst 1, 1) := dk_4 (dk_at dksX4_isForQueue_0 4 rfl rfl)
theorem dX4_isForQueue_5 : decode cX4_isForQueue 5 = .ok (.bipush 13, 2) := dk_16 13 (dk_at dksX4_isForQueue_0 5 rfl rfl)
theorem dX4_isForQueue_7 : decode cX4_isForQueue 7 = .ok (.invokestatic 27, 3) := dk_184 0 27 (dk_at dksX4_isForQueue_0 7 rfl rfl)
theorem dX4_isForQueue_10 : decode cX4_isForQueue 10 = .ok (.ifCond .ne 10, 3) := dk_154 0 10 (dk_at dksX4_isForQueue_0 10 rfl rfl)
theorem dX4_isForQueue_13 : decode cX4_isForQueue 13 = .ok (.aload_n 0, 1) := dk_42 (dk_at dksX4_isForQueue_0 13 rfl rfl)
theorem dX4_isForQueue_14 : decode cX4_isForQueue 14 = .ok (.invokevirtual 38, 3) := dk_182 0 38 (dk_at dksX4_isForQueue_0 14 rfl rfl)
theorem dX4_isForQueue_17 : decode cX4_isForQueue 17 = .ok (.ifCond .eq 7, 3) := dk_153 0 7 (dk_at dksX4_isForQueue_0 17 rfl rfl)
theorem dX4_isForQueue_20 : decode cX4_isForQueue 20 = .ok (.iconst 1, 1) := dk_4 (dk_at dksX4_isForQueue_0 20 rfl rfl)
theorem dX4_isForQueue_21 : decode cX4_isForQueue 21 = .ok (.goto 4, 3) := dk_167 0 4 (dk_at dksX4_isForQueue_0 21 rfl rfl)
theorem dX4_isForQueue_24 : decode cX4_isForQueue 24 = .ok (.iconst 0, 1) := dk_3 (dk_at dksX4_isForQueue_1 0 rfl rfl)
theorem dX4_isForQueue_25 : decode cX4_isForQueue 25 = .ok (.ireturn, 1) := dk_172 (dk_at dksX4_isForQueue_1 1 rfl rfl)
def dkwX4_needsBToBegin_1 : List UInt8 := [167, 0, 4, 3, 172]
abbrev dktX4_needsBToBegin_1 : List UInt8 := dkwX4_needsBToBegin_1 ++ []
def dkwX4_needsBToBegin_0 : List UInt8 := [42, 182, 0, 44, 153, 0, 21, 42, 182, 0, 47, 154, 0, 14, 42, 182, 0, 38, 154, 0, 7, 4]
abbrev dktX4_needsBToBegin_0 : List UInt8 := dkwX4_needsBToBegin_0 ++ dktX4_needsBToBegin_1
theorem dksX4_needsBToBegin_0 : cX4_needsBToBegin.data.toList.drop 0 = dktX4_needsBToBegin_0 := by decide +kernel
theorem dksX4_needsBToBegin_1 : cX4_needsBToBegin.data.toList.drop 22 = dktX4_needsBToBegin_1 := dk_seg dksX4_needsBToBegin_0 22 rfl rfl
theorem dX4_needsBToBegin_0 : decode cX4_needsBToBegin 0 = .ok (.aload_n 0, 1) := dk_42 (dk_at dksX4_needsBToBegin_0 0 rfl rfl)
theorem dX4_needsBToBegin_1 : decode cX4_needsBToBegin 1 = .ok (.invokevirtual 44, 3) := dk_182 0 44 (dk_at dksX4_needsBToBegin_0 1 rfl rfl)
theorem dX4_needsBToBegin_4 : decode cX4_needsBToBegin 4 = .ok (.ifCond .eq 21, 3) := dk_153 0 21 (dk_at dksX4_needsBToBegin_0 4 rfl rfl)
theorem dX4_needsBToBegin_7 : decode cX4_needsBToBegin 7 = .ok (.aload_n 0, 1) := dk_42 (dk_at dksX4_needsBToBegin_0 7 rfl rfl)
theorem dX4_needsBToBegin_8 : decode cX4_needsBToBegin 8 = .ok (.invokevirtual 47, 3) := dk_182 0 47 (dk_at dksX4_needsBToBegin_0 8 rfl rfl)
theorem dX4_needsBToBegin_11 : decode cX4_needsBToBegin 11 = .ok (.ifCond .ne 14, 3) := dk_154 0 14 (dk_at dksX4_needsBToBegin_0 11 rfl rfl)
theorem dX4_needsBToBegin_14 : decode cX4_needsBToBegin 14 = .ok (.aload_n 0, 1) := dk_42 (dk_at dksX4_needsBToBegin_0 14 rfl rfl)
theorem dX4_needsBToBegin_15 : decode cX4_needsBToBegin 15 = .ok (.invokevirtual 38, 3) := dk_182 0 38 (dk_at dksX4_needsBToBegin_0 15 rfl rfl)
theorem dX4_needsBToBegin_18 : decode cX4_needsBToBegin 18 = .ok (.ifCond .ne 7, 3) := dk_154 0 7 (dk_at dksX4_needsBToBegin_0 18 rfl rfl)
theorem dX4_needsBToBegin_21 : decode cX4_needsBToBegin 21 = .ok (.iconst 1, 1) := dk_4 (dk_at dksX4_needsBToBegin_0 21 rfl rfl)
theorem dX4_needsBToBegin_22 : decode cX4_needsBToBegin 22 = .ok (.goto 4, 3) := dk_167 0 4 (dk_at dksX4_needsBToBegin_1 0 rfl rfl)
theorem dX4_needsBToBegin_25 : decode cX4_needsBToBegin 25 = .ok (.iconst 0, 1) := dk_3 (dk_at dksX4_needsBToBegin_1 3 rfl rfl)
theorem dX4_needsBToBegin_26 : decode cX4_needsBToBegin 26 = .ok (.ireturn, 1) := dk_172 (dk_at dksX4_needsBToBegin_1 4 rfl rfl)
def dkwX4_standsAlone_0 : List UInt8 := [42, 180, 0, 9, 16, 19, 159, 0, 12, 42, 180, 0, 9, 16, 21, 160, 0, 7, 4, 167, 0, 4, 3, 172]
abbrev dktX4_standsAlone_0 : List UInt8 := dkwX4_standsAlone_0 ++ []
theorem dksX4_standsAlone_0 : cX4_standsAlone.data.toList.drop 0 = dktX4_standsAlone_0 := by decide +kernel
theorem dX4_standsAlone_0 : decode cX4_standsAlone 0 = .ok (.aload_n 0, 1) := dk_42 (dk_at dksX4_standsAlone_0 0 rfl rfl)
theorem dX4_standsAlone_1 : decode cX4_standsAlone 1 = .ok (.getfield 9, 3) := dk_180 0 9 (dk_at dksX4_standsAlone_0 1 rfl rfl)
theorem dX4_standsAlone_4 : decode cX4_standsAlone 4 = .ok (.bipush 19, 2) := dk_16 19 (dk_at dksX4_standsAlone_0 4 rfl rfl)
theorem dX4_standsAlone_6 : decode cX4_standsAlone 6 = .ok (.if_icmp .eq 12, 3) := dk_159 0 12 (dk_at dksX4_standsAlone_0 6 rfl rfl)
theorem dX4_standsAlone_9 : decode cX4_standsAlone 9 = .ok (.aload_n 0, 1) := dk_42 (dk_at dksX4_standsAlone_0 9 rfl rfl)
theorem dX4_standsAlone_10 : decode cX4_standsAlone 10 = .ok (.getfield 9, 3) := dk_180 0 9 (dk_at dksX4_standsAlone_0 10 rfl rfl)
theorem dX4_standsAlone_13 : decode cX4_standsAlone 13 = .ok (.bipush 21, 2) := dk_16 21 (dk_at dksX4_standsAlone_0 13 rfl rfl)
theorem dX4_standsAlone_15 : decode cX4_standsAlone 15 = .ok (.if_icmp .ne 7, 3) := dk_160 0 7 (dk_at dksX4_standsAlone_0 15 rfl rfl)
theorem dX4_standsAlone_18 : decode cX4_standsAlone 18 = .ok (.iconst 1, 1) := dk_4 (dk_at dksX4_standsAlone_0 18 rfl rfl)
theorem dX4_standsAlone_19 : decode cX4_standsAlone 19 = .ok (.goto 4, 3) := dk_167 0 4 (dk_at dksX4_standsAlone_0 19 rfl rfl)
theorem dX4_standsAlone_22 : decode cX4_standsAlone 22 = .ok (.iconst 0, 1) := dk_3 (dk_at dksX4_standsAlone_0 22 rfl rfl)
theorem dX4_standsAlone_23 : decode cX4_standsAlone 23 = .ok (.ireturn, 1) := dk_172 (dk_at dksX4_standsAlone_0 23 rfl rfl)
def dkwX5_init_1 : List UInt8 := [181, 0, 19, 177]
abbrev dktX5_init_1 : List UInt8 := dkwX5_init_1 ++ []
def dkwX5_init_0 : List UInt8 := [42, 183, 0, 1, 42, 27, 181, 0, 7, 42, 28, 181, 0, 13, 42, 29, 181, 0, 16, 42, 25, 4]
abbrev dktX5_init_0 : List UInt8 := dkwX5_init_0 ++ dktX5_init_1
theorem dksX5_init_0 : cX5_init.data.toList.drop 0 = dktX5_init_0 := by decide +kernel
theorem dksX5_init_1 : cX5_init.data.toList.drop 22 = dktX5_init_1 := dk_seg dksX5_init_0 22 rfl rfl
theorem dX5_init_0 : decode cX5_init 0 = .ok (.aload_n 0, 1) := dk_42 (dk_at dksX5_init_0 0 rfl rfl)
theorem dX5_init_1 : decode cX5_init 1 = .ok (.invokespecial 1, 3) := dk_183 0 1 (dk_at dksX5_init_0 1 rfl rfl)
theorem dX5_init_4 : decode cX5_init 4 = .ok (.aload_n 0, 1) := dk_42 (dk_at dksX5_init_0 4 rfl rfl)
theorem dX5_init_5 : decode cX5_init 5 = .ok (.iload_n 1, 1) := dk_27 (dk_at dksX5_init_0 5 rfl rfl)
theorem dX5_init_6 : decode cX5_init 6 = .ok (.putfield 7, 3) := dk_181 0 7 (dk_at dksX5_init_0 6 rfl rfl)
theorem dX5_init_9 : decode cX5_init 9 = .ok (.aload_n 0, 1) := dk_42 (dk_at dksX5_init_0 9 rfl rfl)
theorem dX5_init_10 : decode cX5_init 10 = .ok (.iload_n 2, 1) := dk_28 (dk_at dksX5_init_0 10 rfl rfl)
theorem dX5_init_11 : decode cX5_init 11 = .ok (.putfield 13, 3) := dk_181 0 13 (dk_at dksX5_init_0 11 rfl rfl)
theorem dX5_init_14 : decode cX5_init 14 = .ok (.aload_n 0, 1) := dk_42 (dk_at dksX5_init_0 14 rfl rfl)
theorem dX5_init_15 : decode cX5_init 15 = .ok (.iload_n 3, 1) := dk_29 (dk_at dksX5_init_0 15 rfl rfl)
theorem dX5_init_16 : decode cX5_init 16 = .ok (.putfield 16, 3) := dk_181 0 16 (dk_at dksX5_init_0 16 rfl rfl)
theorem dX5_init_19 : decode cX5_init 19 = .ok (.aload_n 0, 1) := dk_42 (dk_at dksX5_init_0 19 rfl rfl)
theorem dX5_init_20 : decode cX5_init 20 = .ok (.aload 4, 2) := dk_25 4 (dk_at dksX5_init_0 20 rfl rfl)
theorem dX5_init_22 : decode cX5_init 22 = .ok (.putfield 19, 3) := dk_181 0 19 (dk_at dksX5_init_1 0 rfl rfl)
theorem dX5_init_25 : decode cX5_init 25 = .ok (.return_, 1) := dk_177 (dk_at dksX5_init_1 3 rfl rfl)
def dkwX6_init_1 : List UInt8 := [3, 167, 0, 4, 4, 181, 0, 21, 177]
abbrev dktX6_init_1 : List UInt8 := dkwX6_init_1 ++ []
def dkwX6_init_0 : List UInt8 := [42, 183, 0, 3, 42, 5, 181, 0, 9, 42, 4, 181, 0, 15, 42, 4, 181, 0, 18, 42, 27, 153, 0, 7]
abbrev dktX6_init_0 : List UInt8 := dkwX6_init_0 ++ dktX6_init_1
theorem dksX6_init_0 : cX6_init.data.toList.drop 0 = dktX6_init_0 := by decide +kernel
theorem dksX6_init_1 : cX6_init.data.toList.drop 24 = dktX6_init_1 := dk_seg dksX6_init_0 24 rfl rfl
theorem dX6_init_0 : decode cX6_init 0 = .ok (.aload_n 0, 1) := dk_42 (dk_at dksX6_init_0 0 rfl rfl)
theorem dX6_init_1 : decode cX6_init 1 = .ok (.invokespecial 3, 3) := dk_183 0 3 (dk_at dksX6_init_0 1 rfl rfl)
theorem dX6_init_4 : decode cX6_init 4 = .ok (.aload_n 0, 1) := dk_42 (dk_at dksX6_init_0 4 rfl rfl)
theorem dX6_init_5 : decode cX6_init 5 = .ok (.iconst 2, 1) := dk_5 (dk_at dksX6_init_0 5 rfl rfl)
theorem dX6_init_6 : decode cX6_init 6 = .ok (.putfield 9, 3) := dk_181 0 9 (dk_at dksX6_init_0 6 rfl rfl)
theorem dX6_init_9 : decode cX6_init 9 = .ok (.aload_n 0, 1) := dk_42 (dk_at dksX6_init_0 9 rfl rfl)
theorem dX6_init_10 : decode cX6_init 10 = .ok (.iconst 1, 1) := dk_4 (dk_at dksX6_init_0 10 rfl rfl)
theorem dX6_init_11 : decode cX6_init 11 = .ok (.putfield 15, 3) := dk_181 0 15 (dk_at dksX6_init_0 11 rfl rfl)
theorem dX6_init_14 : decode cX6_init 14 = .ok (.aload_n 0, 1) := dk_42 (dk_at dksX6_init_0 14 rfl rfl)
theorem dX6_init_15 : decode cX6_init 15 = .ok (.iconst 1, 1) := dk_4 (dk_at dksX6_init_0 15 rfl rfl)
theorem dX6_init_16 : decode cX6_init 16 = .ok (.putfield 18, 3) := dk_181 0 18 (dk_at dksX6_init_0 16 rfl rfl)
theorem dX6_init_19 : decode cX6_init 19 = .ok (.aload_n 0, 1) := dk_42 (dk_at dksX6_init_0 19 rfl rfl)
theorem dX6_init_20 : decode cX6_init 20 = .ok (.iload_n 1, 1) := dk_27 (dk_at dksX6_init_0 20 rfl rfl)
theorem dX6_init_21 : decode cX6_init 21 = .ok (.ifCond .eq 7, 3) := dk_153 0 7 (dk_at dksX6_init_0 21 rfl rfl)
theorem dX6_init_24 : decode cX6_init 24 = .ok (.iconst 0, 1) := dk_3 (dk_at dksX6_init_1 0 rfl rfl)
theorem dX6_init_25 : decode cX6_init 25 = .ok (.goto 4, 3) := dk_167 0 4 (dk_at dksX6_init_1 1 rfl rfl)
theorem dX6_init_28 : decode cX6_init 28 = .ok (.iconst 1, 1) := dk_4 (dk_at dksX6_init_1 4 rfl rfl)
theorem dX6_init_29 : decode cX6_init 29 = .ok (.putfield 21, 3) := dk_181 0 21 (dk_at dksX6_init_1 5 rfl rfl)
theorem dX6_init_32 : decode cX6_init 32 = .ok (.return_, 1) := dk_177 (dk_at dksX6_init_1 8 rfl rfl)
def dkwX6_has_0 : List UInt8 := [42, 27, 182, 0, 24, 158, 0, 7, 4, 167, 0, 4, 3, 172]
abbrev dktX6_has_0 : List UInt8 := dkwX6_has_0 ++ []
theorem dksX6_has_0 : cX6_has.data.toList.drop 0 = dktX6_has_0 := by decide +kernel
theorem dX6_has_0 : decode cX6_has 0 = .ok (.aload_n 0, 1) := dk_42 (dk_at dksX6_has_0 0 rfl rfl)
theorem dX6_has_1 : decode cX6_has 1 = .ok (.iload_n 1, 1) := dk_27 (dk_at dksX6_has_0 1 rfl rfl)
theorem dX6_has_2 : decode cX6_has 2 = .ok (.invokevirtual 24, 3) := dk_182 0 24 (dk_at dksX6_has_0 2 rfl rfl)
theorem dX6_has_5 : decode cX6_has 5 = .ok (.ifCond .le 7, 3) := dk_158 0 7 (dk_at dksX6_has_0 5 rfl rfl)
theorem dX6_has_8 : decode cX6_has 8 = .ok (.iconst 1, 1) := dk_4 (dk_at dksX6_has_0 8 rfl rfl)
theorem dX6_has_9 : decode cX6_has 9 = .ok (.goto 4, 3) := dk_167 0 4 (dk_at dksX6_has_0 9 rfl rfl)
theorem dX6_has_12 : decode cX6_has 12 = .ok (.iconst 0, 1) := dk_3 (dk_at dksX6_has_0 12 rfl rfl)
theorem dX6_has_13 : decode cX6_has 13 = .ok (.ireturn, 1) := dk_172 (dk_at dksX6_has_0 13 rfl rfl)
def dkwX6_leftFor_1 : List UInt8 := [16, 11, 184, 0, 28, 153, 0, 10, 42, 180, 0, 18, 167, 0, 7, 42, 180, 0, 9, 172]
abbrev dktX6_leftFor_1 : List UInt8 := dkwX6_leftFor_1 ++ []
def dkwX6_leftFor_0 : List UInt8 := [27, 7, 160, 0, 8, 42, 180, 0, 15, 172, 27, 8, 160, 0, 8, 42, 180, 0, 21, 172, 27, 16, 9]
abbrev dktX6_leftFor_0 : List UInt8 := dkwX6_leftFor_0 ++ dktX6_leftFor_1
theorem dksX6_leftFor_0 : cX6_leftFor.data.toList.drop 0 = dktX6_leftFor_0 := by decide +kernel
theorem dksX6_leftFor_1 : cX6_leftFor.data.toList.drop 23 = dktX6_leftFor_1 := dk_seg dksX6_leftFor_0 23 rfl rfl
theorem dX6_leftFor_0 : decode cX6_leftFor 0 = .ok (.iload_n 1, 1) := dk_27 (dk_at dksX6_leftFor_0 0 rfl rfl)
theorem dX6_leftFor_1 : decode cX6_leftFor 1 = .ok (.iconst 4, 1) := dk_7 (dk_at dksX6_leftFor_0 1 rfl rfl)
theorem dX6_leftFor_2 : decode cX6_leftFor 2 = .ok (.if_icmp .ne 8, 3) := dk_160 0 8 (dk_at dksX6_leftFor_0 2 rfl rfl)
theorem dX6_leftFor_5 : decode cX6_leftFor 5 = .ok (.aload_n 0, 1) := dk_42 (dk_at dksX6_leftFor_0 5 rfl rfl)
theorem dX6_leftFor_6 : decode cX6_leftFor 6 = .ok (.getfield 15, 3) := dk_180 0 15 (dk_at dksX6_leftFor_0 6 rfl rfl)
theorem dX6_leftFor_9 : decode cX6_leftFor 9 = .ok (.ireturn, 1) := dk_172 (dk_at dksX6_leftFor_0 9 rfl rfl)
theorem dX6_leftFor_10 : decode cX6_leftFor 10 = .ok (.iload_n 1, 1) := dk_27 (dk_at dksX6_leftFor_0 10 rfl rfl)
theorem dX6_leftFor_11 : decode cX6_leftFor 11 = .ok (.iconst 5, 1) := dk_8 (dk_at dksX6_leftFor_0 11 rfl rfl)
theorem dX6_leftFor_12 : decode cX6_leftFor 12 = .ok (.if_icmp .ne 8, 3) := dk_160 0 8 (dk_at dksX6_leftFor_0 12 rfl rfl)
theorem dX6_leftFor_15 : decode cX6_leftFor 15 = .ok (.aload_n 0, 1) := dk_42 (dk_at dksX6_leftFor_0 15 rfl rfl)
theorem dX6_leftFor_16 : decode cX6_leftFor 16 = .ok (.getfield 21, 3) := dk_180 0 21 (dk_at dksX6_leftFor_0 16 rfl rfl)
theorem dX6_leftFor_19 : decode cX6_leftFor 19 = .ok (.ireturn, 1) := dk_172 (dk_at dksX6_leftFor_0 19 rfl rfl)
theorem dX6_leftFor_20 : decode cX6_leftFor 20 = .ok (.iload_n 1, 1) := dk_27 (dk_at dksX6_leftFor_0 20 rfl rfl)
theorem dX6_leftFor_21 : decode cX6_leftFor 21 = .ok (.bipush 9, 2) := dk_16 9 (dk_at dksX6_leftFor_0 21 rfl rfl)
theorem dX6_leftFor_23 : decode cX6_leftFor 23 = .ok (.bipush 11, 2) := dk_16 11 (dk_at dksX6_leftFor_1 0 rfl rfl)
theorem dX6_leftFor_25 : decode cX6_leftFor 25 = .ok (.invokestatic 28, 3) := dk_184 0 28 (dk_at dksX6_leftFor_1 2 rfl rfl)
theorem dX6_leftFor_28 : decode cX6_leftFor 28 = .ok (.ifCond .eq 10, 3) := dk_153 0 10 (dk_at dksX6_leftFor_1 5 rfl rfl)
theorem dX6_leftFor_31 : decode cX6_leftFor 31 = .ok (.aload_n 0, 1) := dk_42 (dk_at dksX6_leftFor_1 8 rfl rfl)
theorem dX6_leftFor_32 : decode cX6_leftFor 32 = .ok (.getfield 18, 3) := dk_180 0 18 (dk_at dksX6_leftFor_1 9 rfl rfl)
theorem dX6_leftFor_35 : decode cX6_leftFor 35 = .ok (.goto 7, 3) := dk_167 0 7 (dk_at dksX6_leftFor_1 12 rfl rfl)
theorem dX6_leftFor_38 : decode cX6_leftFor 38 = .ok (.aload_n 0, 1) := dk_42 (dk_at dksX6_leftFor_1 15 rfl rfl)
theorem dX6_leftFor_39 : decode cX6_leftFor 39 = .ok (.getfield 9, 3) := dk_180 0 9 (dk_at dksX6_leftFor_1 16 rfl rfl)
theorem dX6_leftFor_42 : decode cX6_leftFor 42 = .ok (.ireturn, 1) := dk_172 (dk_at dksX6_leftFor_1 19 rfl rfl)
def dkwX6_use_2 : List UInt8 := [89, 180, 0, 18, 4, 100, 181, 0, 18, 167, 0, 13, 42, 89, 180, 0, 9, 4, 100, 181, 0, 9, 177]
abbrev dktX6_use_2 : List UInt8 := dkwX6_use_2 ++ []
def dkwX6_use_1 : List UInt8 := [89, 180, 0, 21, 4, 100, 181, 0, 21, 167, 0, 37, 27, 16, 9, 16, 11, 184, 0, 28, 153, 0, 16, 42]
abbrev dktX6_use_1 : List UInt8 := dkwX6_use_1 ++ dktX6_use_2
def dkwX6_use_0 : List UInt8 := [27, 7, 160, 0, 16, 42, 89, 180, 0, 15, 4, 100, 181, 0, 15, 167, 0, 55, 27, 8, 160, 0, 16, 42]
abbrev dktX6_use_0 : List UInt8 := dkwX6_use_0 ++ dktX6_use_1
theorem dksX6_use_0 : cX6_use.data.toList.drop 0 = dktX6_use_0 := by decide +kernel
theorem dksX6_use_1 : cX6_use.data.toList.drop 24 = dktX6_use_1 := dk_seg dksX6_use_0 24 rfl rfl
theorem dksX6_use_2 : cX6_use.data.toList.drop 48 = dktX6_use_2 := dk_seg dksX6_use_1 24 rfl rfl
theorem dX6_use_0 : decode cX6_use 0 = .ok (.iload_n 1, 1) := dk_27 (dk_at dksX6_use_0 0 rfl rfl)
theorem dX6_use_1 : decode cX6_use 1 = .ok (.iconst 4, 1) := dk_7 (dk_at dksX6_use_0 1 rfl rfl)
theorem dX6_use_2 : decode cX6_use 2 = .ok (.if_icmp .ne 16, 3) := dk_160 0 16 (dk_at dksX6_use_0 2 rfl rfl)
theorem dX6_use_5 : decode cX6_use 5 = .ok (.aload_n 0, 1) := dk_42 (dk_at dksX6_use_0 5 rfl rfl)
theorem dX6_use_6 : decode cX6_use 6 = .ok (.dup, 1) := dk_89 (dk_at dksX6_use_0 6 rfl rfl)
theorem dX6_use_7 : decode cX6_use 7 = .ok (.getfield 15, 3) := dk_180 0 15 (dk_at dksX6_use_0 7 rfl rfl)
theorem dX6_use_10 : decode cX6_use 10 = .ok (.iconst 1, 1) := dk_4 (dk_at dksX6_use_0 10 rfl rfl)
theorem dX6_use_11 : decode cX6_use 11 = .ok (.isub, 1) := dk_100 (dk_at dksX6_use_0 11 rfl rfl)
theorem dX6_use_12 : decode cX6_use 12 = .ok (.putfield 15, 3) := dk_181 0 15 (dk_at dksX6_use_0 12 rfl rfl)
theorem dX6_use_15 : decode cX6_use 15 = .ok (.goto 55, 3) := dk_167 0 55 (dk_at dksX6_use_0 15 rfl rfl)
theorem dX6_use_18 : decode cX6_use 18 = .ok (.iload_n 1, 1) := dk_27 (dk_at dksX6_use_0 18 rfl rfl)
theorem dX6_use_19 : decode cX6_use 19 = .ok (.iconst 5, 1) := dk_8 (dk_at dksX6_use_0 19 rfl rfl)
theorem dX6_use_20 : decode cX6_use 20 = .ok (.if_icmp .ne 16, 3) := dk_160 0 16 (dk_at dksX6_use_0 20 rfl rfl)
theorem dX6_use_23 : decode cX6_use 23 = .ok (.aload_n 0, 1) := dk_42 (dk_at dksX6_use_0 23 rfl rfl)
theorem dX6_use_24 : decode cX6_use 24 = .ok (.dup, 1) := dk_89 (dk_at dksX6_use_1 0 rfl rfl)
theorem dX6_use_25 : decode cX6_use 25 = .ok (.getfield 21, 3) := dk_180 0 21 (dk_at dksX6_use_1 1 rfl rfl)
theorem dX6_use_28 : decode cX6_use 28 = .ok (.iconst 1, 1) := dk_4 (dk_at dksX6_use_1 4 rfl rfl)
theorem dX6_use_29 : decode cX6_use 29 = .ok (.isub, 1) := dk_100 (dk_at dksX6_use_1 5 rfl rfl)
theorem dX6_use_30 : decode cX6_use 30 = .ok (.putfield 21, 3) := dk_181 0 21 (dk_at dksX6_use_1 6 rfl rfl)
theorem dX6_use_33 : decode cX6_use 33 = .ok (.goto 37, 3) := dk_167 0 37 (dk_at dksX6_use_1 9 rfl rfl)
theorem dX6_use_36 : decode cX6_use 36 = .ok (.iload_n 1, 1) := dk_27 (dk_at dksX6_use_1 12 rfl rfl)
theorem dX6_use_37 : decode cX6_use 37 = .ok (.bipush 9, 2) := dk_16 9 (dk_at dksX6_use_1 13 rfl rfl)
theorem dX6_use_39 : decode cX6_use 39 = .ok (.bipush 11, 2) := dk_16 11 (dk_at dksX6_use_1 15 rfl rfl)
theorem dX6_use_41 : decode cX6_use 41 = .ok (.invokestatic 28, 3) := dk_184 0 28 (dk_at dksX6_use_1 17 rfl rfl)
theorem dX6_use_44 : decode cX6_use 44 = .ok (.ifCond .eq 16, 3) := dk_153 0 16 (dk_at dksX6_use_1 20 rfl rfl)
theorem dX6_use_47 : decode cX6_use 47 = .ok (.aload_n 0, 1) := dk_42 (dk_at dksX6_use_1 23 rfl rfl)
theorem dX6_use_48 : decode cX6_use 48 = .ok (.dup, 1) := dk_89 (dk_at dksX6_use_2 0 rfl rfl)
theorem dX6_use_49 : decode cX6_use 49 = .ok (.getfield 18, 3) := dk_180 0 18 (dk_at dksX6_use_2 1 rfl rfl)
theorem dX6_use_52 : decode cX6_use 52 = .ok (.iconst 1, 1) := dk_4 (dk_at dksX6_use_2 4 rfl rfl)
theorem dX6_use_53 : decode cX6_use 53 = .ok (.isub, 1) := dk_100 (dk_at dksX6_use_2 5 rfl rfl)
theorem dX6_use_54 : decode cX6_use 54 = .ok (.putfield 18, 3) := dk_181 0 18 (dk_at dksX6_use_2 6 rfl rfl)
theorem dX6_use_57 : decode cX6_use 57 = .ok (.goto 13, 3) := dk_167 0 13 (dk_at dksX6_use_2 9 rfl rfl)
theorem dX6_use_60 : decode cX6_use 60 = .ok (.aload_n 0, 1) := dk_42 (dk_at dksX6_use_2 12 rfl rfl)
theorem dX6_use_61 : decode cX6_use 61 = .ok (.dup, 1) := dk_89 (dk_at dksX6_use_2 13 rfl rfl)
theorem dX6_use_62 : decode cX6_use 62 = .ok (.getfield 9, 3) := dk_180 0 9 (dk_at dksX6_use_2 14 rfl rfl)
theorem dX6_use_65 : decode cX6_use 65 = .ok (.iconst 1, 1) := dk_4 (dk_at dksX6_use_2 17 rfl rfl)
theorem dX6_use_66 : decode cX6_use 66 = .ok (.isub, 1) := dk_100 (dk_at dksX6_use_2 18 rfl rfl)
theorem dX6_use_67 : decode cX6_use 67 = .ok (.putfield 9, 3) := dk_181 0 9 (dk_at dksX6_use_2 19 rfl rfl)
theorem dX6_use_70 : decode cX6_use 70 = .ok (.return_, 1) := dk_177 (dk_at dksX6_use_2 22 rfl rfl)
def dkwX7_init_0 : List UInt8 := [42, 183, 0, 1, 42, 27, 181, 0, 7, 42, 28, 181, 0, 13, 177]
abbrev dktX7_init_0 : List UInt8 := dkwX7_init_0 ++ []
theorem dksX7_init_0 : cX7_init.data.toList.drop 0 = dktX7_init_0 := by decide +kernel
theorem dX7_init_0 : decode cX7_init 0 = .ok (.aload_n 0, 1) := dk_42 (dk_at dksX7_init_0 0 rfl rfl)
theorem dX7_init_1 : decode cX7_init 1 = .ok (.invokespecial 1, 3) := dk_183 0 1 (dk_at dksX7_init_0 1 rfl rfl)
theorem dX7_init_4 : decode cX7_init 4 = .ok (.aload_n 0, 1) := dk_42 (dk_at dksX7_init_0 4 rfl rfl)
theorem dX7_init_5 : decode cX7_init 5 = .ok (.iload_n 1, 1) := dk_27 (dk_at dksX7_init_0 5 rfl rfl)
theorem dX7_init_6 : decode cX7_init 6 = .ok (.putfield 7, 3) := dk_181 0 7 (dk_at dksX7_init_0 6 rfl rfl)
theorem dX7_init_9 : decode cX7_init 9 = .ok (.aload_n 0, 1) := dk_42 (dk_at dksX7_init_0 9 rfl rfl)
theorem dX7_init_10 : decode cX7_init 10 = .ok (.iload_n 2, 1) := dk_28 (dk_at dksX7_init_0 10 rfl rfl)
theorem dX7_init_11 : decode cX7_init 11 = .ok (.putfield 13, 3) := dk_181 0 13 (dk_at dksX7_init_0 11 rfl rfl)
theorem dX7_init_14 : decode cX7_init 14 = .ok (.return_, 1) := dk_177 (dk_at dksX7_init_0 14 rfl rfl)
def dkwX8_end_0 : List UInt8 := [42, 16, 101, 181, 0, 27, 42, 27, 181, 0, 18, 177]
abbrev dktX8_end_0 : List UInt8 := dkwX8_end_0 ++ []
theorem dksX8_end_0 : cX8_end.data.toList.drop 0 = dktX8_end_0 := by decide +kernel
theorem dX8_end_0 : decode cX8_end 0 = .ok (.aload_n 0, 1) := dk_42 (dk_at dksX8_end_0 0 rfl rfl)
theorem dX8_end_1 : decode cX8_end 1 = .ok (.bipush 101, 2) := dk_16 101 (dk_at dksX8_end_0 1 rfl rfl)
theorem dX8_end_3 : decode cX8_end 3 = .ok (.putfield 27, 3) := dk_181 0 27 (dk_at dksX8_end_0 3 rfl rfl)
theorem dX8_end_6 : decode cX8_end 6 = .ok (.aload_n 0, 1) := dk_42 (dk_at dksX8_end_0 6 rfl rfl)
theorem dX8_end_7 : decode cX8_end 7 = .ok (.iload_n 1, 1) := dk_27 (dk_at dksX8_end_0 7 rfl rfl)
theorem dX8_end_8 : decode cX8_end 8 = .ok (.putfield 18, 3) := dk_181 0 18 (dk_at dksX8_end_0 8 rfl rfl)
theorem dX8_end_11 : decode cX8_end 11 = .ok (.return_, 1) := dk_177 (dk_at dksX8_end_0 11 rfl rfl)
theorem dX8_age_0 : decode cX8_age 0 = .ok (.aload_n 0, 1) := by decide +kernel
theorem dX8_age_1 : decode cX8_age 1 = .ok (.getfield 41, 3) := by decide +kernel
theorem dX8_age_4 : decode cX8_age 4 = .ok (.lreturn, 1) := by decide +kernel
def dkwX8_hasBegunLoadOf_1 : List UInt8 := [154, 0, 15, 42, 180, 0, 73, 27, 160, 0, 7, 4, 167, 0, 4, 3, 172]
abbrev dktX8_hasBegunLoadOf_1 : List UInt8 := dkwX8_hasBegunLoadOf_1 ++ []
def dkwX8_hasBegunLoadOf_0 : List UInt8 := [42, 180, 0, 34, 180, 0, 70, 16, 9, 160, 0, 30, 42, 180, 0, 15, 2, 159, 0, 22, 42, 180, 0, 64]
abbrev dktX8_hasBegunLoadOf_0 : List UInt8 := dkwX8_hasBegunLoadOf_0 ++ dktX8_hasBegunLoadOf_1
theorem dksX8_hasBegunLoadOf_0 : cX8_hasBegunLoadOf.data.toList.drop 0 = dktX8_hasBegunLoadOf_0 := by decide +kernel
theorem dksX8_hasBegunLoadOf_1 : cX8_hasBegunLoadOf.data.toList.drop 24 = dktX8_hasBegunLoadOf_1 := dk_seg dksX8_hasBegunLoadOf_0 24 rfl rfl
theorem dX8_hasBegunLoadOf_0 : decode cX8_hasBegunLoadOf 0 = .ok (.aload_n 0, 1) := dk_42 (dk_at dksX8_hasBegunLoadOf_0 0 rfl rfl)
theorem dX8_hasBegunLoadOf_1 : decode cX8_hasBegunLoadOf 1 = .ok (.getfield 34, 3) := dk_180 0 34 (dk_at dksX8_hasBegunLoadOf_0 1 rfl rfl)
theorem dX8_hasBegunLoadOf_4 : decode cX8_hasBegunLoadOf 4 = .ok (.getfield 70, 3) := dk_180 0 70 (dk_at dksX8_hasBegunLoadOf_0 4 rfl rfl)
theorem dX8_hasBegunLoadOf_7 : decode cX8_hasBegunLoadOf 7 = .ok (.bipush 9, 2) := dk_16 9 (dk_at dksX8_hasBegunLoadOf_0 7 rfl rfl)
theorem dX8_hasBegunLoadOf_9 : decode cX8_hasBegunLoadOf 9 = .ok (.if_icmp .ne 30, 3) := dk_160 0 30 (dk_at dksX8_hasBegunLoadOf_0 9 rfl rfl)
theorem dX8_hasBegunLoadOf_12 : decode cX8_hasBegunLoadOf 12 = .ok (.aload_n 0, 1) := dk_42 (dk_at dksX8_hasBegunLoadOf_0 12 rfl rfl)
theorem dX8_hasBegunLoadOf_13 : decode cX8_hasBegunLoadOf 13 = .ok (.getfield 15, 3) := dk_180 0 15 (dk_at dksX8_hasBegunLoadOf_0 13 rfl rfl)
theorem dX8_hasBegunLoadOf_16 : decode cX8_hasBegunLoadOf 16 = .ok (.iconst (-1), 1) := dk_2 (dk_at dksX8_hasBegunLoadOf_0 16 rfl rfl)
theorem dX8_hasBegunLoadOf_17 : decode cX8_hasBegunLoadOf 17 = .ok (.if_icmp .eq 22, 3) := dk_159 0 22 (dk_at dksX8_hasBegunLoadOf_0 17 rfl rfl)
theorem dX8_hasBegunLoadOf_20 : decode cX8_hasBegunLoadOf 20 = .ok (.aload_n 0, 1) := dk_42 (dk_at dksX8_hasBegunLoadOf_0 20 rfl rfl)
theorem dX8_hasBegunLoadOf_21 : decode cX8_hasBegunLoadOf 21 = .ok (.getfield 64, 3) := dk_180 0 64 (dk_at dksX8_hasBegunLoadOf_0 21 rfl rfl)
theorem dX8_hasBegunLoadOf_24 : decode cX8_hasBegunLoadOf 24 = .ok (.ifCond .ne 15, 3) := dk_154 0 15 (dk_at dksX8_hasBegunLoadOf_1 0 rfl rfl)
theorem dX8_hasBegunLoadOf_27 : decode cX8_hasBegunLoadOf 27 = .ok (.aload_n 0, 1) := dk_42 (dk_at dksX8_hasBegunLoadOf_1 3 rfl rfl)
theorem dX8_hasBegunLoadOf_28 : decode cX8_hasBegunLoadOf 28 = .ok (.getfield 73, 3) := dk_180 0 73 (dk_at dksX8_hasBegunLoadOf_1 4 rfl rfl)
theorem dX8_hasBegunLoadOf_31 : decode cX8_hasBegunLoadOf 31 = .ok (.iload_n 1, 1) := dk_27 (dk_at dksX8_hasBegunLoadOf_1 7 rfl rfl)
theorem dX8_hasBegunLoadOf_32 : decode cX8_hasBegunLoadOf 32 = .ok (.if_icmp .ne 7, 3) := dk_160 0 7 (dk_at dksX8_hasBegunLoadOf_1 8 rfl rfl)
theorem dX8_hasBegunLoadOf_35 : decode cX8_hasBegunLoadOf 35 = .ok (.iconst 1, 1) := dk_4 (dk_at dksX8_hasBegunLoadOf_1 11 rfl rfl)
theorem dX8_hasBegunLoadOf_36 : decode cX8_hasBegunLoadOf 36 = .ok (.goto 4, 3) := dk_167 0 4 (dk_at dksX8_hasBegunLoadOf_1 12 rfl rfl)
theorem dX8_hasBegunLoadOf_39 : decode cX8_hasBegunLoadOf 39 = .ok (.iconst 0, 1) := dk_3 (dk_at dksX8_hasBegunLoadOf_1 15 rfl rfl)
theorem dX8_hasBegunLoadOf_40 : decode cX8_hasBegunLoadOf 40 = .ok (.ireturn, 1) := dk_172 (dk_at dksX8_hasBegunLoadOf_1 16 rfl rfl)
def dkwX8_isOver_0 : List UInt8 := [42, 180, 0, 27, 16, 101, 160, 0, 7, 4, 167, 0, 4, 3, 172]
abbrev dktX8_isOver_0 : List UInt8 := dkwX8_isOver_0 ++ []
theorem dksX8_isOver_0 : cX8_isOver.data.toList.drop 0 = dktX8_isOver_0 := by decide +kernel
theorem dX8_isOver_0 : decode cX8_isOver 0 = .ok (.aload_n 0, 1) := dk_42 (dk_at dksX8_isOver_0 0 rfl rfl)
theorem dX8_isOver_1 : decode cX8_isOver 1 = .ok (.getfield 27, 3) := dk_180 0 27 (dk_at dksX8_isOver_0 1 rfl rfl)
theorem dX8_isOver_4 : decode cX8_isOver 4 = .ok (.bipush 101, 2) := dk_16 101 (dk_at dksX8_isOver_0 4 rfl rfl)
theorem dX8_isOver_6 : decode cX8_isOver 6 = .ok (.if_icmp .ne 7, 3) := dk_160 0 7 (dk_at dksX8_isOver_0 6 rfl rfl)
theorem dX8_isOver_9 : decode cX8_isOver 9 = .ok (.iconst 1, 1) := dk_4 (dk_at dksX8_isOver_0 9 rfl rfl)
theorem dX8_isOver_10 : decode cX8_isOver 10 = .ok (.goto 4, 3) := dk_167 0 4 (dk_at dksX8_isOver_0 10 rfl rfl)
theorem dX8_isOver_13 : decode cX8_isOver 13 = .ok (.iconst 0, 1) := dk_3 (dk_at dksX8_isOver_0 13 rfl rfl)
theorem dX8_isOver_14 : decode cX8_isOver 14 = .ok (.ireturn, 1) := dk_172 (dk_at dksX8_isOver_0 14 rfl rfl)
def dkwX8_isEndedStore_1 : List UInt8 := [4, 167, 0, 4, 3, 172]
abbrev dktX8_isEndedStore_1 : List UInt8 := dkwX8_isEndedStore_1 ++ []
def dkwX8_isEndedStore_0 : List UInt8 := [42, 180, 0, 34, 182, 0, 55, 153, 0, 21, 42, 182, 0, 61, 153, 0, 14, 42, 180, 0, 64, 154, 0, 7]
abbrev dktX8_isEndedStore_0 : List UInt8 := dkwX8_isEndedStore_0 ++ dktX8_isEndedStore_1
theorem dksX8_isEndedStore_0 : cX8_isEndedStore.data.toList.drop 0 = dktX8_isEndedStore_0 := by decide +kernel
theorem dksX8_isEndedStore_1 : cX8_isEndedStore.data.toList.drop 24 = dktX8_isEndedStore_1 := dk_seg dksX8_isEndedStore_0 24 rfl rfl
theorem dX8_isEndedStore_0 : decode cX8_isEndedStore 0 = .ok (.aload_n 0, 1) := dk_42 (dk_at dksX8_isEndedStore_0 0 rfl rfl)
theorem dX8_isEndedStore_1 : decode cX8_isEndedStore 1 = .ok (.getfield 34, 3) := dk_180 0 34 (dk_at dksX8_isEndedStore_0 1 rfl rfl)
theorem dX8_isEndedStore_4 : decode cX8_isEndedStore 4 = .ok (.invokevirtual 55, 3) := dk_182 0 55 (dk_at dksX8_isEndedStore_0 4 rfl rfl)
theorem dX8_isEndedStore_7 : decode cX8_isEndedStore 7 = .ok (.ifCond .eq 21, 3) := dk_153 0 21 (dk_at dksX8_isEndedStore_0 7 rfl rfl)
theorem dX8_isEndedStore_10 : decode cX8_isEndedStore 10 = .ok (.aload_n 0, 1) := dk_42 (dk_at dksX8_isEndedStore_0 10 rfl rfl)
theorem dX8_isEndedStore_11 : decode cX8_isEndedStore 11 = .ok (.invokevirtual 61, 3) := dk_182 0 61 (dk_at dksX8_isEndedStore_0 11 rfl rfl)
theorem dX8_isEndedStore_14 : decode cX8_isEndedStore 14 = .ok (.ifCond .eq 14, 3) := dk_153 0 14 (dk_at dksX8_isEndedStore_0 14 rfl rfl)
theorem dX8_isEndedStore_17 : decode cX8_isEndedStore 17 = .ok (.aload_n 0, 1) := dk_42 (dk_at dksX8_isEndedStore_0 17 rfl rfl)
theorem dX8_isEndedStore_18 : decode cX8_isEndedStore 18 = .ok (.getfield 64, 3) := dk_180 0 64 (dk_at dksX8_isEndedStore_0 18 rfl rfl)
theorem dX8_isEndedStore_21 : decode cX8_isEndedStore 21 = .ok (.ifCond .ne 7, 3) := dk_154 0 7 (dk_at dksX8_isEndedStore_0 21 rfl rfl)
theorem dX8_isEndedStore_24 : decode cX8_isEndedStore 24 = .ok (.iconst 1, 1) := dk_4 (dk_at dksX8_isEndedStore_1 0 rfl rfl)
theorem dX8_isEndedStore_25 : decode cX8_isEndedStore 25 = .ok (.goto 4, 3) := dk_167 0 4 (dk_at dksX8_isEndedStore_1 1 rfl rfl)
theorem dX8_isEndedStore_28 : decode cX8_isEndedStore 28 = .ok (.iconst 0, 1) := dk_3 (dk_at dksX8_isEndedStore_1 4 rfl rfl)
theorem dX8_isEndedStore_29 : decode cX8_isEndedStore 29 = .ok (.ireturn, 1) := dk_172 (dk_at dksX8_isEndedStore_1 5 rfl rfl)
def dkwX8_begin_0 : List UInt8 := [42, 16, 120, 181, 0, 27, 42, 27, 181, 0, 15, 42, 27, 28, 96, 181, 0, 67, 177]
abbrev dktX8_begin_0 : List UInt8 := dkwX8_begin_0 ++ []
theorem dksX8_begin_0 : cX8_begin.data.toList.drop 0 = dktX8_begin_0 := by decide +kernel
theorem dX8_begin_0 : decode cX8_begin 0 = .ok (.aload_n 0, 1) := dk_42 (dk_at dksX8_begin_0 0 rfl rfl)
theorem dX8_begin_1 : decode cX8_begin 1 = .ok (.bipush 120, 2) := dk_16 120 (dk_at dksX8_begin_0 1 rfl rfl)
theorem dX8_begin_3 : decode cX8_begin 3 = .ok (.putfield 27, 3) := dk_181 0 27 (dk_at dksX8_begin_0 3 rfl rfl)
theorem dX8_begin_6 : decode cX8_begin 6 = .ok (.aload_n 0, 1) := dk_42 (dk_at dksX8_begin_0 6 rfl rfl)
theorem dX8_begin_7 : decode cX8_begin 7 = .ok (.iload_n 1, 1) := dk_27 (dk_at dksX8_begin_0 7 rfl rfl)
theorem dX8_begin_8 : decode cX8_begin 8 = .ok (.putfield 15, 3) := dk_181 0 15 (dk_at dksX8_begin_0 8 rfl rfl)
theorem dX8_begin_11 : decode cX8_begin 11 = .ok (.aload_n 0, 1) := dk_42 (dk_at dksX8_begin_0 11 rfl rfl)
theorem dX8_begin_12 : decode cX8_begin 12 = .ok (.iload_n 1, 1) := dk_27 (dk_at dksX8_begin_0 12 rfl rfl)
theorem dX8_begin_13 : decode cX8_begin 13 = .ok (.iload_n 2, 1) := dk_28 (dk_at dksX8_begin_0 13 rfl rfl)
theorem dX8_begin_14 : decode cX8_begin 14 = .ok (.iadd, 1) := dk_96 (dk_at dksX8_begin_0 14 rfl rfl)
theorem dX8_begin_15 : decode cX8_begin 15 = .ok (.putfield 67, 3) := dk_181 0 67 (dk_at dksX8_begin_0 15 rfl rfl)
theorem dX8_begin_18 : decode cX8_begin 18 = .ok (.return_, 1) := dk_177 (dk_at dksX8_begin_0 18 rfl rfl)
def dkwX8_waitFor_0 : List UInt8 := [42, 16, 109, 181, 0, 27, 42, 28, 181, 0, 15, 42, 27, 181, 0, 31, 177]
abbrev dktX8_waitFor_0 : List UInt8 := dkwX8_waitFor_0 ++ []
theorem dksX8_waitFor_0 : cX8_waitFor.data.toList.drop 0 = dktX8_waitFor_0 := by decide +kernel
theorem dX8_waitFor_0 : decode cX8_waitFor 0 = .ok (.aload_n 0, 1) := dk_42 (dk_at dksX8_waitFor_0 0 rfl rfl)
theorem dX8_waitFor_1 : decode cX8_waitFor 1 = .ok (.bipush 109, 2) := dk_16 109 (dk_at dksX8_waitFor_0 1 rfl rfl)
theorem dX8_waitFor_3 : decode cX8_waitFor 3 = .ok (.putfield 27, 3) := dk_181 0 27 (dk_at dksX8_waitFor_0 3 rfl rfl)
theorem dX8_waitFor_6 : decode cX8_waitFor 6 = .ok (.aload_n 0, 1) := dk_42 (dk_at dksX8_waitFor_0 6 rfl rfl)
theorem dX8_waitFor_7 : decode cX8_waitFor 7 = .ok (.iload_n 2, 1) := dk_28 (dk_at dksX8_waitFor_0 7 rfl rfl)
theorem dX8_waitFor_8 : decode cX8_waitFor 8 = .ok (.putfield 15, 3) := dk_181 0 15 (dk_at dksX8_waitFor_0 8 rfl rfl)
theorem dX8_waitFor_11 : decode cX8_waitFor 11 = .ok (.aload_n 0, 1) := dk_42 (dk_at dksX8_waitFor_0 11 rfl rfl)
theorem dX8_waitFor_12 : decode cX8_waitFor 12 = .ok (.iload_n 1, 1) := dk_27 (dk_at dksX8_waitFor_0 12 rfl rfl)
theorem dX8_waitFor_13 : decode cX8_waitFor 13 = .ok (.putfield 31, 3) := dk_181 0 31 (dk_at dksX8_waitFor_0 13 rfl rfl)
theorem dX8_waitFor_16 : decode cX8_waitFor 16 = .ok (.return_, 1) := dk_177 (dk_at dksX8_waitFor_0 16 rfl rfl)
def dkwX8_init_3 : List UInt8 := [181, 0, 52, 177]
abbrev dktX8_init_3 : List UInt8 := dkwX8_init_3 ++ []
def dkwX8_init_2 : List UInt8 := [181, 0, 38, 42, 22, 4, 181, 0, 41, 42, 29, 181, 0, 45, 42, 25, 6, 181, 0, 48, 42, 28, 4, 96]
abbrev dktX8_init_2 : List UInt8 := dkwX8_init_2 ++ dktX8_init_3
def dkwX8_init_1 : List UInt8 := [42, 2, 181, 0, 24, 42, 16, 102, 181, 0, 27, 42, 2, 181, 0, 31, 42, 43, 181, 0, 34, 42, 28]
abbrev dktX8_init_1 : List UInt8 := dkwX8_init_1 ++ dktX8_init_2
def dkwX8_init_0 : List UInt8 := [42, 183, 0, 3, 42, 2, 181, 0, 9, 42, 2, 181, 0, 15, 42, 2, 181, 0, 18, 42, 2, 181, 0, 21]
abbrev dktX8_init_0 : List UInt8 := dkwX8_init_0 ++ dktX8_init_1
theorem dksX8_init_0 : cX8_init.data.toList.drop 0 = dktX8_init_0 := by decide +kernel
theorem dksX8_init_1 : cX8_init.data.toList.drop 24 = dktX8_init_1 := dk_seg dksX8_init_0 24 rfl rfl
theorem dksX8_init_2 : cX8_init.data.toList.drop 47 = dktX8_init_2 := dk_seg dksX8_init_1 23 rfl rfl
theorem dksX8_init_3 : cX8_init.data.toList.drop 71 = dktX8_init_3 := dk_seg dksX8_init_2 24 rfl rfl
theorem dX8_init_0 : decode cX8_init 0 = .ok (.aload_n 0, 1) := dk_42 (dk_at dksX8_init_0 0 rfl rfl)
theorem dX8_init_1 : decode cX8_init 1 = .ok (.invokespecial 3, 3) := dk_183 0 3 (dk_at dksX8_init_0 1 rfl rfl)
theorem dX8_init_4 : decode cX8_init 4 = .ok (.aload_n 0, 1) := dk_42 (dk_at dksX8_init_0 4 rfl rfl)
theorem dX8_init_5 : decode cX8_init 5 = .ok (.iconst (-1), 1) := dk_2 (dk_at dksX8_init_0 5 rfl rfl)
theorem dX8_init_6 : decode cX8_init 6 = .ok (.putfield 9, 3) := dk_181 0 9 (dk_at dksX8_init_0 6 rfl rfl)
theorem dX8_init_9 : decode cX8_init 9 = .ok (.aload_n 0, 1) := dk_42 (dk_at dksX8_init_0 9 rfl rfl)
theorem dX8_init_10 : decode cX8_init 10 = .ok (.iconst (-1), 1) := dk_2 (dk_at dksX8_init_0 10 rfl rfl)
theorem dX8_init_11 : decode cX8_init 11 = .ok (.putfield 15, 3) := dk_181 0 15 (dk_at dksX8_init_0 11 rfl rfl)
theorem dX8_init_14 : decode cX8_init 14 = .ok (.aload_n 0, 1) := dk_42 (dk_at dksX8_init_0 14 rfl rfl)
theorem dX8_init_15 : decode cX8_init 15 = .ok (.iconst (-1), 1) := dk_2 (dk_at dksX8_init_0 15 rfl rfl)
theorem dX8_init_16 : decode cX8_init 16 = .ok (.putfield 18, 3) := dk_181 0 18 (dk_at dksX8_init_0 16 rfl rfl)
theorem dX8_init_19 : decode cX8_init 19 = .ok (.aload_n 0, 1) := dk_42 (dk_at dksX8_init_0 19 rfl rfl)
theorem dX8_init_20 : decode cX8_init 20 = .ok (.iconst (-1), 1) := dk_2 (dk_at dksX8_init_0 20 rfl rfl)
theorem dX8_init_21 : decode cX8_init 21 = .ok (.putfield 21, 3) := dk_181 0 21 (dk_at dksX8_init_0 21 rfl rfl)
theorem dX8_init_24 : decode cX8_init 24 = .ok (.aload_n 0, 1) := dk_42 (dk_at dksX8_init_1 0 rfl rfl)
theorem dX8_init_25 : decode cX8_init 25 = .ok (.iconst (-1), 1) := dk_2 (dk_at dksX8_init_1 1 rfl rfl)
theorem dX8_init_26 : decode cX8_init 26 = .ok (.putfield 24, 3) := dk_181 0 24 (dk_at dksX8_init_1 2 rfl rfl)
theorem dX8_init_29 : decode cX8_init 29 = .ok (.aload_n 0, 1) := dk_42 (dk_at dksX8_init_1 5 rfl rfl)
theorem dX8_init_30 : decode cX8_init 30 = .ok (.bipush 102, 2) := dk_16 102 (dk_at dksX8_init_1 6 rfl rfl)
theorem dX8_init_32 : decode cX8_init 32 = .ok (.putfield 27, 3) := dk_181 0 27 (dk_at dksX8_init_1 8 rfl rfl)
theorem dX8_init_35 : decode cX8_init 35 = .ok (.aload_n 0, 1) := dk_42 (dk_at dksX8_init_1 11 rfl rfl)
theorem dX8_init_36 : decode cX8_init 36 = .ok (.iconst (-1), 1) := dk_2 (dk_at dksX8_init_1 12 rfl rfl)
theorem dX8_init_37 : decode cX8_init 37 = .ok (.putfield 31, 3) := dk_181 0 31 (dk_at dksX8_init_1 13 rfl rfl)
theorem dX8_init_40 : decode cX8_init 40 = .ok (.aload_n 0, 1) := dk_42 (dk_at dksX8_init_1 16 rfl rfl)
theorem dX8_init_41 : decode cX8_init 41 = .ok (.aload_n 1, 1) := dk_43 (dk_at dksX8_init_1 17 rfl rfl)
theorem dX8_init_42 : decode cX8_init 42 = .ok (.putfield 34, 3) := dk_181 0 34 (dk_at dksX8_init_1 18 rfl rfl)
theorem dX8_init_45 : decode cX8_init 45 = .ok (.aload_n 0, 1) := dk_42 (dk_at dksX8_init_1 21 rfl rfl)
theorem dX8_init_46 : decode cX8_init 46 = .ok (.iload_n 2, 1) := dk_28 (dk_at dksX8_init_1 22 rfl rfl)
theorem dX8_init_47 : decode cX8_init 47 = .ok (.putfield 38, 3) := dk_181 0 38 (dk_at dksX8_init_2 0 rfl rfl)
theorem dX8_init_50 : decode cX8_init 50 = .ok (.aload_n 0, 1) := dk_42 (dk_at dksX8_init_2 3 rfl rfl)
theorem dX8_init_51 : decode cX8_init 51 = .ok (.lload 4, 2) := dk_22 4 (dk_at dksX8_init_2 4 rfl rfl)
theorem dX8_init_53 : decode cX8_init 53 = .ok (.putfield 41, 3) := dk_181 0 41 (dk_at dksX8_init_2 6 rfl rfl)
theorem dX8_init_56 : decode cX8_init 56 = .ok (.aload_n 0, 1) := dk_42 (dk_at dksX8_init_2 9 rfl rfl)
theorem dX8_init_57 : decode cX8_init 57 = .ok (.iload_n 3, 1) := dk_29 (dk_at dksX8_init_2 10 rfl rfl)
theorem dX8_init_58 : decode cX8_init 58 = .ok (.putfield 45, 3) := dk_181 0 45 (dk_at dksX8_init_2 11 rfl rfl)
theorem dX8_init_61 : decode cX8_init 61 = .ok (.aload_n 0, 1) := dk_42 (dk_at dksX8_init_2 14 rfl rfl)
theorem dX8_init_62 : decode cX8_init 62 = .ok (.aload 6, 2) := dk_25 6 (dk_at dksX8_init_2 15 rfl rfl)
theorem dX8_init_64 : decode cX8_init 64 = .ok (.putfield 48, 3) := dk_181 0 48 (dk_at dksX8_init_2 17 rfl rfl)
theorem dX8_init_67 : decode cX8_init 67 = .ok (.aload_n 0, 1) := dk_42 (dk_at dksX8_init_2 20 rfl rfl)
theorem dX8_init_68 : decode cX8_init 68 = .ok (.iload_n 2, 1) := dk_28 (dk_at dksX8_init_2 21 rfl rfl)
theorem dX8_init_69 : decode cX8_init 69 = .ok (.iconst 1, 1) := dk_4 (dk_at dksX8_init_2 22 rfl rfl)
theorem dX8_init_70 : decode cX8_init 70 = .ok (.iadd, 1) := dk_96 (dk_at dksX8_init_2 23 rfl rfl)
theorem dX8_init_71 : decode cX8_init 71 = .ok (.putfield 52, 3) := dk_181 0 52 (dk_at dksX8_init_3 0 rfl rfl)
theorem dX8_init_74 : decode cX8_init 74 = .ok (.return_, 1) := dk_177 (dk_at dksX8_init_3 3 rfl rfl)
def dkwX9_init_2 : List UInt8 := [180, 0, 15, 3, 16, 64, 184, 0, 26, 177]
abbrev dktX9_init_2 : List UInt8 := dkwX9_init_2 ++ []
def dkwX9_init_1 : List UInt8 := [181, 0, 18, 42, 25, 4, 181, 0, 22, 44, 3, 42, 180, 0, 9, 3, 16, 8, 184, 0, 26, 45, 3, 42]
abbrev dktX9_init_1 : List UInt8 := dkwX9_init_1 ++ dktX9_init_2
def dkwX9_init_0 : List UInt8 := [42, 183, 0, 3, 42, 16, 8, 188, 10, 181, 0, 9, 42, 16, 64, 188, 10, 181, 0, 15, 42, 43]
abbrev dktX9_init_0 : List UInt8 := dkwX9_init_0 ++ dktX9_init_1
theorem dksX9_init_0 : cX9_init.data.toList.drop 0 = dktX9_init_0 := by decide +kernel
theorem dksX9_init_1 : cX9_init.data.toList.drop 22 = dktX9_init_1 := dk_seg dksX9_init_0 22 rfl rfl
theorem dksX9_init_2 : cX9_init.data.toList.drop 46 = dktX9_init_2 := dk_seg dksX9_init_1 24 rfl rfl
theorem dX9_init_0 : decode cX9_init 0 = .ok (.aload_n 0, 1) := dk_42 (dk_at dksX9_init_0 0 rfl rfl)
theorem dX9_init_1 : decode cX9_init 1 = .ok (.invokespecial 3, 3) := dk_183 0 3 (dk_at dksX9_init_0 1 rfl rfl)
theorem dX9_init_4 : decode cX9_init 4 = .ok (.aload_n 0, 1) := dk_42 (dk_at dksX9_init_0 4 rfl rfl)
theorem dX9_init_5 : decode cX9_init 5 = .ok (.bipush 8, 2) := dk_16 8 (dk_at dksX9_init_0 5 rfl rfl)
theorem dX9_init_7 : decode cX9_init 7 = .ok (.newarray .int, 2) := dk_188_10 (dk_at dksX9_init_0 7 rfl rfl)
theorem dX9_init_9 : decode cX9_init 9 = .ok (.putfield 9, 3) := dk_181 0 9 (dk_at dksX9_init_0 9 rfl rfl)
theorem dX9_init_12 : decode cX9_init 12 = .ok (.aload_n 0, 1) := dk_42 (dk_at dksX9_init_0 12 rfl rfl)
theorem dX9_init_13 : decode cX9_init 13 = .ok (.bipush 64, 2) := dk_16 64 (dk_at dksX9_init_0 13 rfl rfl)
theorem dX9_init_15 : decode cX9_init 15 = .ok (.newarray .int, 2) := dk_188_10 (dk_at dksX9_init_0 15 rfl rfl)
theorem dX9_init_17 : decode cX9_init 17 = .ok (.putfield 15, 3) := dk_181 0 15 (dk_at dksX9_init_0 17 rfl rfl)
theorem dX9_init_20 : decode cX9_init 20 = .ok (.aload_n 0, 1) := dk_42 (dk_at dksX9_init_0 20 rfl rfl)
theorem dX9_init_21 : decode cX9_init 21 = .ok (.aload_n 1, 1) := dk_43 (dk_at dksX9_init_0 21 rfl rfl)
theorem dX9_init_22 : decode cX9_init 22 = .ok (.putfield 18, 3) := dk_181 0 18 (dk_at dksX9_init_1 0 rfl rfl)
theorem dX9_init_25 : decode cX9_init 25 = .ok (.aload_n 0, 1) := dk_42 (dk_at dksX9_init_1 3 rfl rfl)
theorem dX9_init_26 : decode cX9_init 26 = .ok (.aload 4, 2) := dk_25 4 (dk_at dksX9_init_1 4 rfl rfl)
theorem dX9_init_28 : decode cX9_init 28 = .ok (.putfield 22, 3) := dk_181 0 22 (dk_at dksX9_init_1 6 rfl rfl)
theorem dX9_init_31 : decode cX9_init 31 = .ok (.aload_n 2, 1) := dk_44 (dk_at dksX9_init_1 9 rfl rfl)
theorem dX9_init_32 : decode cX9_init 32 = .ok (.iconst 0, 1) := dk_3 (dk_at dksX9_init_1 10 rfl rfl)
theorem dX9_init_33 : decode cX9_init 33 = .ok (.aload_n 0, 1) := dk_42 (dk_at dksX9_init_1 11 rfl rfl)
theorem dX9_init_34 : decode cX9_init 34 = .ok (.getfield 9, 3) := dk_180 0 9 (dk_at dksX9_init_1 12 rfl rfl)
theorem dX9_init_37 : decode cX9_init 37 = .ok (.iconst 0, 1) := dk_3 (dk_at dksX9_init_1 15 rfl rfl)
theorem dX9_init_38 : decode cX9_init 38 = .ok (.bipush 8, 2) := dk_16 8 (dk_at dksX9_init_1 16 rfl rfl)
theorem dX9_init_40 : decode cX9_init 40 = .ok (.invokestatic 26, 3) := dk_184 0 26 (dk_at dksX9_init_1 18 rfl rfl)
theorem dX9_init_43 : decode cX9_init 43 = .ok (.aload_n 3, 1) := dk_45 (dk_at dksX9_init_1 21 rfl rfl)
theorem dX9_init_44 : decode cX9_init 44 = .ok (.iconst 0, 1) := dk_3 (dk_at dksX9_init_1 22 rfl rfl)
theorem dX9_init_45 : decode cX9_init 45 = .ok (.aload_n 0, 1) := dk_42 (dk_at dksX9_init_1 23 rfl rfl)
theorem dX9_init_46 : decode cX9_init 46 = .ok (.getfield 15, 3) := dk_180 0 15 (dk_at dksX9_init_2 0 rfl rfl)
theorem dX9_init_49 : decode cX9_init 49 = .ok (.iconst 0, 1) := dk_3 (dk_at dksX9_init_2 3 rfl rfl)
theorem dX9_init_50 : decode cX9_init 50 = .ok (.bipush 64, 2) := dk_16 64 (dk_at dksX9_init_2 4 rfl rfl)
theorem dX9_init_52 : decode cX9_init 52 = .ok (.invokestatic 26, 3) := dk_184 0 26 (dk_at dksX9_init_2 6 rfl rfl)
theorem dX9_init_55 : decode cX9_init 55 = .ok (.return_, 1) := dk_177 (dk_at dksX9_init_2 9 rfl rfl)
def dkwX9_interrupt_0 : List UInt8 := [42, 180, 0, 32, 60, 42, 42, 180, 0, 22, 27, 182, 0, 36, 181, 0, 32, 27, 172]
abbrev dktX9_interrupt_0 : List UInt8 := dkwX9_interrupt_0 ++ []
theorem dksX9_interrupt_0 : cX9_interrupt.data.toList.drop 0 = dktX9_interrupt_0 := by decide +kernel
theorem dX9_interrupt_0 : decode cX9_interrupt 0 = .ok (.aload_n 0, 1) := dk_42 (dk_at dksX9_interrupt_0 0 rfl rfl)
theorem dX9_interrupt_1 : decode cX9_interrupt 1 = .ok (.getfield 32, 3) := dk_180 0 32 (dk_at dksX9_interrupt_0 1 rfl rfl)
theorem dX9_interrupt_4 : decode cX9_interrupt 4 = .ok (.istore_n 1, 1) := dk_60 (dk_at dksX9_interrupt_0 4 rfl rfl)
theorem dX9_interrupt_5 : decode cX9_interrupt 5 = .ok (.aload_n 0, 1) := dk_42 (dk_at dksX9_interrupt_0 5 rfl rfl)
theorem dX9_interrupt_6 : decode cX9_interrupt 6 = .ok (.aload_n 0, 1) := dk_42 (dk_at dksX9_interrupt_0 6 rfl rfl)
theorem dX9_interrupt_7 : decode cX9_interrupt 7 = .ok (.getfield 22, 3) := dk_180 0 22 (dk_at dksX9_interrupt_0 7 rfl rfl)
theorem dX9_interrupt_10 : decode cX9_interrupt 10 = .ok (.iload_n 1, 1) := dk_27 (dk_at dksX9_interrupt_0 10 rfl rfl)
theorem dX9_interrupt_11 : decode cX9_interrupt 11 = .ok (.invokevirtual 36, 3) := dk_182 0 36 (dk_at dksX9_interrupt_0 11 rfl rfl)
theorem dX9_interrupt_14 : decode cX9_interrupt 14 = .ok (.putfield 32, 3) := dk_181 0 32 (dk_at dksX9_interrupt_0 14 rfl rfl)
theorem dX9_interrupt_17 : decode cX9_interrupt 17 = .ok (.iload_n 1, 1) := dk_27 (dk_at dksX9_interrupt_0 17 rfl rfl)
theorem dX9_interrupt_18 : decode cX9_interrupt 18 = .ok (.ireturn, 1) := dk_172 (dk_at dksX9_interrupt_0 18 rfl rfl)
def dkwX9_step_3 : List UInt8 := [181, 0, 32, 3, 172]
abbrev dktX9_step_3 : List UInt8 := dkwX9_step_3 ++ []
def dkwX9_step_2 : List UInt8 := [76, 42, 43, 182, 0, 65, 61, 28, 153, 0, 9, 42, 182, 0, 69, 28, 172, 42, 42, 43, 182, 0, 71]
abbrev dktX9_step_2 : List UInt8 := dkwX9_step_2 ++ dktX9_step_3
def dkwX9_step_1 : List UInt8 := [180, 0, 45, 153, 0, 5, 2, 172, 42, 180, 0, 18, 42, 180, 0, 32, 185, 0, 59, 2, 0, 192, 0, 63]
abbrev dktX9_step_1 : List UInt8 := dkwX9_step_1 ++ dktX9_step_2
def dkwX9_step_0 : List UInt8 := [42, 180, 0, 32, 3, 42, 180, 0, 18, 185, 0, 49, 1, 0, 4, 100, 184, 0, 55, 153, 0, 10, 42]
abbrev dktX9_step_0 : List UInt8 := dkwX9_step_0 ++ dktX9_step_1
theorem dksX9_step_0 : cX9_step.data.toList.drop 0 = dktX9_step_0 := by decide +kernel
theorem dksX9_step_1 : cX9_step.data.toList.drop 23 = dktX9_step_1 := dk_seg dksX9_step_0 23 rfl rfl
theorem dksX9_step_2 : cX9_step.data.toList.drop 47 = dktX9_step_2 := dk_seg dksX9_step_1 24 rfl rfl
theorem dksX9_step_3 : cX9_step.data.toList.drop 70 = dktX9_step_3 := dk_seg dksX9_step_2 23 rfl rfl
theorem dX9_step_0 : decode cX9_step 0 = .ok (.aload_n 0, 1) := dk_42 (dk_at dksX9_step_0 0 rfl rfl)
theorem dX9_step_1 : decode cX9_step 1 = .ok (.getfield 32, 3) := dk_180 0 32 (dk_at dksX9_step_0 1 rfl rfl)
theorem dX9_step_4 : decode cX9_step 4 = .ok (.iconst 0, 1) := dk_3 (dk_at dksX9_step_0 4 rfl rfl)
theorem dX9_step_5 : decode cX9_step 5 = .ok (.aload_n 0, 1) := dk_42 (dk_at dksX9_step_0 5 rfl rfl)
theorem dX9_step_6 : decode cX9_step 6 = .ok (.getfield 18, 3) := dk_180 0 18 (dk_at dksX9_step_0 6 rfl rfl)
theorem dX9_step_9 : decode cX9_step 9 = .ok (.invokeinterface 49 1, 5) := by decide +kernel
theorem dX9_step_14 : decode cX9_step 14 = .ok (.iconst 1, 1) := dk_4 (dk_at dksX9_step_0 14 rfl rfl)
theorem dX9_step_15 : decode cX9_step 15 = .ok (.isub, 1) := dk_100 (dk_at dksX9_step_0 15 rfl rfl)
theorem dX9_step_16 : decode cX9_step 16 = .ok (.invokestatic 55, 3) := dk_184 0 55 (dk_at dksX9_step_0 16 rfl rfl)
theorem dX9_step_19 : decode cX9_step 19 = .ok (.ifCond .eq 10, 3) := dk_153 0 10 (dk_at dksX9_step_0 19 rfl rfl)
theorem dX9_step_22 : decode cX9_step 22 = .ok (.aload_n 0, 1) := dk_42 (dk_at dksX9_step_0 22 rfl rfl)
theorem dX9_step_23 : decode cX9_step 23 = .ok (.getfield 45, 3) := dk_180 0 45 (dk_at dksX9_step_1 0 rfl rfl)
theorem dX9_step_26 : decode cX9_step 26 = .ok (.ifCond .eq 5, 3) := dk_153 0 5 (dk_at dksX9_step_1 3 rfl rfl)
theorem dX9_step_29 : decode cX9_step 29 = .ok (.iconst (-1), 1) := dk_2 (dk_at dksX9_step_1 6 rfl rfl)
theorem dX9_step_30 : decode cX9_step 30 = .ok (.ireturn, 1) := dk_172 (dk_at dksX9_step_1 7 rfl rfl)
theorem dX9_step_31 : decode cX9_step 31 = .ok (.aload_n 0, 1) := dk_42 (dk_at dksX9_step_1 8 rfl rfl)
theorem dX9_step_32 : decode cX9_step 32 = .ok (.getfield 18, 3) := dk_180 0 18 (dk_at dksX9_step_1 9 rfl rfl)
theorem dX9_step_35 : decode cX9_step 35 = .ok (.aload_n 0, 1) := dk_42 (dk_at dksX9_step_1 12 rfl rfl)
theorem dX9_step_36 : decode cX9_step 36 = .ok (.getfield 32, 3) := dk_180 0 32 (dk_at dksX9_step_1 13 rfl rfl)
theorem dX9_step_39 : decode cX9_step 39 = .ok (.invokeinterface 59 2, 5) := by decide +kernel
theorem dX9_step_44 : decode cX9_step 44 = .ok (.checkcast 63, 3) := dk_192 0 63 (dk_at dksX9_step_1 21 rfl rfl)
theorem dX9_step_47 : decode cX9_step 47 = .ok (.astore_n 1, 1) := dk_76 (dk_at dksX9_step_2 0 rfl rfl)
theorem dX9_step_48 : decode cX9_step 48 = .ok (.aload_n 0, 1) := dk_42 (dk_at dksX9_step_2 1 rfl rfl)
theorem dX9_step_49 : decode cX9_step 49 = .ok (.aload_n 1, 1) := dk_43 (dk_at dksX9_step_2 2 rfl rfl)
theorem dX9_step_50 : decode cX9_step 50 = .ok (.invokevirtual 65, 3) := dk_182 0 65 (dk_at dksX9_step_2 3 rfl rfl)
theorem dX9_step_53 : decode cX9_step 53 = .ok (.istore_n 2, 1) := dk_61 (dk_at dksX9_step_2 6 rfl rfl)
theorem dX9_step_54 : decode cX9_step 54 = .ok (.iload_n 2, 1) := dk_28 (dk_at dksX9_step_2 7 rfl rfl)
theorem dX9_step_55 : decode cX9_step 55 = .ok (.ifCond .eq 9, 3) := dk_153 0 9 (dk_at dksX9_step_2 8 rfl rfl)
theorem dX9_step_58 : decode cX9_step 58 = .ok (.aload_n 0, 1) := dk_42 (dk_at dksX9_step_2 11 rfl rfl)
theorem dX9_step_59 : decode cX9_step 59 = .ok (.invokevirtual 69, 3) := dk_182 0 69 (dk_at dksX9_step_2 12 rfl rfl)
theorem dX9_step_62 : decode cX9_step 62 = .ok (.iload_n 2, 1) := dk_28 (dk_at dksX9_step_2 15 rfl rfl)
theorem dX9_step_63 : decode cX9_step 63 = .ok (.ireturn, 1) := dk_172 (dk_at dksX9_step_2 16 rfl rfl)
theorem dX9_step_64 : decode cX9_step 64 = .ok (.aload_n 0, 1) := dk_42 (dk_at dksX9_step_2 17 rfl rfl)
theorem dX9_step_65 : decode cX9_step 65 = .ok (.aload_n 0, 1) := dk_42 (dk_at dksX9_step_2 18 rfl rfl)
theorem dX9_step_66 : decode cX9_step 66 = .ok (.aload_n 1, 1) := dk_43 (dk_at dksX9_step_2 19 rfl rfl)
theorem dX9_step_67 : decode cX9_step 67 = .ok (.invokevirtual 71, 3) := dk_182 0 71 (dk_at dksX9_step_2 20 rfl rfl)
theorem dX9_step_70 : decode cX9_step 70 = .ok (.putfield 32, 3) := dk_181 0 32 (dk_at dksX9_step_3 0 rfl rfl)
theorem dX9_step_73 : decode cX9_step 73 = .ok (.iconst 0, 1) := dk_3 (dk_at dksX9_step_3 3 rfl rfl)
theorem dX9_step_74 : decode cX9_step 74 = .ok (.ireturn, 1) := dk_172 (dk_at dksX9_step_3 4 rfl rfl)
def dkwX9_trapOf_4 : List UInt8 := [8, 167, 0, 4, 3, 172]
abbrev dktX9_trapOf_4 : List UInt8 := dkwX9_trapOf_4 ++ []
def dkwX9_trapOf_3 : List UInt8 := [160, 0, 5, 7, 172, 43, 180, 0, 100, 16, 21, 160, 0, 17, 42, 180, 0, 22, 180, 0, 103, 154, 0, 7]
abbrev dktX9_trapOf_3 : List UInt8 := dkwX9_trapOf_3 ++ dktX9_trapOf_4
def dkwX9_trapOf_2 : List UInt8 := [5, 172, 43, 182, 0, 94, 153, 0, 12, 28, 184, 0, 97, 154, 0, 5, 6, 172, 43, 180, 0, 100, 16, 20]
abbrev dktX9_trapOf_2 : List UInt8 := dkwX9_trapOf_2 ++ dktX9_trapOf_3
def dkwX9_trapOf_1 : List UInt8 := [153, 0, 5, 4, 172, 43, 182, 0, 84, 153, 0, 17, 28, 43, 180, 0, 88, 96, 184, 0, 91, 154, 0, 5]
abbrev dktX9_trapOf_1 : List UInt8 := dkwX9_trapOf_1 ++ dktX9_trapOf_2
def dkwX9_trapOf_0 : List UInt8 := [42, 180, 0, 9, 43, 180, 0, 74, 46, 61, 43, 42, 180, 0, 9, 43, 180, 0, 77, 46, 182, 0, 80]
abbrev dktX9_trapOf_0 : List UInt8 := dkwX9_trapOf_0 ++ dktX9_trapOf_1
theorem dksX9_trapOf_0 : cX9_trapOf.data.toList.drop 0 = dktX9_trapOf_0 := by decide +kernel
theorem dksX9_trapOf_1 : cX9_trapOf.data.toList.drop 23 = dktX9_trapOf_1 := dk_seg dksX9_trapOf_0 23 rfl rfl
theorem dksX9_trapOf_2 : cX9_trapOf.data.toList.drop 47 = dktX9_trapOf_2 := dk_seg dksX9_trapOf_1 24 rfl rfl
theorem dksX9_trapOf_3 : cX9_trapOf.data.toList.drop 71 = dktX9_trapOf_3 := dk_seg dksX9_trapOf_2 24 rfl rfl
theorem dksX9_trapOf_4 : cX9_trapOf.data.toList.drop 95 = dktX9_trapOf_4 := dk_seg dksX9_trapOf_3 24 rfl rfl
theorem dX9_trapOf_0 : decode cX9_trapOf 0 = .ok (.aload_n 0, 1) := dk_42 (dk_at dksX9_trapOf_0 0 rfl rfl)
theorem dX9_trapOf_1 : decode cX9_trapOf 1 = .ok (.getfield 9, 3) := dk_180 0 9 (dk_at dksX9_trapOf_0 1 rfl rfl)
theorem dX9_trapOf_4 : decode cX9_trapOf 4 = .ok (.aload_n 1, 1) := dk_43 (dk_at dksX9_trapOf_0 4 rfl rfl)
theorem dX9_trapOf_5 : decode cX9_trapOf 5 = .ok (.getfield 74, 3) := dk_180 0 74 (dk_at dksX9_trapOf_0 5 rfl rfl)
theorem dX9_trapOf_8 : decode cX9_trapOf 8 = .ok (.iaload, 1) := dk_46 (dk_at dksX9_trapOf_0 8 rfl rfl)
theorem dX9_trapOf_9 : decode cX9_trapOf 9 = .ok (.istore_n 2, 1) := dk_61 (dk_at dksX9_trapOf_0 9 rfl rfl)
theorem dX9_trapOf_10 : decode cX9_trapOf 10 = .ok (.aload_n 1, 1) := dk_43 (dk_at dksX9_trapOf_0 10 rfl rfl)
theorem dX9_trapOf_11 : decode cX9_trapOf 11 = .ok (.aload_n 0, 1) := dk_42 (dk_at dksX9_trapOf_0 11 rfl rfl)
theorem dX9_trapOf_12 : decode cX9_trapOf 12 = .ok (.getfield 9, 3) := dk_180 0 9 (dk_at dksX9_trapOf_0 12 rfl rfl)
theorem dX9_trapOf_15 : decode cX9_trapOf 15 = .ok (.aload_n 1, 1) := dk_43 (dk_at dksX9_trapOf_0 15 rfl rfl)
theorem dX9_trapOf_16 : decode cX9_trapOf 16 = .ok (.getfield 77, 3) := dk_180 0 77 (dk_at dksX9_trapOf_0 16 rfl rfl)
theorem dX9_trapOf_19 : decode cX9_trapOf 19 = .ok (.iaload, 1) := dk_46 (dk_at dksX9_trapOf_0 19 rfl rfl)
theorem dX9_trapOf_20 : decode cX9_trapOf 20 = .ok (.invokevirtual 80, 3) := dk_182 0 80 (dk_at dksX9_trapOf_0 20 rfl rfl)
theorem dX9_trapOf_23 : decode cX9_trapOf 23 = .ok (.ifCond .eq 5, 3) := dk_153 0 5 (dk_at dksX9_trapOf_1 0 rfl rfl)
theorem dX9_trapOf_26 : decode cX9_trapOf 26 = .ok (.iconst 1, 1) := dk_4 (dk_at dksX9_trapOf_1 3 rfl rfl)
theorem dX9_trapOf_27 : decode cX9_trapOf 27 = .ok (.ireturn, 1) := dk_172 (dk_at dksX9_trapOf_1 4 rfl rfl)
theorem dX9_trapOf_28 : decode cX9_trapOf 28 = .ok (.aload_n 1, 1) := dk_43 (dk_at dksX9_trapOf_1 5 rfl rfl)
theorem dX9_trapOf_29 : decode cX9_trapOf 29 = .ok (.invokevirtual 84, 3) := dk_182 0 84 (dk_at dksX9_trapOf_1 6 rfl rfl)
theorem dX9_trapOf_32 : decode cX9_trapOf 32 = .ok (.ifCond .eq 17, 3) := dk_153 0 17 (dk_at dksX9_trapOf_1 9 rfl rfl)
theorem dX9_trapOf_35 : decode cX9_trapOf 35 = .ok (.iload_n 2, 1) := dk_28 (dk_at dksX9_trapOf_1 12 rfl rfl)
theorem dX9_trapOf_36 : decode cX9_trapOf 36 = .ok (.aload_n 1, 1) := dk_43 (dk_at dksX9_trapOf_1 13 rfl rfl)
theorem dX9_trapOf_37 : decode cX9_trapOf 37 = .ok (.getfield 88, 3) := dk_180 0 88 (dk_at dksX9_trapOf_1 14 rfl rfl)
theorem dX9_trapOf_40 : decode cX9_trapOf 40 = .ok (.iadd, 1) := dk_96 (dk_at dksX9_trapOf_1 17 rfl rfl)
theorem dX9_trapOf_41 : decode cX9_trapOf 41 = .ok (.invokestatic 91, 3) := dk_184 0 91 (dk_at dksX9_trapOf_1 18 rfl rfl)
theorem dX9_trapOf_44 : decode cX9_trapOf 44 = .ok (.ifCond .ne 5, 3) := dk_154 0 5 (dk_at dksX9_trapOf_1 21 rfl rfl)
theorem dX9_trapOf_47 : decode cX9_trapOf 47 = .ok (.iconst 2, 1) := dk_5 (dk_at dksX9_trapOf_2 0 rfl rfl)
theorem dX9_trapOf_48 : decode cX9_trapOf 48 = .ok (.ireturn, 1) := dk_172 (dk_at dksX9_trapOf_2 1 rfl rfl)
theorem dX9_trapOf_49 : decode cX9_trapOf 49 = .ok (.aload_n 1, 1) := dk_43 (dk_at dksX9_trapOf_2 2 rfl rfl)
theorem dX9_trapOf_50 : decode cX9_trapOf 50 = .ok (.invokevirtual 94, 3) := dk_182 0 94 (dk_at dksX9_trapOf_2 3 rfl rfl)
theorem dX9_trapOf_53 : decode cX9_trapOf 53 = .ok (.ifCond .eq 12, 3) := dk_153 0 12 (dk_at dksX9_trapOf_2 6 rfl rfl)
theorem dX9_trapOf_56 : decode cX9_trapOf 56 = .ok (.iload_n 2, 1) := dk_28 (dk_at dksX9_trapOf_2 9 rfl rfl)
theorem dX9_trapOf_57 : decode cX9_trapOf 57 = .ok (.invokestatic 97, 3) := dk_184 0 97 (dk_at dksX9_trapOf_2 10 rfl rfl)
theorem dX9_trapOf_60 : decode cX9_trapOf 60 = .ok (.ifCond .ne 5, 3) := dk_154 0 5 (dk_at dksX9_trapOf_2 13 rfl rfl)
theorem dX9_trapOf_63 : decode cX9_trapOf 63 = .ok (.iconst 3, 1) := dk_6 (dk_at dksX9_trapOf_2 16 rfl rfl)
theorem dX9_trapOf_64 : decode cX9_trapOf 64 = .ok (.ireturn, 1) := dk_172 (dk_at dksX9_trapOf_2 17 rfl rfl)
theorem dX9_trapOf_65 : decode cX9_trapOf 65 = .ok (.aload_n 1, 1) := dk_43 (dk_at dksX9_trapOf_2 18 rfl rfl)
theorem dX9_trapOf_66 : decode cX9_trapOf 66 = .ok (.getfield 100, 3) := dk_180 0 100 (dk_at dksX9_trapOf_2 19 rfl rfl)
theorem dX9_trapOf_69 : decode cX9_trapOf 69 = .ok (.bipush 20, 2) := dk_16 20 (dk_at dksX9_trapOf_2 22 rfl rfl)
theorem dX9_trapOf_71 : decode cX9_trapOf 71 = .ok (.if_icmp .ne 5, 3) := dk_160 0 5 (dk_at dksX9_trapOf_3 0 rfl rfl)
theorem dX9_trapOf_74 : decode cX9_trapOf 74 = .ok (.iconst 4, 1) := dk_7 (dk_at dksX9_trapOf_3 3 rfl rfl)
theorem dX9_trapOf_75 : decode cX9_trapOf 75 = .ok (.ireturn, 1) := dk_172 (dk_at dksX9_trapOf_3 4 rfl rfl)
theorem dX9_trapOf_76 : decode cX9_trapOf 76 = .ok (.aload_n 1, 1) := dk_43 (dk_at dksX9_trapOf_3 5 rfl rfl)
theorem dX9_trapOf_77 : decode cX9_trapOf 77 = .ok (.getfield 100, 3) := dk_180 0 100 (dk_at dksX9_trapOf_3 6 rfl rfl)
theorem dX9_trapOf_80 : decode cX9_trapOf 80 = .ok (.bipush 21, 2) := dk_16 21 (dk_at dksX9_trapOf_3 9 rfl rfl)
theorem dX9_trapOf_82 : decode cX9_trapOf 82 = .ok (.if_icmp .ne 17, 3) := dk_160 0 17 (dk_at dksX9_trapOf_3 11 rfl rfl)
theorem dX9_trapOf_85 : decode cX9_trapOf 85 = .ok (.aload_n 0, 1) := dk_42 (dk_at dksX9_trapOf_3 14 rfl rfl)
theorem dX9_trapOf_86 : decode cX9_trapOf 86 = .ok (.getfield 22, 3) := dk_180 0 22 (dk_at dksX9_trapOf_3 15 rfl rfl)
theorem dX9_trapOf_89 : decode cX9_trapOf 89 = .ok (.getfield 103, 3) := dk_180 0 103 (dk_at dksX9_trapOf_3 18 rfl rfl)
theorem dX9_trapOf_92 : decode cX9_trapOf 92 = .ok (.ifCond .ne 7, 3) := dk_154 0 7 (dk_at dksX9_trapOf_3 21 rfl rfl)
theorem dX9_trapOf_95 : decode cX9_trapOf 95 = .ok (.iconst 5, 1) := dk_8 (dk_at dksX9_trapOf_4 0 rfl rfl)
theorem dX9_trapOf_96 : decode cX9_trapOf 96 = .ok (.goto 4, 3) := dk_167 0 4 (dk_at dksX9_trapOf_4 1 rfl rfl)
theorem dX9_trapOf_99 : decode cX9_trapOf 99 = .ok (.iconst 0, 1) := dk_3 (dk_at dksX9_trapOf_4 4 rfl rfl)
theorem dX9_trapOf_100 : decode cX9_trapOf 100 = .ok (.ireturn, 1) := dk_172 (dk_at dksX9_trapOf_4 5 rfl rfl)
def dkwX9_trap_1 : List UInt8 := [160, 0, 7, 4, 167, 0, 4, 3, 181, 0, 45, 177]
abbrev dktX9_trap_1 : List UInt8 := dkwX9_trap_1 ++ []
def dkwX9_trap_0 : List UInt8 := [42, 42, 180, 0, 22, 42, 180, 0, 32, 4, 96, 182, 0, 42, 181, 0, 32, 42, 42, 180, 0, 32, 2]
abbrev dktX9_trap_0 : List UInt8 := dkwX9_trap_0 ++ dktX9_trap_1
theorem dksX9_trap_0 : cX9_trap.data.toList.drop 0 = dktX9_trap_0 := by decide +kernel
theorem dksX9_trap_1 : cX9_trap.data.toList.drop 23 = dktX9_trap_1 := dk_seg dksX9_trap_0 23 rfl rfl
theorem dX9_trap_0 : decode cX9_trap 0 = .ok (.aload_n 0, 1) := dk_42 (dk_at dksX9_trap_0 0 rfl rfl)
theorem dX9_trap_1 : decode cX9_trap 1 = .ok (.aload_n 0, 1) := dk_42 (dk_at dksX9_trap_0 1 rfl rfl)
theorem dX9_trap_2 : decode cX9_trap 2 = .ok (.getfield 22, 3) := dk_180 0 22 (dk_at dksX9_trap_0 2 rfl rfl)
theorem dX9_trap_5 : decode cX9_trap 5 = .ok (.aload_n 0, 1) := dk_42 (dk_at dksX9_trap_0 5 rfl rfl)
theorem dX9_trap_6 : decode cX9_trap 6 = .ok (.getfield 32, 3) := dk_180 0 32 (dk_at dksX9_trap_0 6 rfl rfl)
theorem dX9_trap_9 : decode cX9_trap 9 = .ok (.iconst 1, 1) := dk_4 (dk_at dksX9_trap_0 9 rfl rfl)
theorem dX9_trap_10 : decode cX9_trap 10 = .ok (.iadd, 1) := dk_96 (dk_at dksX9_trap_0 10 rfl rfl)
theorem dX9_trap_11 : decode cX9_trap 11 = .ok (.invokevirtual 42, 3) := dk_182 0 42 (dk_at dksX9_trap_0 11 rfl rfl)
theorem dX9_trap_14 : decode cX9_trap 14 = .ok (.putfield 32, 3) := dk_181 0 32 (dk_at dksX9_trap_0 14 rfl rfl)
theorem dX9_trap_17 : decode cX9_trap 17 = .ok (.aload_n 0, 1) := dk_42 (dk_at dksX9_trap_0 17 rfl rfl)
theorem dX9_trap_18 : decode cX9_trap 18 = .ok (.aload_n 0, 1) := dk_42 (dk_at dksX9_trap_0 18 rfl rfl)
theorem dX9_trap_19 : decode cX9_trap 19 = .ok (.getfield 32, 3) := dk_180 0 32 (dk_at dksX9_trap_0 19 rfl rfl)
theorem dX9_trap_22 : decode cX9_trap 22 = .ok (.iconst (-1), 1) := dk_2 (dk_at dksX9_trap_0 22 rfl rfl)
theorem dX9_trap_23 : decode cX9_trap 23 = .ok (.if_icmp .ne 7, 3) := dk_160 0 7 (dk_at dksX9_trap_1 0 rfl rfl)
theorem dX9_trap_26 : decode cX9_trap 26 = .ok (.iconst 1, 1) := dk_4 (dk_at dksX9_trap_1 3 rfl rfl)
theorem dX9_trap_27 : decode cX9_trap 27 = .ok (.goto 4, 3) := dk_167 0 4 (dk_at dksX9_trap_1 4 rfl rfl)
theorem dX9_trap_30 : decode cX9_trap 30 = .ok (.iconst 0, 1) := dk_3 (dk_at dksX9_trap_1 7 rfl rfl)
theorem dX9_trap_31 : decode cX9_trap 31 = .ok (.putfield 45, 3) := dk_181 0 45 (dk_at dksX9_trap_1 8 rfl rfl)
theorem dX9_trap_34 : decode cX9_trap 34 = .ok (.return_, 1) := dk_177 (dk_at dksX9_trap_1 11 rfl rfl)
def dkwX9_doneBy_10 : List UInt8 := [43, 180, 0, 100, 16, 18, 160, 0, 8, 42, 4, 181, 0, 45, 21, 4, 172]
abbrev dktX9_doneBy_10 : List UInt8 := dkwX9_doneBy_10 ++ []
def dkwX9_doneBy_9 : List UInt8 := [167, 0, 38, 43, 180, 0, 100, 16, 21, 160, 0, 15, 42, 180, 0, 22, 182, 0, 129, 54, 4, 167, 0, 17]
abbrev dktX9_doneBy_9 : List UInt8 := dkwX9_doneBy_9 ++ dktX9_doneBy_10
def dkwX9_doneBy_8 : List UInt8 := [16, 14, 160, 0, 12, 43, 180, 0, 88, 54, 4, 167, 0, 51, 43, 182, 0, 94, 153, 0, 9, 28, 54, 4]
abbrev dktX9_doneBy_8 : List UInt8 := dkwX9_doneBy_8 ++ dktX9_doneBy_9
def dkwX9_doneBy_7 : List UInt8 := [182, 0, 125, 153, 0, 10, 43, 180, 0, 88, 167, 0, 5, 21, 4, 54, 4, 167, 0, 69, 43, 180, 0, 100]
abbrev dktX9_doneBy_7 : List UInt8 := dkwX9_doneBy_7 ++ dktX9_doneBy_8
def dkwX9_doneBy_6 : List UInt8 := [180, 0, 106, 43, 28, 29, 182, 0, 119, 79, 167, 0, 99, 43, 182, 0, 122, 153, 0, 26, 43, 28, 29]
abbrev dktX9_doneBy_6 : List UInt8 := dkwX9_doneBy_6 ++ dktX9_doneBy_7
def dkwX9_doneBy_5 : List UInt8 := [21, 4, 79, 43, 180, 0, 88, 54, 4, 167, 0, 124, 43, 182, 0, 116, 153, 0, 21, 42, 180, 0, 9, 43]
abbrev dktX9_doneBy_5 : List UInt8 := dkwX9_doneBy_5 ++ dktX9_doneBy_6
def dkwX9_doneBy_4 : List UInt8 := [182, 0, 112, 79, 167, 0, 153, 43, 180, 0, 100, 16, 15, 160, 0, 23, 42, 180, 0, 9, 43, 180, 0, 106]
abbrev dktX9_doneBy_4 : List UInt8 := dkwX9_doneBy_4 ++ dktX9_doneBy_5
def dkwX9_doneBy_3 : List UInt8 := [180, 0, 15, 28, 43, 180, 0, 88, 96, 43, 42, 180, 0, 15, 28, 43, 180, 0, 88, 96, 46, 29]
abbrev dktX9_doneBy_3 : List UInt8 := dkwX9_doneBy_3 ++ dktX9_doneBy_4
def dkwX9_doneBy_2 : List UInt8 := [180, 0, 15, 28, 43, 180, 0, 88, 96, 46, 79, 167, 0, 190, 43, 182, 0, 109, 153, 0, 33, 42]
abbrev dktX9_doneBy_2 : List UInt8 := dkwX9_doneBy_2 ++ dktX9_doneBy_3
def dkwX9_doneBy_1 : List UInt8 := [4, 96, 54, 4, 43, 180, 0, 100, 16, 9, 160, 0, 26, 42, 180, 0, 9, 43, 180, 0, 106, 42]
abbrev dktX9_doneBy_1 : List UInt8 := dkwX9_doneBy_1 ++ dktX9_doneBy_2
def dkwX9_doneBy_0 : List UInt8 := [42, 180, 0, 9, 43, 180, 0, 74, 46, 61, 42, 180, 0, 9, 43, 180, 0, 77, 46, 62, 42, 180, 0, 32]
abbrev dktX9_doneBy_0 : List UInt8 := dkwX9_doneBy_0 ++ dktX9_doneBy_1
theorem dksX9_doneBy_0 : cX9_doneBy.data.toList.drop 0 = dktX9_doneBy_0 := by decide +kernel
theorem dksX9_doneBy_1 : cX9_doneBy.data.toList.drop 24 = dktX9_doneBy_1 := dk_seg dksX9_doneBy_0 24 rfl rfl
theorem dksX9_doneBy_2 : cX9_doneBy.data.toList.drop 46 = dktX9_doneBy_2 := dk_seg dksX9_doneBy_1 22 rfl rfl
theorem dksX9_doneBy_3 : cX9_doneBy.data.toList.drop 68 = dktX9_doneBy_3 := dk_seg dksX9_doneBy_2 22 rfl rfl
theorem dksX9_doneBy_4 : cX9_doneBy.data.toList.drop 90 = dktX9_doneBy_4 := dk_seg dksX9_doneBy_3 22 rfl rfl
theorem dksX9_doneBy_5 : cX9_doneBy.data.toList.drop 114 = dktX9_doneBy_5 := dk_seg dksX9_doneBy_4 24 rfl rfl
theorem dksX9_doneBy_6 : cX9_doneBy.data.toList.drop 138 = dktX9_doneBy_6 := dk_seg dksX9_doneBy_5 24 rfl rfl
theorem dksX9_doneBy_7 : cX9_doneBy.data.toList.drop 161 = dktX9_doneBy_7 := dk_seg dksX9_doneBy_6 23 rfl rfl
theorem dksX9_doneBy_8 : cX9_doneBy.data.toList.drop 185 = dktX9_doneBy_8 := dk_seg dksX9_doneBy_7 24 rfl rfl
theorem dksX9_doneBy_9 : cX9_doneBy.data.toList.drop 209 = dktX9_doneBy_9 := dk_seg dksX9_doneBy_8 24 rfl rfl
theorem dksX9_doneBy_10 : cX9_doneBy.data.toList.drop 233 = dktX9_doneBy_10 := dk_seg dksX9_doneBy_9 24 rfl rfl
theorem dX9_doneBy_0 : decode cX9_doneBy 0 = .ok (.aload_n 0, 1) := dk_42 (dk_at dksX9_doneBy_0 0 rfl rfl)
theorem dX9_doneBy_1 : decode cX9_doneBy 1 = .ok (.getfield 9, 3) := dk_180 0 9 (dk_at dksX9_doneBy_0 1 rfl rfl)
theorem dX9_doneBy_4 : decode cX9_doneBy 4 = .ok (.aload_n 1, 1) := dk_43 (dk_at dksX9_doneBy_0 4 rfl rfl)
theorem dX9_doneBy_5 : decode cX9_doneBy 5 = .ok (.getfield 74, 3) := dk_180 0 74 (dk_at dksX9_doneBy_0 5 rfl rfl)
theorem dX9_doneBy_8 : decode cX9_doneBy 8 = .ok (.iaload, 1) := dk_46 (dk_at dksX9_doneBy_0 8 rfl rfl)
theorem dX9_doneBy_9 : decode cX9_doneBy 9 = .ok (.istore_n 2, 1) := dk_61 (dk_at dksX9_doneBy_0 9 rfl rfl)
theorem dX9_doneBy_10 : decode cX9_doneBy 10 = .ok (.aload_n 0, 1) := dk_42 (dk_at dksX9_doneBy_0 10 rfl rfl)
theorem dX9_doneBy_11 : decode cX9_doneBy 11 = .ok (.getfield 9, 3) := dk_180 0 9 (dk_at dksX9_doneBy_0 11 rfl rfl)
theorem dX9_doneBy_14 : decode cX9_doneBy 14 = .ok (.aload_n 1, 1) := dk_43 (dk_at dksX9_doneBy_0 14 rfl rfl)
theorem dX9_doneBy_15 : decode cX9_doneBy 15 = .ok (.getfield 77, 3) := dk_180 0 77 (dk_at dksX9_doneBy_0 15 rfl rfl)
theorem dX9_doneBy_18 : decode cX9_doneBy 18 = .ok (.iaload, 1) := dk_46 (dk_at dksX9_doneBy_0 18 rfl rfl)
theorem dX9_doneBy_19 : decode cX9_doneBy 19 = .ok (.istore_n 3, 1) := dk_62 (dk_at dksX9_doneBy_0 19 rfl rfl)
theorem dX9_doneBy_20 : decode cX9_doneBy 20 = .ok (.aload_n 0, 1) := dk_42 (dk_at dksX9_doneBy_0 20 rfl rfl)
theorem dX9_doneBy_21 : decode cX9_doneBy 21 = .ok (.getfield 32, 3) := dk_180 0 32 (dk_at dksX9_doneBy_0 21 rfl rfl)
theorem dX9_doneBy_24 : decode cX9_doneBy 24 = .ok (.iconst 1, 1) := dk_4 (dk_at dksX9_doneBy_1 0 rfl rfl)
theorem dX9_doneBy_25 : decode cX9_doneBy 25 = .ok (.iadd, 1) := dk_96 (dk_at dksX9_doneBy_1 1 rfl rfl)
theorem dX9_doneBy_26 : decode cX9_doneBy 26 = .ok (.istore 4, 2) := dk_54 4 (dk_at dksX9_doneBy_1 2 rfl rfl)
theorem dX9_doneBy_28 : decode cX9_doneBy 28 = .ok (.aload_n 1, 1) := dk_43 (dk_at dksX9_doneBy_1 4 rfl rfl)
theorem dX9_doneBy_29 : decode cX9_doneBy 29 = .ok (.getfield 100, 3) := dk_180 0 100 (dk_at dksX9_doneBy_1 5 rfl rfl)
theorem dX9_doneBy_32 : decode cX9_doneBy 32 = .ok (.bipush 9, 2) := dk_16 9 (dk_at dksX9_doneBy_1 8 rfl rfl)
theorem dX9_doneBy_34 : decode cX9_doneBy 34 = .ok (.if_icmp .ne 26, 3) := dk_160 0 26 (dk_at dksX9_doneBy_1 10 rfl rfl)
theorem dX9_doneBy_37 : decode cX9_doneBy 37 = .ok (.aload_n 0, 1) := dk_42 (dk_at dksX9_doneBy_1 13 rfl rfl)
theorem dX9_doneBy_38 : decode cX9_doneBy 38 = .ok (.getfield 9, 3) := dk_180 0 9 (dk_at dksX9_doneBy_1 14 rfl rfl)
theorem dX9_doneBy_41 : decode cX9_doneBy 41 = .ok (.aload_n 1, 1) := dk_43 (dk_at dksX9_doneBy_1 17 rfl rfl)
theorem dX9_doneBy_42 : decode cX9_doneBy 42 = .ok (.getfield 106, 3) := dk_180 0 106 (dk_at dksX9_doneBy_1 18 rfl rfl)
theorem dX9_doneBy_45 : decode cX9_doneBy 45 = .ok (.aload_n 0, 1) := dk_42 (dk_at dksX9_doneBy_1 21 rfl rfl)
theorem dX9_doneBy_46 : decode cX9_doneBy 46 = .ok (.getfield 15, 3) := dk_180 0 15 (dk_at dksX9_doneBy_2 0 rfl rfl)
theorem dX9_doneBy_49 : decode cX9_doneBy 49 = .ok (.iload_n 2, 1) := dk_28 (dk_at dksX9_doneBy_2 3 rfl rfl)
theorem dX9_doneBy_50 : decode cX9_doneBy 50 = .ok (.aload_n 1, 1) := dk_43 (dk_at dksX9_doneBy_2 4 rfl rfl)
theorem dX9_doneBy_51 : decode cX9_doneBy 51 = .ok (.getfield 88, 3) := dk_180 0 88 (dk_at dksX9_doneBy_2 5 rfl rfl)
theorem dX9_doneBy_54 : decode cX9_doneBy 54 = .ok (.iadd, 1) := dk_96 (dk_at dksX9_doneBy_2 8 rfl rfl)
theorem dX9_doneBy_55 : decode cX9_doneBy 55 = .ok (.iaload, 1) := dk_46 (dk_at dksX9_doneBy_2 9 rfl rfl)
theorem dX9_doneBy_56 : decode cX9_doneBy 56 = .ok (.iastore, 1) := dk_79 (dk_at dksX9_doneBy_2 10 rfl rfl)
theorem dX9_doneBy_57 : decode cX9_doneBy 57 = .ok (.goto 190, 3) := dk_167 0 190 (dk_at dksX9_doneBy_2 11 rfl rfl)
theorem dX9_doneBy_60 : decode cX9_doneBy 60 = .ok (.aload_n 1, 1) := dk_43 (dk_at dksX9_doneBy_2 14 rfl rfl)
theorem dX9_doneBy_61 : decode cX9_doneBy 61 = .ok (.invokevirtual 109, 3) := dk_182 0 109 (dk_at dksX9_doneBy_2 15 rfl rfl)
theorem dX9_doneBy_64 : decode cX9_doneBy 64 = .ok (.ifCond .eq 33, 3) := dk_153 0 33 (dk_at dksX9_doneBy_2 18 rfl rfl)
theorem dX9_doneBy_67 : decode cX9_doneBy 67 = .ok (.aload_n 0, 1) := dk_42 (dk_at dksX9_doneBy_2 21 rfl rfl)
theorem dX9_doneBy_68 : decode cX9_doneBy 68 = .ok (.getfield 15, 3) := dk_180 0 15 (dk_at dksX9_doneBy_3 0 rfl rfl)
theorem dX9_doneBy_71 : decode cX9_doneBy 71 = .ok (.iload_n 2, 1) := dk_28 (dk_at dksX9_doneBy_3 3 rfl rfl)
theorem dX9_doneBy_72 : decode cX9_doneBy 72 = .ok (.aload_n 1, 1) := dk_43 (dk_at dksX9_doneBy_3 4 rfl rfl)
theorem dX9_doneBy_73 : decode cX9_doneBy 73 = .ok (.getfield 88, 3) := dk_180 0 88 (dk_at dksX9_doneBy_3 5 rfl rfl)
theorem dX9_doneBy_76 : decode cX9_doneBy 76 = .ok (.iadd, 1) := dk_96 (dk_at dksX9_doneBy_3 8 rfl rfl)
theorem dX9_doneBy_77 : decode cX9_doneBy 77 = .ok (.aload_n 1, 1) := dk_43 (dk_at dksX9_doneBy_3 9 rfl rfl)
theorem dX9_doneBy_78 : decode cX9_doneBy 78 = .ok (.aload_n 0, 1) := dk_42 (dk_at dksX9_doneBy_3 10 rfl rfl)
theorem dX9_doneBy_79 : decode cX9_doneBy 79 = .ok (.getfield 15, 3) := dk_180 0 15 (dk_at dksX9_doneBy_3 11 rfl rfl)
theorem dX9_doneBy_82 : decode cX9_doneBy 82 = .ok (.iload_n 2, 1) := dk_28 (dk_at dksX9_doneBy_3 14 rfl rfl)
theorem dX9_doneBy_83 : decode cX9_doneBy 83 = .ok (.aload_n 1, 1) := dk_43 (dk_at dksX9_doneBy_3 15 rfl rfl)
theorem dX9_doneBy_84 : decode cX9_doneBy 84 = .ok (.getfield 88, 3) := dk_180 0 88 (dk_at dksX9_doneBy_3 16 rfl rfl)
theorem dX9_doneBy_87 : decode cX9_doneBy 87 = .ok (.iadd, 1) := dk_96 (dk_at dksX9_doneBy_3 19 rfl rfl)
theorem dX9_doneBy_88 : decode cX9_doneBy 88 = .ok (.iaload, 1) := dk_46 (dk_at dksX9_doneBy_3 20 rfl rfl)
theorem dX9_doneBy_89 : decode cX9_doneBy 89 = .ok (.iload_n 3, 1) := dk_29 (dk_at dksX9_doneBy_3 21 rfl rfl)
theorem dX9_doneBy_90 : decode cX9_doneBy 90 = .ok (.invokevirtual 112, 3) := dk_182 0 112 (dk_at dksX9_doneBy_4 0 rfl rfl)
theorem dX9_doneBy_93 : decode cX9_doneBy 93 = .ok (.iastore, 1) := dk_79 (dk_at dksX9_doneBy_4 3 rfl rfl)
theorem dX9_doneBy_94 : decode cX9_doneBy 94 = .ok (.goto 153, 3) := dk_167 0 153 (dk_at dksX9_doneBy_4 4 rfl rfl)
theorem dX9_doneBy_97 : decode cX9_doneBy 97 = .ok (.aload_n 1, 1) := dk_43 (dk_at dksX9_doneBy_4 7 rfl rfl)
theorem dX9_doneBy_98 : decode cX9_doneBy 98 = .ok (.getfield 100, 3) := dk_180 0 100 (dk_at dksX9_doneBy_4 8 rfl rfl)
theorem dX9_doneBy_101 : decode cX9_doneBy 101 = .ok (.bipush 15, 2) := dk_16 15 (dk_at dksX9_doneBy_4 11 rfl rfl)
theorem dX9_doneBy_103 : decode cX9_doneBy 103 = .ok (.if_icmp .ne 23, 3) := dk_160 0 23 (dk_at dksX9_doneBy_4 13 rfl rfl)
theorem dX9_doneBy_106 : decode cX9_doneBy 106 = .ok (.aload_n 0, 1) := dk_42 (dk_at dksX9_doneBy_4 16 rfl rfl)
theorem dX9_doneBy_107 : decode cX9_doneBy 107 = .ok (.getfield 9, 3) := dk_180 0 9 (dk_at dksX9_doneBy_4 17 rfl rfl)
theorem dX9_doneBy_110 : decode cX9_doneBy 110 = .ok (.aload_n 1, 1) := dk_43 (dk_at dksX9_doneBy_4 20 rfl rfl)
theorem dX9_doneBy_111 : decode cX9_doneBy 111 = .ok (.getfield 106, 3) := dk_180 0 106 (dk_at dksX9_doneBy_4 21 rfl rfl)
theorem dX9_doneBy_114 : decode cX9_doneBy 114 = .ok (.iload 4, 2) := dk_21 4 (dk_at dksX9_doneBy_5 0 rfl rfl)
theorem dX9_doneBy_116 : decode cX9_doneBy 116 = .ok (.iastore, 1) := dk_79 (dk_at dksX9_doneBy_5 2 rfl rfl)
theorem dX9_doneBy_117 : decode cX9_doneBy 117 = .ok (.aload_n 1, 1) := dk_43 (dk_at dksX9_doneBy_5 3 rfl rfl)
theorem dX9_doneBy_118 : decode cX9_doneBy 118 = .ok (.getfield 88, 3) := dk_180 0 88 (dk_at dksX9_doneBy_5 4 rfl rfl)
theorem dX9_doneBy_121 : decode cX9_doneBy 121 = .ok (.istore 4, 2) := dk_54 4 (dk_at dksX9_doneBy_5 7 rfl rfl)
theorem dX9_doneBy_123 : decode cX9_doneBy 123 = .ok (.goto 124, 3) := dk_167 0 124 (dk_at dksX9_doneBy_5 9 rfl rfl)
theorem dX9_doneBy_126 : decode cX9_doneBy 126 = .ok (.aload_n 1, 1) := dk_43 (dk_at dksX9_doneBy_5 12 rfl rfl)
theorem dX9_doneBy_127 : decode cX9_doneBy 127 = .ok (.invokevirtual 116, 3) := dk_182 0 116 (dk_at dksX9_doneBy_5 13 rfl rfl)
theorem dX9_doneBy_130 : decode cX9_doneBy 130 = .ok (.ifCond .eq 21, 3) := dk_153 0 21 (dk_at dksX9_doneBy_5 16 rfl rfl)
theorem dX9_doneBy_133 : decode cX9_doneBy 133 = .ok (.aload_n 0, 1) := dk_42 (dk_at dksX9_doneBy_5 19 rfl rfl)
theorem dX9_doneBy_134 : decode cX9_doneBy 134 = .ok (.getfield 9, 3) := dk_180 0 9 (dk_at dksX9_doneBy_5 20 rfl rfl)
theorem dX9_doneBy_137 : decode cX9_doneBy 137 = .ok (.aload_n 1, 1) := dk_43 (dk_at dksX9_doneBy_5 23 rfl rfl)
theorem dX9_doneBy_138 : decode cX9_doneBy 138 = .ok (.getfield 106, 3) := dk_180 0 106 (dk_at dksX9_doneBy_6 0 rfl rfl)
theorem dX9_doneBy_141 : decode cX9_doneBy 141 = .ok (.aload_n 1, 1) := dk_43 (dk_at dksX9_doneBy_6 3 rfl rfl)
theorem dX9_doneBy_142 : decode cX9_doneBy 142 = .ok (.iload_n 2, 1) := dk_28 (dk_at dksX9_doneBy_6 4 rfl rfl)
theorem dX9_doneBy_143 : decode cX9_doneBy 143 = .ok (.iload_n 3, 1) := dk_29 (dk_at dksX9_doneBy_6 5 rfl rfl)
theorem dX9_doneBy_144 : decode cX9_doneBy 144 = .ok (.invokevirtual 119, 3) := dk_182 0 119 (dk_at dksX9_doneBy_6 6 rfl rfl)
theorem dX9_doneBy_147 : decode cX9_doneBy 147 = .ok (.iastore, 1) := dk_79 (dk_at dksX9_doneBy_6 9 rfl rfl)
theorem dX9_doneBy_148 : decode cX9_doneBy 148 = .ok (.goto 99, 3) := dk_167 0 99 (dk_at dksX9_doneBy_6 10 rfl rfl)
theorem dX9_doneBy_151 : decode cX9_doneBy 151 = .ok (.aload_n 1, 1) := dk_43 (dk_at dksX9_doneBy_6 13 rfl rfl)
theorem dX9_doneBy_152 : decode cX9_doneBy 152 = .ok (.invokevirtual 122, 3) := dk_182 0 122 (dk_at dksX9_doneBy_6 14 rfl rfl)
theorem dX9_doneBy_155 : decode cX9_doneBy 155 = .ok (.ifCond .eq 26, 3) := dk_153 0 26 (dk_at dksX9_doneBy_6 17 rfl rfl)
theorem dX9_doneBy_158 : decode cX9_doneBy 158 = .ok (.aload_n 1, 1) := dk_43 (dk_at dksX9_doneBy_6 20 rfl rfl)
theorem dX9_doneBy_159 : decode cX9_doneBy 159 = .ok (.iload_n 2, 1) := dk_28 (dk_at dksX9_doneBy_6 21 rfl rfl)
theorem dX9_doneBy_160 : decode cX9_doneBy 160 = .ok (.iload_n 3, 1) := dk_29 (dk_at dksX9_doneBy_6 22 rfl rfl)
theorem dX9_doneBy_161 : decode cX9_doneBy 161 = .ok (.invokevirtual 125, 3) := dk_182 0 125 (dk_at dksX9_doneBy_7 0 rfl rfl)
theorem dX9_doneBy_164 : decode cX9_doneBy 164 = .ok (.ifCond .eq 10, 3) := dk_153 0 10 (dk_at dksX9_doneBy_7 3 rfl rfl)
theorem dX9_doneBy_167 : decode cX9_doneBy 167 = .ok (.aload_n 1, 1) := dk_43 (dk_at dksX9_doneBy_7 6 rfl rfl)
theorem dX9_doneBy_168 : decode cX9_doneBy 168 = .ok (.getfield 88, 3) := dk_180 0 88 (dk_at dksX9_doneBy_7 7 rfl rfl)
theorem dX9_doneBy_171 : decode cX9_doneBy 171 = .ok (.goto 5, 3) := dk_167 0 5 (dk_at dksX9_doneBy_7 10 rfl rfl)
theorem dX9_doneBy_174 : decode cX9_doneBy 174 = .ok (.iload 4, 2) := dk_21 4 (dk_at dksX9_doneBy_7 13 rfl rfl)
theorem dX9_doneBy_176 : decode cX9_doneBy 176 = .ok (.istore 4, 2) := dk_54 4 (dk_at dksX9_doneBy_7 15 rfl rfl)
theorem dX9_doneBy_178 : decode cX9_doneBy 178 = .ok (.goto 69, 3) := dk_167 0 69 (dk_at dksX9_doneBy_7 17 rfl rfl)
theorem dX9_doneBy_181 : decode cX9_doneBy 181 = .ok (.aload_n 1, 1) := dk_43 (dk_at dksX9_doneBy_7 20 rfl rfl)
theorem dX9_doneBy_182 : decode cX9_doneBy 182 = .ok (.getfield 100, 3) := dk_180 0 100 (dk_at dksX9_doneBy_7 21 rfl rfl)
theorem dX9_doneBy_185 : decode cX9_doneBy 185 = .ok (.bipush 14, 2) := dk_16 14 (dk_at dksX9_doneBy_8 0 rfl rfl)
theorem dX9_doneBy_187 : decode cX9_doneBy 187 = .ok (.if_icmp .ne 12, 3) := dk_160 0 12 (dk_at dksX9_doneBy_8 2 rfl rfl)
theorem dX9_doneBy_190 : decode cX9_doneBy 190 = .ok (.aload_n 1, 1) := dk_43 (dk_at dksX9_doneBy_8 5 rfl rfl)
theorem dX9_doneBy_191 : decode cX9_doneBy 191 = .ok (.getfield 88, 3) := dk_180 0 88 (dk_at dksX9_doneBy_8 6 rfl rfl)
theorem dX9_doneBy_194 : decode cX9_doneBy 194 = .ok (.istore 4, 2) := dk_54 4 (dk_at dksX9_doneBy_8 9 rfl rfl)
theorem dX9_doneBy_196 : decode cX9_doneBy 196 = .ok (.goto 51, 3) := dk_167 0 51 (dk_at dksX9_doneBy_8 11 rfl rfl)
theorem dX9_doneBy_199 : decode cX9_doneBy 199 = .ok (.aload_n 1, 1) := dk_43 (dk_at dksX9_doneBy_8 14 rfl rfl)
theorem dX9_doneBy_200 : decode cX9_doneBy 200 = .ok (.invokevirtual 94, 3) := dk_182 0 94 (dk_at dksX9_doneBy_8 15 rfl rfl)
theorem dX9_doneBy_203 : decode cX9_doneBy 203 = .ok (.ifCond .eq 9, 3) := dk_153 0 9 (dk_at dksX9_doneBy_8 18 rfl rfl)
theorem dX9_doneBy_206 : decode cX9_doneBy 206 = .ok (.iload_n 2, 1) := dk_28 (dk_at dksX9_doneBy_8 21 rfl rfl)
theorem dX9_doneBy_207 : decode cX9_doneBy 207 = .ok (.istore 4, 2) := dk_54 4 (dk_at dksX9_doneBy_8 22 rfl rfl)
theorem dX9_doneBy_209 : decode cX9_doneBy 209 = .ok (.goto 38, 3) := dk_167 0 38 (dk_at dksX9_doneBy_9 0 rfl rfl)
theorem dX9_doneBy_212 : decode cX9_doneBy 212 = .ok (.aload_n 1, 1) := dk_43 (dk_at dksX9_doneBy_9 3 rfl rfl)
theorem dX9_doneBy_213 : decode cX9_doneBy 213 = .ok (.getfield 100, 3) := dk_180 0 100 (dk_at dksX9_doneBy_9 4 rfl rfl)
theorem dX9_doneBy_216 : decode cX9_doneBy 216 = .ok (.bipush 21, 2) := dk_16 21 (dk_at dksX9_doneBy_9 7 rfl rfl)
theorem dX9_doneBy_218 : decode cX9_doneBy 218 = .ok (.if_icmp .ne 15, 3) := dk_160 0 15 (dk_at dksX9_doneBy_9 9 rfl rfl)
theorem dX9_doneBy_221 : decode cX9_doneBy 221 = .ok (.aload_n 0, 1) := dk_42 (dk_at dksX9_doneBy_9 12 rfl rfl)
theorem dX9_doneBy_222 : decode cX9_doneBy 222 = .ok (.getfield 22, 3) := dk_180 0 22 (dk_at dksX9_doneBy_9 13 rfl rfl)
theorem dX9_doneBy_225 : decode cX9_doneBy 225 = .ok (.invokevirtual 129, 3) := dk_182 0 129 (dk_at dksX9_doneBy_9 16 rfl rfl)
theorem dX9_doneBy_228 : decode cX9_doneBy 228 = .ok (.istore 4, 2) := dk_54 4 (dk_at dksX9_doneBy_9 19 rfl rfl)
theorem dX9_doneBy_230 : decode cX9_doneBy 230 = .ok (.goto 17, 3) := dk_167 0 17 (dk_at dksX9_doneBy_9 21 rfl rfl)
theorem dX9_doneBy_233 : decode cX9_doneBy 233 = .ok (.aload_n 1, 1) := dk_43 (dk_at dksX9_doneBy_10 0 rfl rfl)
theorem dX9_doneBy_234 : decode cX9_doneBy 234 = .ok (.getfield 100, 3) := dk_180 0 100 (dk_at dksX9_doneBy_10 1 rfl rfl)
theorem dX9_doneBy_237 : decode cX9_doneBy 237 = .ok (.bipush 18, 2) := dk_16 18 (dk_at dksX9_doneBy_10 4 rfl rfl)
theorem dX9_doneBy_239 : decode cX9_doneBy 239 = .ok (.if_icmp .ne 8, 3) := dk_160 0 8 (dk_at dksX9_doneBy_10 6 rfl rfl)
theorem dX9_doneBy_242 : decode cX9_doneBy 242 = .ok (.aload_n 0, 1) := dk_42 (dk_at dksX9_doneBy_10 9 rfl rfl)
theorem dX9_doneBy_243 : decode cX9_doneBy 243 = .ok (.iconst 1, 1) := dk_4 (dk_at dksX9_doneBy_10 10 rfl rfl)
theorem dX9_doneBy_244 : decode cX9_doneBy 244 = .ok (.putfield 45, 3) := dk_181 0 45 (dk_at dksX9_doneBy_10 11 rfl rfl)
theorem dX9_doneBy_247 : decode cX9_doneBy 247 = .ok (.iload 4, 2) := dk_21 4 (dk_at dksX9_doneBy_10 14 rfl rfl)
theorem dX9_doneBy_249 : decode cX9_doneBy 249 = .ok (.ireturn, 1) := dk_172 (dk_at dksX9_doneBy_10 16 rfl rfl)
def dkwX10_isOlderThan_0 : List UInt8 := [42, 185, 0, 1, 1, 0, 43, 185, 0, 1, 1, 0, 148, 156, 0, 7, 4, 167, 0, 4, 3, 172]
abbrev dktX10_isOlderThan_0 : List UInt8 := dkwX10_isOlderThan_0 ++ []
theorem dksX10_isOlderThan_0 : cX10_isOlderThan.data.toList.drop 0 = dktX10_isOlderThan_0 := by decide +kernel
theorem dX10_isOlderThan_0 : decode cX10_isOlderThan 0 = .ok (.aload_n 0, 1) := dk_42 (dk_at dksX10_isOlderThan_0 0 rfl rfl)
theorem dX10_isOlderThan_1 : decode cX10_isOlderThan 1 = .ok (.invokeinterface 1 1, 5) := by decide +kernel
theorem dX10_isOlderThan_6 : decode cX10_isOlderThan 6 = .ok (.aload_n 1, 1) := dk_43 (dk_at dksX10_isOlderThan_0 6 rfl rfl)
theorem dX10_isOlderThan_7 : decode cX10_isOlderThan 7 = .ok (.invokeinterface 1 1, 5) := by decide +kernel
theorem dX10_isOlderThan_12 : decode cX10_isOlderThan 12 = .ok (.lcmp, 1) := dk_148 (dk_at dksX10_isOlderThan_0 12 rfl rfl)
theorem dX10_isOlderThan_13 : decode cX10_isOlderThan 13 = .ok (.ifCond .ge 7, 3) := dk_156 0 7 (dk_at dksX10_isOlderThan_0 13 rfl rfl)
theorem dX10_isOlderThan_16 : decode cX10_isOlderThan 16 = .ok (.iconst 1, 1) := dk_4 (dk_at dksX10_isOlderThan_0 16 rfl rfl)
theorem dX10_isOlderThan_17 : decode cX10_isOlderThan 17 = .ok (.goto 4, 3) := dk_167 0 4 (dk_at dksX10_isOlderThan_0 17 rfl rfl)
theorem dX10_isOlderThan_20 : decode cX10_isOlderThan 20 = .ok (.iconst 0, 1) := dk_3 (dk_at dksX10_isOlderThan_0 20 rfl rfl)
theorem dX10_isOlderThan_21 : decode cX10_isOlderThan 21 = .ok (.ireturn, 1) := dk_172 (dk_at dksX10_isOlderThan_0 21 rfl rfl)
