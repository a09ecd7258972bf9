/-! DECODE ROWS BY BYTES: one lemma an opcode; a method's code is cut into short pieces once, and a row reads its own piece alone. -/
set_option maxRecDepth 100000
/-- the code has just these bytes from pc on -/
def DkAt (code : ByteArray) (pc : Nat) (bs : List UInt8) : Prop := ∀ (j : Nat) (b : UInt8), bs[j]? = some b → code.data.toList[pc + j]? = some b
/-- the piece W has the bytes bs from its place j on -/
def dkIn (W : List UInt8) (j : Nat) (bs : List UInt8) : Bool := decide ((W.drop j).take bs.length = bs)
theorem dk_seg {l W T : List UInt8} {o o2 : Nat} (h : l.drop o = W ++ T) (n : Nat) (hn : W.length = n) (ho : o + n = o2) : l.drop o2 = T := by
  subst ho
  rw [← List.drop_drop, h, List.drop_left' hn]
theorem dk_at {code : ByteArray} {W T bs : List UInt8} {o pc : Nat} (h : code.data.toList.drop o = W ++ T) (j : Nat) (hp : o + j = pc) (hw : dkIn W j bs = true) : DkAt code pc bs := by
  subst hp
  intro i b e
  have h1 := of_decide_eq_true hw
  have h2 : i < bs.length := (List.getElem?_eq_some_iff.mp e).1
  have h3 : W[j + i]? = some b := by
    rw [← h1, List.getElem?_take, if_pos h2, List.getElem?_drop] at e
    exact e
  have h4 : j + i < W.length := (List.getElem?_eq_some_iff.mp h3).1
  have h5 : (code.data.toList.drop o)[j + i]? = some b := by
    rw [h, List.getElem?_append_left h4]
    exact h3
  rw [List.getElem?_drop, ← Nat.add_assoc] at h5
  exact h5
theorem dk_u1 {A : ByteArray} {p : Nat} {b : UInt8} (h : A.data.toList[p]? = some b) : (Reader.u1 : Reader DecodeError Nat) A p = .ok (b.toNat, p + 1) := by
  obtain ⟨h1, h2⟩ := List.getElem?_eq_some_iff.mp h
  have h3 : p < A.size := by simpa using h1
  have h4 : A[p]'h3 = b := h2
  have e : (Reader.u1 : Reader DecodeError Nat) A p = (if h : p < A.size then .ok (A[p].toNat, p + 1) else .error (HasTruncated.truncated p)) := by
    show (do if h : p < A.size then do set (p + 1); Pure.pure A[p].toNat else MonadExcept.throw (HasTruncated.truncated p) : Reader DecodeError Nat) A p = _
    by_cases hi : p < A.size
    · rw [dif_pos hi, dif_pos hi]; rfl
    · rw [dif_neg hi, dif_neg hi]; rfl
  rw [e, dif_pos h3, h4]
theorem dk_bind {α β : Type} {r : Reader DecodeError α} {f : α → Reader DecodeError β} {A : ByteArray} {p s : Nat} {a : α} (h : r A p = .ok (a, s)) : (r >>= f) A p = f a A s := by
  show (do let (a, s) ← r A p; f a A s : Except DecodeError (β × Nat)) = _
  rw [h]
  rfl
theorem dk_map {α β : Type} {r : Reader DecodeError α} {g : α → β} {A : ByteArray} {p s : Nat} {a : α} (h : r A p = .ok (a, s)) : (g <$> r) A p = .ok (g a, s) := by
  show (do let (a, s) ← r A p; .ok (g a, s) : Except DecodeError (β × Nat)) = _
  rw [h]
  rfl
theorem dk_u2 {A : ByteArray} {p : Nat} {a b : UInt8} (h : A.data.toList[p]? = some a) (h2 : A.data.toList[p + 1]? = some b) : (Reader.u2 : Reader DecodeError Nat) A p = .ok (a.toNat * 256 + b.toNat, p + 2) := by
  show (Reader.u1 >>= fun hi => Reader.u1 >>= fun lo => Pure.pure (hi * 256 + lo) : Reader DecodeError Nat) A p = _
  rw [dk_bind (dk_u1 h), dk_bind (dk_u1 h2)]
  rfl
theorem dk_of {code : ByteArray} {pc n : Nat} {i : Instr} (h : Decoder.instr pc code pc = .ok (i, pc + n)) : decode code pc = .ok (i, n) := by
  have e : decode code pc = (match Decoder.instr pc code pc with | .error x => .error x | .ok (j, s) => .ok (j, s - pc)) := by
    show (do let (j, s) ← Decoder.instr pc code pc; Pure.pure (j, s - pc) : Except DecodeError (Instr × Nat)) = _
    cases Decoder.instr pc code pc <;> rfl
  rw [e, h]
  show Except.ok (i, pc + n - pc) = _
  rw [Nat.add_sub_cancel_left]
theorem dk_1 {code : ByteArray} {pc : Nat} (h : DkAt code pc [1]) : decode code pc = .ok (.aconst_null, 1) := dk_of ((dk_bind (dk_u1 (h 0 _ rfl))).trans rfl)
theorem dk_2 {code : ByteArray} {pc : Nat} (h : DkAt code pc [2]) : decode code pc = .ok (.iconst (-1), 1) := dk_of ((dk_bind (dk_u1 (h 0 _ rfl))).trans rfl)
theorem dk_3 {code : ByteArray} {pc : Nat} (h : DkAt code pc [3]) : decode code pc = .ok (.iconst 0, 1) := dk_of ((dk_bind (dk_u1 (h 0 _ rfl))).trans rfl)
theorem dk_4 {code : ByteArray} {pc : Nat} (h : DkAt code pc [4]) : decode code pc = .ok (.iconst 1, 1) := dk_of ((dk_bind (dk_u1 (h 0 _ rfl))).trans rfl)
theorem dk_5 {code : ByteArray} {pc : Nat} (h : DkAt code pc [5]) : decode code pc = .ok (.iconst 2, 1) := dk_of ((dk_bind (dk_u1 (h 0 _ rfl))).trans rfl)
theorem dk_6 {code : ByteArray} {pc : Nat} (h : DkAt code pc [6]) : decode code pc = .ok (.iconst 3, 1) := dk_of ((dk_bind (dk_u1 (h 0 _ rfl))).trans rfl)
theorem dk_7 {code : ByteArray} {pc : Nat} (h : DkAt code pc [7]) : decode code pc = .ok (.iconst 4, 1) := dk_of ((dk_bind (dk_u1 (h 0 _ rfl))).trans rfl)
theorem dk_8 {code : ByteArray} {pc : Nat} (h : DkAt code pc [8]) : decode code pc = .ok (.iconst 5, 1) := dk_of ((dk_bind (dk_u1 (h 0 _ rfl))).trans rfl)
theorem dk_9 {code : ByteArray} {pc : Nat} (h : DkAt code pc [9]) : decode code pc = .ok (.lconst 0, 1) := dk_of ((dk_bind (dk_u1 (h 0 _ rfl))).trans rfl)
theorem dk_16 {code : ByteArray} {pc : Nat} (a : UInt8) (h : DkAt code pc [16, a]) : decode code pc = .ok (.bipush (Reader.signed 8 a.toNat), 2) := dk_of ((dk_bind (dk_u1 (h 0 _ rfl))).trans ((dk_bind (dk_map (dk_u1 (h 1 _ rfl)))).trans rfl))
theorem dk_17 {code : ByteArray} {pc : Nat} (a b : UInt8) (h : DkAt code pc [17, a, b]) : decode code pc = .ok (.sipush (Reader.signed 16 (a.toNat * 256 + b.toNat)), 3) := dk_of ((dk_bind (dk_u1 (h 0 _ rfl))).trans ((dk_bind (dk_map (dk_u2 (h 1 _ rfl) (h 2 _ rfl)))).trans rfl))
theorem dk_18 {code : ByteArray} {pc : Nat} (a : UInt8) (h : DkAt code pc [18, a]) : decode code pc = .ok (.ldc a.toNat, 2) := dk_of ((dk_bind (dk_u1 (h 0 _ rfl))).trans ((dk_bind (dk_u1 (h 1 _ rfl))).trans rfl))
theorem dk_19 {code : ByteArray} {pc : Nat} (a b : UInt8) (h : DkAt code pc [19, a, b]) : decode code pc = .ok (.ldc_w (a.toNat * 256 + b.toNat), 3) := dk_of ((dk_bind (dk_u1 (h 0 _ rfl))).trans ((dk_bind (dk_u2 (h 1 _ rfl) (h 2 _ rfl))).trans rfl))
theorem dk_20 {code : ByteArray} {pc : Nat} (a b : UInt8) (h : DkAt code pc [20, a, b]) : decode code pc = .ok (.ldc2_w (a.toNat * 256 + b.toNat), 3) := dk_of ((dk_bind (dk_u1 (h 0 _ rfl))).trans ((dk_bind (dk_u2 (h 1 _ rfl) (h 2 _ rfl))).trans rfl))
theorem dk_21 {code : ByteArray} {pc : Nat} (a : UInt8) (h : DkAt code pc [21, a]) : decode code pc = .ok (.iload a.toNat, 2) := dk_of ((dk_bind (dk_u1 (h 0 _ rfl))).trans ((dk_bind (dk_u1 (h 1 _ rfl))).trans rfl))
theorem dk_22 {code : ByteArray} {pc : Nat} (a : UInt8) (h : DkAt code pc [22, a]) : decode code pc = .ok (.lload a.toNat, 2) := dk_of ((dk_bind (dk_u1 (h 0 _ rfl))).trans ((dk_bind (dk_u1 (h 1 _ rfl))).trans rfl))
theorem dk_25 {code : ByteArray} {pc : Nat} (a : UInt8) (h : DkAt code pc [25, a]) : decode code pc = .ok (.aload a.toNat, 2) := dk_of ((dk_bind (dk_u1 (h 0 _ rfl))).trans ((dk_bind (dk_u1 (h 1 _ rfl))).trans rfl))
theorem dk_26 {code : ByteArray} {pc : Nat} (h : DkAt code pc [26]) : decode code pc = .ok (.iload_n 0, 1) := dk_of ((dk_bind (dk_u1 (h 0 _ rfl))).trans rfl)
theorem dk_27 {code : ByteArray} {pc : Nat} (h : DkAt code pc [27]) : decode code pc = .ok (.iload_n 1, 1) := dk_of ((dk_bind (dk_u1 (h 0 _ rfl))).trans rfl)
theorem dk_28 {code : ByteArray} {pc : Nat} (h : DkAt code pc [28]) : decode code pc = .ok (.iload_n 2, 1) := dk_of ((dk_bind (dk_u1 (h 0 _ rfl))).trans rfl)
theorem dk_29 {code : ByteArray} {pc : Nat} (h : DkAt code pc [29]) : decode code pc = .ok (.iload_n 3, 1) := dk_of ((dk_bind (dk_u1 (h 0 _ rfl))).trans rfl)
theorem dk_31 {code : ByteArray} {pc : Nat} (h : DkAt code pc [31]) : decode code pc = .ok (.lload_n 1, 1) := dk_of ((dk_bind (dk_u1 (h 0 _ rfl))).trans rfl)
theorem dk_32 {code : ByteArray} {pc : Nat} (h : DkAt code pc [32]) : decode code pc = .ok (.lload_n 2, 1) := dk_of ((dk_bind (dk_u1 (h 0 _ rfl))).trans rfl)
theorem dk_33 {code : ByteArray} {pc : Nat} (h : DkAt code pc [33]) : decode code pc = .ok (.lload_n 3, 1) := dk_of ((dk_bind (dk_u1 (h 0 _ rfl))).trans rfl)
theorem dk_42 {code : ByteArray} {pc : Nat} (h : DkAt code pc [42]) : decode code pc = .ok (.aload_n 0, 1) := dk_of ((dk_bind (dk_u1 (h 0 _ rfl))).trans rfl)
theorem dk_43 {code : ByteArray} {pc : Nat} (h : DkAt code pc [43]) : decode code pc = .ok (.aload_n 1, 1) := dk_of ((dk_bind (dk_u1 (h 0 _ rfl))).trans rfl)
theorem dk_44 {code : ByteArray} {pc : Nat} (h : DkAt code pc [44]) : decode code pc = .ok (.aload_n 2, 1) := dk_of ((dk_bind (dk_u1 (h 0 _ rfl))).trans rfl)
theorem dk_45 {code : ByteArray} {pc : Nat} (h : DkAt code pc [45]) : decode code pc = .ok (.aload_n 3, 1) := dk_of ((dk_bind (dk_u1 (h 0 _ rfl))).trans rfl)
theorem dk_46 {code : ByteArray} {pc : Nat} (h : DkAt code pc [46]) : decode code pc = .ok (.iaload, 1) := dk_of ((dk_bind (dk_u1 (h 0 _ rfl))).trans rfl)
theorem dk_47 {code : ByteArray} {pc : Nat} (h : DkAt code pc [47]) : decode code pc = .ok (.laload, 1) := dk_of ((dk_bind (dk_u1 (h 0 _ rfl))).trans rfl)
theorem dk_50 {code : ByteArray} {pc : Nat} (h : DkAt code pc [50]) : decode code pc = .ok (.aaload, 1) := dk_of ((dk_bind (dk_u1 (h 0 _ rfl))).trans rfl)
theorem dk_51 {code : ByteArray} {pc : Nat} (h : DkAt code pc [51]) : decode code pc = .ok (.baload, 1) := dk_of ((dk_bind (dk_u1 (h 0 _ rfl))).trans rfl)
theorem dk_53 {code : ByteArray} {pc : Nat} (h : DkAt code pc [53]) : decode code pc = .ok (.saload, 1) := dk_of ((dk_bind (dk_u1 (h 0 _ rfl))).trans rfl)
theorem dk_54 {code : ByteArray} {pc : Nat} (a : UInt8) (h : DkAt code pc [54, a]) : decode code pc = .ok (.istore a.toNat, 2) := dk_of ((dk_bind (dk_u1 (h 0 _ rfl))).trans ((dk_bind (dk_u1 (h 1 _ rfl))).trans rfl))
theorem dk_55 {code : ByteArray} {pc : Nat} (a : UInt8) (h : DkAt code pc [55, a]) : decode code pc = .ok (.lstore a.toNat, 2) := dk_of ((dk_bind (dk_u1 (h 0 _ rfl))).trans ((dk_bind (dk_u1 (h 1 _ rfl))).trans rfl))
theorem dk_58 {code : ByteArray} {pc : Nat} (a : UInt8) (h : DkAt code pc [58, a]) : decode code pc = .ok (.astore a.toNat, 2) := dk_of ((dk_bind (dk_u1 (h 0 _ rfl))).trans ((dk_bind (dk_u1 (h 1 _ rfl))).trans rfl))
theorem dk_60 {code : ByteArray} {pc : Nat} (h : DkAt code pc [60]) : decode code pc = .ok (.istore_n 1, 1) := dk_of ((dk_bind (dk_u1 (h 0 _ rfl))).trans rfl)
theorem dk_61 {code : ByteArray} {pc : Nat} (h : DkAt code pc [61]) : decode code pc = .ok (.istore_n 2, 1) := dk_of ((dk_bind (dk_u1 (h 0 _ rfl))).trans rfl)
theorem dk_62 {code : ByteArray} {pc : Nat} (h : DkAt code pc [62]) : decode code pc = .ok (.istore_n 3, 1) := dk_of ((dk_bind (dk_u1 (h 0 _ rfl))).trans rfl)
theorem dk_65 {code : ByteArray} {pc : Nat} (h : DkAt code pc [65]) : decode code pc = .ok (.lstore_n 2, 1) := dk_of ((dk_bind (dk_u1 (h 0 _ rfl))).trans rfl)
theorem dk_76 {code : ByteArray} {pc : Nat} (h : DkAt code pc [76]) : decode code pc = .ok (.astore_n 1, 1) := dk_of ((dk_bind (dk_u1 (h 0 _ rfl))).trans rfl)
theorem dk_77 {code : ByteArray} {pc : Nat} (h : DkAt code pc [77]) : decode code pc = .ok (.astore_n 2, 1) := dk_of ((dk_bind (dk_u1 (h 0 _ rfl))).trans rfl)
theorem dk_78 {code : ByteArray} {pc : Nat} (h : DkAt code pc [78]) : decode code pc = .ok (.astore_n 3, 1) := dk_of ((dk_bind (dk_u1 (h 0 _ rfl))).trans rfl)
theorem dk_79 {code : ByteArray} {pc : Nat} (h : DkAt code pc [79]) : decode code pc = .ok (.iastore, 1) := dk_of ((dk_bind (dk_u1 (h 0 _ rfl))).trans rfl)
theorem dk_80 {code : ByteArray} {pc : Nat} (h : DkAt code pc [80]) : decode code pc = .ok (.lastore, 1) := dk_of ((dk_bind (dk_u1 (h 0 _ rfl))).trans rfl)
theorem dk_83 {code : ByteArray} {pc : Nat} (h : DkAt code pc [83]) : decode code pc = .ok (.aastore, 1) := dk_of ((dk_bind (dk_u1 (h 0 _ rfl))).trans rfl)
theorem dk_84 {code : ByteArray} {pc : Nat} (h : DkAt code pc [84]) : decode code pc = .ok (.bastore, 1) := dk_of ((dk_bind (dk_u1 (h 0 _ rfl))).trans rfl)
theorem dk_86 {code : ByteArray} {pc : Nat} (h : DkAt code pc [86]) : decode code pc = .ok (.sastore, 1) := dk_of ((dk_bind (dk_u1 (h 0 _ rfl))).trans rfl)
theorem dk_87 {code : ByteArray} {pc : Nat} (h : DkAt code pc [87]) : decode code pc = .ok (.pop, 1) := dk_of ((dk_bind (dk_u1 (h 0 _ rfl))).trans rfl)
theorem dk_89 {code : ByteArray} {pc : Nat} (h : DkAt code pc [89]) : decode code pc = .ok (.dup, 1) := dk_of ((dk_bind (dk_u1 (h 0 _ rfl))).trans rfl)
theorem dk_92 {code : ByteArray} {pc : Nat} (h : DkAt code pc [92]) : decode code pc = .ok (.dup2, 1) := dk_of ((dk_bind (dk_u1 (h 0 _ rfl))).trans rfl)
theorem dk_96 {code : ByteArray} {pc : Nat} (h : DkAt code pc [96]) : decode code pc = .ok (.iadd, 1) := dk_of ((dk_bind (dk_u1 (h 0 _ rfl))).trans rfl)
theorem dk_97 {code : ByteArray} {pc : Nat} (h : DkAt code pc [97]) : decode code pc = .ok (.ladd, 1) := dk_of ((dk_bind (dk_u1 (h 0 _ rfl))).trans rfl)
theorem dk_100 {code : ByteArray} {pc : Nat} (h : DkAt code pc [100]) : decode code pc = .ok (.isub, 1) := dk_of ((dk_bind (dk_u1 (h 0 _ rfl))).trans rfl)
theorem dk_101 {code : ByteArray} {pc : Nat} (h : DkAt code pc [101]) : decode code pc = .ok (.lsub, 1) := dk_of ((dk_bind (dk_u1 (h 0 _ rfl))).trans rfl)
theorem dk_104 {code : ByteArray} {pc : Nat} (h : DkAt code pc [104]) : decode code pc = .ok (.imul, 1) := dk_of ((dk_bind (dk_u1 (h 0 _ rfl))).trans rfl)
theorem dk_105 {code : ByteArray} {pc : Nat} (h : DkAt code pc [105]) : decode code pc = .ok (.lmul, 1) := dk_of ((dk_bind (dk_u1 (h 0 _ rfl))).trans rfl)
theorem dk_108 {code : ByteArray} {pc : Nat} (h : DkAt code pc [108]) : decode code pc = .ok (.idiv, 1) := dk_of ((dk_bind (dk_u1 (h 0 _ rfl))).trans rfl)
theorem dk_109 {code : ByteArray} {pc : Nat} (h : DkAt code pc [109]) : decode code pc = .ok (.ldiv, 1) := dk_of ((dk_bind (dk_u1 (h 0 _ rfl))).trans rfl)
theorem dk_112 {code : ByteArray} {pc : Nat} (h : DkAt code pc [112]) : decode code pc = .ok (.irem, 1) := dk_of ((dk_bind (dk_u1 (h 0 _ rfl))).trans rfl)
theorem dk_120 {code : ByteArray} {pc : Nat} (h : DkAt code pc [120]) : decode code pc = .ok (.ishl, 1) := dk_of ((dk_bind (dk_u1 (h 0 _ rfl))).trans rfl)
theorem dk_121 {code : ByteArray} {pc : Nat} (h : DkAt code pc [121]) : decode code pc = .ok (.lshl, 1) := dk_of ((dk_bind (dk_u1 (h 0 _ rfl))).trans rfl)
theorem dk_122 {code : ByteArray} {pc : Nat} (h : DkAt code pc [122]) : decode code pc = .ok (.ishr, 1) := dk_of ((dk_bind (dk_u1 (h 0 _ rfl))).trans rfl)
theorem dk_123 {code : ByteArray} {pc : Nat} (h : DkAt code pc [123]) : decode code pc = .ok (.lshr, 1) := dk_of ((dk_bind (dk_u1 (h 0 _ rfl))).trans rfl)
theorem dk_124 {code : ByteArray} {pc : Nat} (h : DkAt code pc [124]) : decode code pc = .ok (.iushr, 1) := dk_of ((dk_bind (dk_u1 (h 0 _ rfl))).trans rfl)
theorem dk_126 {code : ByteArray} {pc : Nat} (h : DkAt code pc [126]) : decode code pc = .ok (.iand, 1) := dk_of ((dk_bind (dk_u1 (h 0 _ rfl))).trans rfl)
theorem dk_127 {code : ByteArray} {pc : Nat} (h : DkAt code pc [127]) : decode code pc = .ok (.land, 1) := dk_of ((dk_bind (dk_u1 (h 0 _ rfl))).trans rfl)
theorem dk_128 {code : ByteArray} {pc : Nat} (h : DkAt code pc [128]) : decode code pc = .ok (.ior, 1) := dk_of ((dk_bind (dk_u1 (h 0 _ rfl))).trans rfl)
theorem dk_129 {code : ByteArray} {pc : Nat} (h : DkAt code pc [129]) : decode code pc = .ok (.lor, 1) := dk_of ((dk_bind (dk_u1 (h 0 _ rfl))).trans rfl)
theorem dk_130 {code : ByteArray} {pc : Nat} (h : DkAt code pc [130]) : decode code pc = .ok (.ixor, 1) := dk_of ((dk_bind (dk_u1 (h 0 _ rfl))).trans rfl)
theorem dk_132 {code : ByteArray} {pc : Nat} (a b : UInt8) (h : DkAt code pc [132, a, b]) : decode code pc = .ok (.iinc a.toNat (Reader.signed 8 b.toNat), 3) := dk_of ((dk_bind (dk_u1 (h 0 _ rfl))).trans ((dk_bind (dk_u1 (h 1 _ rfl))).trans ((dk_bind (dk_map (dk_u1 (h 2 _ rfl)))).trans rfl)))
theorem dk_133 {code : ByteArray} {pc : Nat} (h : DkAt code pc [133]) : decode code pc = .ok (.i2l, 1) := dk_of ((dk_bind (dk_u1 (h 0 _ rfl))).trans rfl)
theorem dk_136 {code : ByteArray} {pc : Nat} (h : DkAt code pc [136]) : decode code pc = .ok (.l2i, 1) := dk_of ((dk_bind (dk_u1 (h 0 _ rfl))).trans rfl)
theorem dk_145 {code : ByteArray} {pc : Nat} (h : DkAt code pc [145]) : decode code pc = .ok (.i2b, 1) := dk_of ((dk_bind (dk_u1 (h 0 _ rfl))).trans rfl)
theorem dk_146 {code : ByteArray} {pc : Nat} (h : DkAt code pc [146]) : decode code pc = .ok (.i2c, 1) := dk_of ((dk_bind (dk_u1 (h 0 _ rfl))).trans rfl)
theorem dk_147 {code : ByteArray} {pc : Nat} (h : DkAt code pc [147]) : decode code pc = .ok (.i2s, 1) := dk_of ((dk_bind (dk_u1 (h 0 _ rfl))).trans rfl)
theorem dk_148 {code : ByteArray} {pc : Nat} (h : DkAt code pc [148]) : decode code pc = .ok (.lcmp, 1) := dk_of ((dk_bind (dk_u1 (h 0 _ rfl))).trans rfl)
theorem dk_153 {code : ByteArray} {pc : Nat} (a b : UInt8) (h : DkAt code pc [153, a, b]) : decode code pc = .ok (.ifCond .eq (Reader.signed 16 (a.toNat * 256 + b.toNat)), 3) := dk_of ((dk_bind (dk_u1 (h 0 _ rfl))).trans ((dk_bind (dk_map (dk_u2 (h 1 _ rfl) (h 2 _ rfl)))).trans rfl))
theorem dk_154 {code : ByteArray} {pc : Nat} (a b : UInt8) (h : DkAt code pc [154, a, b]) : decode code pc = .ok (.ifCond .ne (Reader.signed 16 (a.toNat * 256 + b.toNat)), 3) := dk_of ((dk_bind (dk_u1 (h 0 _ rfl))).trans ((dk_bind (dk_map (dk_u2 (h 1 _ rfl) (h 2 _ rfl)))).trans rfl))
theorem dk_155 {code : ByteArray} {pc : Nat} (a b : UInt8) (h : DkAt code pc [155, a, b]) : decode code pc = .ok (.ifCond .lt (Reader.signed 16 (a.toNat * 256 + b.toNat)), 3) := dk_of ((dk_bind (dk_u1 (h 0 _ rfl))).trans ((dk_bind (dk_map (dk_u2 (h 1 _ rfl) (h 2 _ rfl)))).trans rfl))
theorem dk_156 {code : ByteArray} {pc : Nat} (a b : UInt8) (h : DkAt code pc [156, a, b]) : decode code pc = .ok (.ifCond .ge (Reader.signed 16 (a.toNat * 256 + b.toNat)), 3) := dk_of ((dk_bind (dk_u1 (h 0 _ rfl))).trans ((dk_bind (dk_map (dk_u2 (h 1 _ rfl) (h 2 _ rfl)))).trans rfl))
theorem dk_158 {code : ByteArray} {pc : Nat} (a b : UInt8) (h : DkAt code pc [158, a, b]) : decode code pc = .ok (.ifCond .le (Reader.signed 16 (a.toNat * 256 + b.toNat)), 3) := dk_of ((dk_bind (dk_u1 (h 0 _ rfl))).trans ((dk_bind (dk_map (dk_u2 (h 1 _ rfl) (h 2 _ rfl)))).trans rfl))
theorem dk_159 {code : ByteArray} {pc : Nat} (a b : UInt8) (h : DkAt code pc [159, a, b]) : decode code pc = .ok (.if_icmp .eq (Reader.signed 16 (a.toNat * 256 + b.toNat)), 3) := dk_of ((dk_bind (dk_u1 (h 0 _ rfl))).trans ((dk_bind (dk_map (dk_u2 (h 1 _ rfl) (h 2 _ rfl)))).trans rfl))
theorem dk_160 {code : ByteArray} {pc : Nat} (a b : UInt8) (h : DkAt code pc [160, a, b]) : decode code pc = .ok (.if_icmp .ne (Reader.signed 16 (a.toNat * 256 + b.toNat)), 3) := dk_of ((dk_bind (dk_u1 (h 0 _ rfl))).trans ((dk_bind (dk_map (dk_u2 (h 1 _ rfl) (h 2 _ rfl)))).trans rfl))
theorem dk_161 {code : ByteArray} {pc : Nat} (a b : UInt8) (h : DkAt code pc [161, a, b]) : decode code pc = .ok (.if_icmp .lt (Reader.signed 16 (a.toNat * 256 + b.toNat)), 3) := dk_of ((dk_bind (dk_u1 (h 0 _ rfl))).trans ((dk_bind (dk_map (dk_u2 (h 1 _ rfl) (h 2 _ rfl)))).trans rfl))
theorem dk_162 {code : ByteArray} {pc : Nat} (a b : UInt8) (h : DkAt code pc [162, a, b]) : decode code pc = .ok (.if_icmp .ge (Reader.signed 16 (a.toNat * 256 + b.toNat)), 3) := dk_of ((dk_bind (dk_u1 (h 0 _ rfl))).trans ((dk_bind (dk_map (dk_u2 (h 1 _ rfl) (h 2 _ rfl)))).trans rfl))
theorem dk_163 {code : ByteArray} {pc : Nat} (a b : UInt8) (h : DkAt code pc [163, a, b]) : decode code pc = .ok (.if_icmp .gt (Reader.signed 16 (a.toNat * 256 + b.toNat)), 3) := dk_of ((dk_bind (dk_u1 (h 0 _ rfl))).trans ((dk_bind (dk_map (dk_u2 (h 1 _ rfl) (h 2 _ rfl)))).trans rfl))
theorem dk_164 {code : ByteArray} {pc : Nat} (a b : UInt8) (h : DkAt code pc [164, a, b]) : decode code pc = .ok (.if_icmp .le (Reader.signed 16 (a.toNat * 256 + b.toNat)), 3) := dk_of ((dk_bind (dk_u1 (h 0 _ rfl))).trans ((dk_bind (dk_map (dk_u2 (h 1 _ rfl) (h 2 _ rfl)))).trans rfl))
theorem dk_167 {code : ByteArray} {pc : Nat} (a b : UInt8) (h : DkAt code pc [167, a, b]) : decode code pc = .ok (.goto (Reader.signed 16 (a.toNat * 256 + b.toNat)), 3) := dk_of ((dk_bind (dk_u1 (h 0 _ rfl))).trans ((dk_bind (dk_map (dk_u2 (h 1 _ rfl) (h 2 _ rfl)))).trans rfl))
theorem dk_172 {code : ByteArray} {pc : Nat} (h : DkAt code pc [172]) : decode code pc = .ok (.ireturn, 1) := dk_of ((dk_bind (dk_u1 (h 0 _ rfl))).trans rfl)
theorem dk_176 {code : ByteArray} {pc : Nat} (h : DkAt code pc [176]) : decode code pc = .ok (.areturn, 1) := dk_of ((dk_bind (dk_u1 (h 0 _ rfl))).trans rfl)
theorem dk_177 {code : ByteArray} {pc : Nat} (h : DkAt code pc [177]) : decode code pc = .ok (.return_, 1) := dk_of ((dk_bind (dk_u1 (h 0 _ rfl))).trans rfl)
theorem dk_178 {code : ByteArray} {pc : Nat} (a b : UInt8) (h : DkAt code pc [178, a, b]) : decode code pc = .ok (.getstatic (a.toNat * 256 + b.toNat), 3) := dk_of ((dk_bind (dk_u1 (h 0 _ rfl))).trans ((dk_bind (dk_u2 (h 1 _ rfl) (h 2 _ rfl))).trans rfl))
theorem dk_180 {code : ByteArray} {pc : Nat} (a b : UInt8) (h : DkAt code pc [180, a, b]) : decode code pc = .ok (.getfield (a.toNat * 256 + b.toNat), 3) := dk_of ((dk_bind (dk_u1 (h 0 _ rfl))).trans ((dk_bind (dk_u2 (h 1 _ rfl) (h 2 _ rfl))).trans rfl))
theorem dk_181 {code : ByteArray} {pc : Nat} (a b : UInt8) (h : DkAt code pc [181, a, b]) : decode code pc = .ok (.putfield (a.toNat * 256 + b.toNat), 3) := dk_of ((dk_bind (dk_u1 (h 0 _ rfl))).trans ((dk_bind (dk_u2 (h 1 _ rfl) (h 2 _ rfl))).trans rfl))
theorem dk_182 {code : ByteArray} {pc : Nat} (a b : UInt8) (h : DkAt code pc [182, a, b]) : decode code pc = .ok (.invokevirtual (a.toNat * 256 + b.toNat), 3) := dk_of ((dk_bind (dk_u1 (h 0 _ rfl))).trans ((dk_bind (dk_u2 (h 1 _ rfl) (h 2 _ rfl))).trans rfl))
theorem dk_183 {code : ByteArray} {pc : Nat} (a b : UInt8) (h : DkAt code pc [183, a, b]) : decode code pc = .ok (.invokespecial (a.toNat * 256 + b.toNat), 3) := dk_of ((dk_bind (dk_u1 (h 0 _ rfl))).trans ((dk_bind (dk_u2 (h 1 _ rfl) (h 2 _ rfl))).trans rfl))
theorem dk_184 {code : ByteArray} {pc : Nat} (a b : UInt8) (h : DkAt code pc [184, a, b]) : decode code pc = .ok (.invokestatic (a.toNat * 256 + b.toNat), 3) := dk_of ((dk_bind (dk_u1 (h 0 _ rfl))).trans ((dk_bind (dk_u2 (h 1 _ rfl) (h 2 _ rfl))).trans rfl))
theorem dk_187 {code : ByteArray} {pc : Nat} (a b : UInt8) (h : DkAt code pc [187, a, b]) : decode code pc = .ok (.new (a.toNat * 256 + b.toNat), 3) := dk_of ((dk_bind (dk_u1 (h 0 _ rfl))).trans ((dk_bind (dk_u2 (h 1 _ rfl) (h 2 _ rfl))).trans rfl))
theorem dk_188_4 {code : ByteArray} {pc : Nat} (h : DkAt code pc [188, 4]) : decode code pc = .ok (.newarray .boolean, 2) := dk_of ((dk_bind (dk_u1 (h 0 _ rfl))).trans ((dk_bind (dk_u1 (h 1 _ rfl))).trans rfl))
theorem dk_188_8 {code : ByteArray} {pc : Nat} (h : DkAt code pc [188, 8]) : decode code pc = .ok (.newarray .byte, 2) := dk_of ((dk_bind (dk_u1 (h 0 _ rfl))).trans ((dk_bind (dk_u1 (h 1 _ rfl))).trans rfl))
theorem dk_188_9 {code : ByteArray} {pc : Nat} (h : DkAt code pc [188, 9]) : decode code pc = .ok (.newarray .short, 2) := dk_of ((dk_bind (dk_u1 (h 0 _ rfl))).trans ((dk_bind (dk_u1 (h 1 _ rfl))).trans rfl))
theorem dk_188_10 {code : ByteArray} {pc : Nat} (h : DkAt code pc [188, 10]) : decode code pc = .ok (.newarray .int, 2) := dk_of ((dk_bind (dk_u1 (h 0 _ rfl))).trans ((dk_bind (dk_u1 (h 1 _ rfl))).trans rfl))
theorem dk_188_11 {code : ByteArray} {pc : Nat} (h : DkAt code pc [188, 11]) : decode code pc = .ok (.newarray .long, 2) := dk_of ((dk_bind (dk_u1 (h 0 _ rfl))).trans ((dk_bind (dk_u1 (h 1 _ rfl))).trans rfl))
theorem dk_189 {code : ByteArray} {pc : Nat} (a b : UInt8) (h : DkAt code pc [189, a, b]) : decode code pc = .ok (.anewarray (a.toNat * 256 + b.toNat), 3) := dk_of ((dk_bind (dk_u1 (h 0 _ rfl))).trans ((dk_bind (dk_u2 (h 1 _ rfl) (h 2 _ rfl))).trans rfl))
theorem dk_190 {code : ByteArray} {pc : Nat} (h : DkAt code pc [190]) : decode code pc = .ok (.arraylength, 1) := dk_of ((dk_bind (dk_u1 (h 0 _ rfl))).trans rfl)
theorem dk_191 {code : ByteArray} {pc : Nat} (h : DkAt code pc [191]) : decode code pc = .ok (.athrow, 1) := dk_of ((dk_bind (dk_u1 (h 0 _ rfl))).trans rfl)
theorem dk_192 {code : ByteArray} {pc : Nat} (a b : UInt8) (h : DkAt code pc [192, a, b]) : decode code pc = .ok (.checkcast (a.toNat * 256 + b.toNat), 3) := dk_of ((dk_bind (dk_u1 (h 0 _ rfl))).trans ((dk_bind (dk_u2 (h 1 _ rfl) (h 2 _ rfl))).trans rfl))
theorem dk_193 {code : ByteArray} {pc : Nat} (a b : UInt8) (h : DkAt code pc [193, a, b]) : decode code pc = .ok (.instanceof (a.toNat * 256 + b.toNat), 3) := dk_of ((dk_bind (dk_u1 (h 0 _ rfl))).trans ((dk_bind (dk_u2 (h 1 _ rfl) (h 2 _ rfl))).trans rfl))
theorem dk_199 {code : ByteArray} {pc : Nat} (a b : UInt8) (h : DkAt code pc [199, a, b]) : decode code pc = .ok (.ifnonnull (Reader.signed 16 (a.toNat * 256 + b.toNat)), 3) := dk_of ((dk_bind (dk_u1 (h 0 _ rfl))).trans ((dk_bind (dk_map (dk_u2 (h 1 _ rfl) (h 2 _ rfl)))).trans rfl))
/-! ColdBox$Winter -/
set_option maxRecDepth 100000
def RX1 : String := "ColdBox$Winter"
def TX1 : u_T := fun k => match k with
  | 0 => ("ColdBox$Winter", "clauses", "I", false)
  | 1 => ("ColdBox$Winter", "many", "I", false)
  | 2 => ("ColdBox$Winter", "z", "I", false)
  | 3 => ("ColdBox$Winter", "out", "[I", true)
  | 4 => ("ColdBox$Winter", "air", "[I", true)
  | 5 => ("ColdBox$Winter", "rule", "[I", true)
  | 6 => ("ColdBox$Winter", "length", "[I", true)
  | 7 => ("ColdBox$Winter", "weight", "[I", true)
  | 8 => ("ColdBox$Winter", "to", "[I", true)
  | 9 => ("ColdBox$Winter", "conds", "[LColdBox$Cond;", true)
  | _ => ("ColdBox$Winter", "body", "LColdBox$Body;", true)
def tyX1 : Nat → FieldType := fun k => match k with
  | 0 => .int
  | 1 => .int
  | 2 => .int
  | 3 => .array .int
  | 4 => .array .int
  | 5 => .array .int
  | 6 => .array .int
  | 7 => .array .int
  | 8 => .array .int
  | 9 => .array (.object "ColdBox$Cond")
  | _ => .object "ColdBox$Body"
abbrev wsX10 : List Cond := u_ws RX1 TX1 11
theorem nmX1 : ∀ a, a < 11 → ∀ b, b < 11 → a ≠ b → (TX1 a).2.1 ≠ (TX1 b).2.1 := by decide +kernel
theorem tyX1_ok : ∀ k, k < 11 → parseFieldDescriptor (TX1 k).2.2.1 = some (tyX1 k) := by decide +kernel
abbrev cX1_init : ByteArray := prog_36_method_1_code
def yX1_init : MethodName := ⟨RX1, "<init>", "()V"⟩
def dkwX1_init_5 : List UInt8 := [180, 0, 19, 27, 8, 79, 132, 1, 1, 167, 255, 233, 177]
abbrev dktX1_init_5 : List UInt8 := dkwX1_init_5 ++ []
def dkwX1_init_4 : List UInt8 := [89, 183, 0, 42, 181, 0, 43, 3, 60, 27, 16, 24, 162, 0, 23, 42, 180, 0, 15, 27, 8, 79, 42]
abbrev dktX1_init_4 : List UInt8 := dkwX1_init_4 ++ dktX1_init_5
def dkwX1_init_3 : List UInt8 := [181, 0, 28, 42, 16, 8, 188, 10, 181, 0, 31, 42, 16, 8, 189, 0, 34, 181, 0, 36, 42, 187, 0, 40]
abbrev dktX1_init_3 : List UInt8 := dkwX1_init_3 ++ dktX1_init_4
def dkwX1_init_2 : List UInt8 := [79, 89, 7, 16, 12, 79, 181, 0, 22, 42, 16, 10, 188, 10, 181, 0, 25, 42, 16, 10, 188, 10]
abbrev dktX1_init_2 : List UInt8 := dkwX1_init_2 ++ dktX1_init_3
def dkwX1_init_1 : List UInt8 := [181, 0, 19, 42, 8, 188, 10, 89, 3, 8, 79, 89, 4, 16, 10, 79, 89, 5, 5, 79, 89, 6, 16, 8]
abbrev dktX1_init_1 : List UInt8 := dkwX1_init_1 ++ dktX1_init_2
def dkwX1_init_0 : List UInt8 := [42, 183, 0, 3, 42, 4, 181, 0, 9, 42, 16, 24, 188, 10, 181, 0, 15, 42, 16, 24, 188, 10]
abbrev dktX1_init_0 : List UInt8 := dkwX1_init_0 ++ dktX1_init_1
theorem dksX1_init_0 : cX1_init.data.toList.drop 0 = dktX1_init_0 := by decide +kernel
theorem dksX1_init_1 : cX1_init.data.toList.drop 22 = dktX1_init_1 := dk_seg dksX1_init_0 22 rfl rfl
theorem dksX1_init_2 : cX1_init.data.toList.drop 46 = dktX1_init_2 := dk_seg dksX1_init_1 24 rfl rfl
theorem dksX1_init_3 : cX1_init.data.toList.drop 68 = dktX1_init_3 := dk_seg dksX1_init_2 22 rfl rfl
theorem dksX1_init_4 : cX1_init.data.toList.drop 92 = dktX1_init_4 := dk_seg dksX1_init_3 24 rfl rfl
theorem dksX1_init_5 : cX1_init.data.toList.drop 115 = dktX1_init_5 := dk_seg dksX1_init_4 23 rfl rfl
theorem dX1_init_0 : decode cX1_init 0 = .ok (.aload_n 0, 1) := dk_42 (dk_at dksX1_init_0 0 rfl rfl)
theorem dX1_init_1 : decode cX1_init 1 = .ok (.invokespecial 3, 3) := dk_183 0 3 (dk_at dksX1_init_0 1 rfl rfl)
theorem dX1_init_4 : decode cX1_init 4 = .ok (.aload_n 0, 1) := dk_42 (dk_at dksX1_init_0 4 rfl rfl)
theorem dX1_init_5 : decode cX1_init 5 = .ok (.iconst 1, 1) := dk_4 (dk_at dksX1_init_0 5 rfl rfl)
theorem dX1_init_6 : decode cX1_init 6 = .ok (.putfield 9, 3) := dk_181 0 9 (dk_at dksX1_init_0 6 rfl rfl)
theorem dX1_init_9 : decode cX1_init 9 = .ok (.aload_n 0, 1) := dk_42 (dk_at dksX1_init_0 9 rfl rfl)
theorem dX1_init_10 : decode cX1_init 10 = .ok (.bipush 24, 2) := dk_16 24 (dk_at dksX1_init_0 10 rfl rfl)
theorem dX1_init_12 : decode cX1_init 12 = .ok (.newarray .int, 2) := dk_188_10 (dk_at dksX1_init_0 12 rfl rfl)
theorem dX1_init_14 : decode cX1_init 14 = .ok (.putfield 15, 3) := dk_181 0 15 (dk_at dksX1_init_0 14 rfl rfl)
theorem dX1_init_17 : decode cX1_init 17 = .ok (.aload_n 0, 1) := dk_42 (dk_at dksX1_init_0 17 rfl rfl)
theorem dX1_init_18 : decode cX1_init 18 = .ok (.bipush 24, 2) := dk_16 24 (dk_at dksX1_init_0 18 rfl rfl)
theorem dX1_init_20 : decode cX1_init 20 = .ok (.newarray .int, 2) := dk_188_10 (dk_at dksX1_init_0 20 rfl rfl)
theorem dX1_init_22 : decode cX1_init 22 = .ok (.putfield 19, 3) := dk_181 0 19 (dk_at dksX1_init_1 0 rfl rfl)
theorem dX1_init_25 : decode cX1_init 25 = .ok (.aload_n 0, 1) := dk_42 (dk_at dksX1_init_1 3 rfl rfl)
theorem dX1_init_26 : decode cX1_init 26 = .ok (.iconst 5, 1) := dk_8 (dk_at dksX1_init_1 4 rfl rfl)
theorem dX1_init_27 : decode cX1_init 27 = .ok (.newarray .int, 2) := dk_188_10 (dk_at dksX1_init_1 5 rfl rfl)
theorem dX1_init_29 : decode cX1_init 29 = .ok (.dup, 1) := dk_89 (dk_at dksX1_init_1 7 rfl rfl)
theorem dX1_init_30 : decode cX1_init 30 = .ok (.iconst 0, 1) := dk_3 (dk_at dksX1_init_1 8 rfl rfl)
theorem dX1_init_31 : decode cX1_init 31 = .ok (.iconst 5, 1) := dk_8 (dk_at dksX1_init_1 9 rfl rfl)
theorem dX1_init_32 : decode cX1_init 32 = .ok (.iastore, 1) := dk_79 (dk_at dksX1_init_1 10 rfl rfl)
theorem dX1_init_33 : decode cX1_init 33 = .ok (.dup, 1) := dk_89 (dk_at dksX1_init_1 11 rfl rfl)
theorem dX1_init_34 : decode cX1_init 34 = .ok (.iconst 1, 1) := dk_4 (dk_at dksX1_init_1 12 rfl rfl)
theorem dX1_init_35 : decode cX1_init 35 = .ok (.bipush 10, 2) := dk_16 10 (dk_at dksX1_init_1 13 rfl rfl)
theorem dX1_init_37 : decode cX1_init 37 = .ok (.iastore, 1) := dk_79 (dk_at dksX1_init_1 15 rfl rfl)
theorem dX1_init_38 : decode cX1_init 38 = .ok (.dup, 1) := dk_89 (dk_at dksX1_init_1 16 rfl rfl)
theorem dX1_init_39 : decode cX1_init 39 = .ok (.iconst 2, 1) := dk_5 (dk_at dksX1_init_1 17 rfl rfl)
theorem dX1_init_40 : decode cX1_init 40 = .ok (.iconst 2, 1) := dk_5 (dk_at dksX1_init_1 18 rfl rfl)
theorem dX1_init_41 : decode cX1_init 41 = .ok (.iastore, 1) := dk_79 (dk_at dksX1_init_1 19 rfl rfl)
theorem dX1_init_42 : decode cX1_init 42 = .ok (.dup, 1) := dk_89 (dk_at dksX1_init_1 20 rfl rfl)
theorem dX1_init_43 : decode cX1_init 43 = .ok (.iconst 3, 1) := dk_6 (dk_at dksX1_init_1 21 rfl rfl)
theorem dX1_init_44 : decode cX1_init 44 = .ok (.bipush 8, 2) := dk_16 8 (dk_at dksX1_init_1 22 rfl rfl)
theorem dX1_init_46 : decode cX1_init 46 = .ok (.iastore, 1) := dk_79 (dk_at dksX1_init_2 0 rfl rfl)
theorem dX1_init_47 : decode cX1_init 47 = .ok (.dup, 1) := dk_89 (dk_at dksX1_init_2 1 rfl rfl)
theorem dX1_init_48 : decode cX1_init 48 = .ok (.iconst 4, 1) := dk_7 (dk_at dksX1_init_2 2 rfl rfl)
theorem dX1_init_49 : decode cX1_init 49 = .ok (.bipush 12, 2) := dk_16 12 (dk_at dksX1_init_2 3 rfl rfl)
theorem dX1_init_51 : decode cX1_init 51 = .ok (.iastore, 1) := dk_79 (dk_at dksX1_init_2 5 rfl rfl)
theorem dX1_init_52 : decode cX1_init 52 = .ok (.putfield 22, 3) := dk_181 0 22 (dk_at dksX1_init_2 6 rfl rfl)
theorem dX1_init_55 : decode cX1_init 55 = .ok (.aload_n 0, 1) := dk_42 (dk_at dksX1_init_2 9 rfl rfl)
theorem dX1_init_56 : decode cX1_init 56 = .ok (.bipush 10, 2) := dk_16 10 (dk_at dksX1_init_2 10 rfl rfl)
theorem dX1_init_58 : decode cX1_init 58 = .ok (.newarray .int, 2) := dk_188_10 (dk_at dksX1_init_2 12 rfl rfl)
theorem dX1_init_60 : decode cX1_init 60 = .ok (.putfield 25, 3) := dk_181 0 25 (dk_at dksX1_init_2 14 rfl rfl)
theorem dX1_init_63 : decode cX1_init 63 = .ok (.aload_n 0, 1) := dk_42 (dk_at dksX1_init_2 17 rfl rfl)
theorem dX1_init_64 : decode cX1_init 64 = .ok (.bipush 10, 2) := dk_16 10 (dk_at dksX1_init_2 18 rfl rfl)
theorem dX1_init_66 : decode cX1_init 66 = .ok (.newarray .int, 2) := dk_188_10 (dk_at dksX1_init_2 20 rfl rfl)
theorem dX1_init_68 : decode cX1_init 68 = .ok (.putfield 28, 3) := dk_181 0 28 (dk_at dksX1_init_3 0 rfl rfl)
theorem dX1_init_71 : decode cX1_init 71 = .ok (.aload_n 0, 1) := dk_42 (dk_at dksX1_init_3 3 rfl rfl)
theorem dX1_init_72 : decode cX1_init 72 = .ok (.bipush 8, 2) := dk_16 8 (dk_at dksX1_init_3 4 rfl rfl)
theorem dX1_init_74 : decode cX1_init 74 = .ok (.newarray .int, 2) := dk_188_10 (dk_at dksX1_init_3 6 rfl rfl)
theorem dX1_init_76 : decode cX1_init 76 = .ok (.putfield 31, 3) := dk_181 0 31 (dk_at dksX1_init_3 8 rfl rfl)
theorem dX1_init_79 : decode cX1_init 79 = .ok (.aload_n 0, 1) := dk_42 (dk_at dksX1_init_3 11 rfl rfl)
theorem dX1_init_80 : decode cX1_init 80 = .ok (.bipush 8, 2) := dk_16 8 (dk_at dksX1_init_3 12 rfl rfl)
theorem dX1_init_82 : decode cX1_init 82 = .ok (.anewarray 34, 3) := dk_189 0 34 (dk_at dksX1_init_3 14 rfl rfl)
theorem dX1_init_85 : decode cX1_init 85 = .ok (.putfield 36, 3) := dk_181 0 36 (dk_at dksX1_init_3 17 rfl rfl)
theorem dX1_init_88 : decode cX1_init 88 = .ok (.aload_n 0, 1) := dk_42 (dk_at dksX1_init_3 20 rfl rfl)
theorem dX1_init_89 : decode cX1_init 89 = .ok (.new 40, 3) := dk_187 0 40 (dk_at dksX1_init_3 21 rfl rfl)
theorem dX1_init_92 : decode cX1_init 92 = .ok (.dup, 1) := dk_89 (dk_at dksX1_init_4 0 rfl rfl)
theorem dX1_init_93 : decode cX1_init 93 = .ok (.invokespecial 42, 3) := dk_183 0 42 (dk_at dksX1_init_4 1 rfl rfl)
theorem dX1_init_96 : decode cX1_init 96 = .ok (.putfield 43, 3) := dk_181 0 43 (dk_at dksX1_init_4 4 rfl rfl)
theorem dX1_init_99 : decode cX1_init 99 = .ok (.iconst 0, 1) := dk_3 (dk_at dksX1_init_4 7 rfl rfl)
theorem dX1_init_100 : decode cX1_init 100 = .ok (.istore_n 1, 1) := dk_60 (dk_at dksX1_init_4 8 rfl rfl)
theorem dX1_init_101 : decode cX1_init 101 = .ok (.iload_n 1, 1) := dk_27 (dk_at dksX1_init_4 9 rfl rfl)
theorem dX1_init_102 : decode cX1_init 102 = .ok (.bipush 24, 2) := dk_16 24 (dk_at dksX1_init_4 10 rfl rfl)
theorem dX1_init_104 : decode cX1_init 104 = .ok (.if_icmp .ge 23, 3) := dk_162 0 23 (dk_at dksX1_init_4 12 rfl rfl)
theorem dX1_init_107 : decode cX1_init 107 = .ok (.aload_n 0, 1) := dk_42 (dk_at dksX1_init_4 15 rfl rfl)
theorem dX1_init_108 : decode cX1_init 108 = .ok (.getfield 15, 3) := dk_180 0 15 (dk_at dksX1_init_4 16 rfl rfl)
theorem dX1_init_111 : decode cX1_init 111 = .ok (.iload_n 1, 1) := dk_27 (dk_at dksX1_init_4 19 rfl rfl)
theorem dX1_init_112 : decode cX1_init 112 = .ok (.iconst 5, 1) := dk_8 (dk_at dksX1_init_4 20 rfl rfl)
theorem dX1_init_113 : decode cX1_init 113 = .ok (.iastore, 1) := dk_79 (dk_at dksX1_init_4 21 rfl rfl)
theorem dX1_init_114 : decode cX1_init 114 = .ok (.aload_n 0, 1) := dk_42 (dk_at dksX1_init_4 22 rfl rfl)
theorem dX1_init_115 : decode cX1_init 115 = .ok (.getfield 19, 3) := dk_180 0 19 (dk_at dksX1_init_5 0 rfl rfl)
theorem dX1_init_118 : decode cX1_init 118 = .ok (.iload_n 1, 1) := dk_27 (dk_at dksX1_init_5 3 rfl rfl)
theorem dX1_init_119 : decode cX1_init 119 = .ok (.iconst 5, 1) := dk_8 (dk_at dksX1_init_5 4 rfl rfl)
theorem dX1_init_120 : decode cX1_init 120 = .ok (.iastore, 1) := dk_79 (dk_at dksX1_init_5 5 rfl rfl)
theorem dX1_init_121 : decode cX1_init 121 = .ok (.iinc 1 1, 3) := dk_132 1 1 (dk_at dksX1_init_5 6 rfl rfl)
theorem dX1_init_124 : decode cX1_init 124 = .ok (.goto (-23), 3) := dk_167 255 233 (dk_at dksX1_init_5 9 rfl rfl)
theorem dX1_init_127 : decode cX1_init 127 = .ok (.return_, 1) := dk_177 (dk_at dksX1_init_5 12 rfl rfl)
abbrev cX1_becomePlan : ByteArray := prog_36_method_3_code
def yX1_becomePlan : MethodName := ⟨RX1, "becomePlan", "(LColdBox$Winter;)V"⟩
def dkwX1_becomePlan_1 : List UInt8 := [42, 180, 0, 36, 3, 16, 8, 184, 0, 47, 177]
abbrev dktX1_becomePlan_1 : List UInt8 := dkwX1_becomePlan_1 ++ []
def dkwX1_becomePlan_0 : List UInt8 := [42, 43, 180, 0, 53, 181, 0, 53, 43, 180, 0, 31, 42, 180, 0, 31, 184, 0, 56, 43, 180, 0, 36, 3]
abbrev dktX1_becomePlan_0 : List UInt8 := dkwX1_becomePlan_0 ++ dktX1_becomePlan_1
theorem dksX1_becomePlan_0 : cX1_becomePlan.data.toList.drop 0 = dktX1_becomePlan_0 := by decide +kernel
theorem dksX1_becomePlan_1 : cX1_becomePlan.data.toList.drop 24 = dktX1_becomePlan_1 := dk_seg dksX1_becomePlan_0 24 rfl rfl
theorem dX1_becomePlan_0 : decode cX1_becomePlan 0 = .ok (.aload_n 0, 1) := dk_42 (dk_at dksX1_becomePlan_0 0 rfl rfl)
theorem dX1_becomePlan_1 : decode cX1_becomePlan 1 = .ok (.aload_n 1, 1) := dk_43 (dk_at dksX1_becomePlan_0 1 rfl rfl)
theorem dX1_becomePlan_2 : decode cX1_becomePlan 2 = .ok (.getfield 53, 3) := dk_180 0 53 (dk_at dksX1_becomePlan_0 2 rfl rfl)
theorem dX1_becomePlan_5 : decode cX1_becomePlan 5 = .ok (.putfield 53, 3) := dk_181 0 53 (dk_at dksX1_becomePlan_0 5 rfl rfl)
theorem dX1_becomePlan_8 : decode cX1_becomePlan 8 = .ok (.aload_n 1, 1) := dk_43 (dk_at dksX1_becomePlan_0 8 rfl rfl)
theorem dX1_becomePlan_9 : decode cX1_becomePlan 9 = .ok (.getfield 31, 3) := dk_180 0 31 (dk_at dksX1_becomePlan_0 9 rfl rfl)
theorem dX1_becomePlan_12 : decode cX1_becomePlan 12 = .ok (.aload_n 0, 1) := dk_42 (dk_at dksX1_becomePlan_0 12 rfl rfl)
theorem dX1_becomePlan_13 : decode cX1_becomePlan 13 = .ok (.getfield 31, 3) := dk_180 0 31 (dk_at dksX1_becomePlan_0 13 rfl rfl)
theorem dX1_becomePlan_16 : decode cX1_becomePlan 16 = .ok (.invokestatic 56, 3) := dk_184 0 56 (dk_at dksX1_becomePlan_0 16 rfl rfl)
theorem dX1_becomePlan_19 : decode cX1_becomePlan 19 = .ok (.aload_n 1, 1) := dk_43 (dk_at dksX1_becomePlan_0 19 rfl rfl)
theorem dX1_becomePlan_20 : decode cX1_becomePlan 20 = .ok (.getfield 36, 3) := dk_180 0 36 (dk_at dksX1_becomePlan_0 20 rfl rfl)
theorem dX1_becomePlan_23 : decode cX1_becomePlan 23 = .ok (.iconst 0, 1) := dk_3 (dk_at dksX1_becomePlan_0 23 rfl rfl)
theorem dX1_becomePlan_24 : decode cX1_becomePlan 24 = .ok (.aload_n 0, 1) := dk_42 (dk_at dksX1_becomePlan_1 0 rfl rfl)
theorem dX1_becomePlan_25 : decode cX1_becomePlan 25 = .ok (.getfield 36, 3) := dk_180 0 36 (dk_at dksX1_becomePlan_1 1 rfl rfl)
theorem dX1_becomePlan_28 : decode cX1_becomePlan 28 = .ok (.iconst 0, 1) := dk_3 (dk_at dksX1_becomePlan_1 4 rfl rfl)
theorem dX1_becomePlan_29 : decode cX1_becomePlan 29 = .ok (.bipush 8, 2) := dk_16 8 (dk_at dksX1_becomePlan_1 5 rfl rfl)
theorem dX1_becomePlan_31 : decode cX1_becomePlan 31 = .ok (.invokestatic 47, 3) := dk_184 0 47 (dk_at dksX1_becomePlan_1 7 rfl rfl)
theorem dX1_becomePlan_34 : decode cX1_becomePlan 34 = .ok (.return_, 1) := dk_177 (dk_at dksX1_becomePlan_1 10 rfl rfl)
abbrev cX1_copy : ByteArray := prog_36_method_2_code
def yX1_copy : MethodName := ⟨RX1, "copy", "([I[I)V"⟩
def dkwX1_copy_0 : List UInt8 := [42, 3, 43, 3, 43, 190, 184, 0, 47, 177]
abbrev dktX1_copy_0 : List UInt8 := dkwX1_copy_0 ++ []
theorem dksX1_copy_0 : cX1_copy.data.toList.drop 0 = dktX1_copy_0 := by decide +kernel
theorem dX1_copy_0 : decode cX1_copy 0 = .ok (.aload_n 0, 1) := dk_42 (dk_at dksX1_copy_0 0 rfl rfl)
theorem dX1_copy_1 : decode cX1_copy 1 = .ok (.iconst 0, 1) := dk_3 (dk_at dksX1_copy_0 1 rfl rfl)
theorem dX1_copy_2 : decode cX1_copy 2 = .ok (.aload_n 1, 1) := dk_43 (dk_at dksX1_copy_0 2 rfl rfl)
theorem dX1_copy_3 : decode cX1_copy 3 = .ok (.iconst 0, 1) := dk_3 (dk_at dksX1_copy_0 3 rfl rfl)
theorem dX1_copy_4 : decode cX1_copy 4 = .ok (.aload_n 1, 1) := dk_43 (dk_at dksX1_copy_0 4 rfl rfl)
theorem dX1_copy_5 : decode cX1_copy 5 = .ok (.arraylength, 1) := dk_190 (dk_at dksX1_copy_0 5 rfl rfl)
theorem dX1_copy_6 : decode cX1_copy 6 = .ok (.invokestatic 47, 3) := dk_184 0 47 (dk_at dksX1_copy_0 6 rfl rfl)
theorem dX1_copy_9 : decode cX1_copy 9 = .ok (.return_, 1) := dk_177 (dk_at dksX1_copy_0 9 rfl rfl)
abbrev cX1_warmth : ByteArray := prog_36_method_5_code
def yX1_warmth : MethodName := ⟨RX1, "warmth", "(II)I"⟩
def dkwX1_warmth_3 : List UInt8 := [172, 42, 180, 0, 15, 27, 46, 7, 108, 16, 6, 96, 172]
abbrev dktX1_warmth_3 : List UInt8 := dkwX1_warmth_3 ++ []
def dkwX1_warmth_2 : List UInt8 := [42, 180, 0, 15, 27, 46, 172, 42, 180, 0, 15, 27, 46, 5, 108, 7, 96, 172, 42, 180, 0, 22, 3, 46]
abbrev dktX1_warmth_2 : List UInt8 := dkwX1_warmth_2 ++ dktX1_warmth_3
def dkwX1_warmth_1 : List UInt8 := [170, 0, 0, 0, 0, 0, 52, 0, 0, 0, 0, 0, 0, 0, 2, 0, 0, 0, 27, 0, 0, 0, 34, 0, 0, 0, 45]
abbrev dktX1_warmth_1 : List UInt8 := dkwX1_warmth_1 ++ dktX1_warmth_2
def dkwX1_warmth_0 : List UInt8 := [28]
abbrev dktX1_warmth_0 : List UInt8 := dkwX1_warmth_0 ++ dktX1_warmth_1
theorem dksX1_warmth_0 : cX1_warmth.data.toList.drop 0 = dktX1_warmth_0 := by decide +kernel
theorem dksX1_warmth_1 : cX1_warmth.data.toList.drop 1 = dktX1_warmth_1 := dk_seg dksX1_warmth_0 1 rfl rfl
theorem dksX1_warmth_2 : cX1_warmth.data.toList.drop 28 = dktX1_warmth_2 := dk_seg dksX1_warmth_1 27 rfl rfl
theorem dksX1_warmth_3 : cX1_warmth.data.toList.drop 52 = dktX1_warmth_3 := dk_seg dksX1_warmth_2 24 rfl rfl
theorem dX1_warmth_0 : decode cX1_warmth 0 = .ok (.iload_n 2, 1) := dk_28 (dk_at dksX1_warmth_0 0 rfl rfl)
theorem dX1_warmth_1 : decode cX1_warmth 1 = .ok (.tableswitch 52 0 2 #[27, 34, 45], 27) := by decide +kernel
theorem dX1_warmth_28 : decode cX1_warmth 28 = .ok (.aload_n 0, 1) := dk_42 (dk_at dksX1_warmth_2 0 rfl rfl)
theorem dX1_warmth_29 : decode cX1_warmth 29 = .ok (.getfield 15, 3) := dk_180 0 15 (dk_at dksX1_warmth_2 1 rfl rfl)
theorem dX1_warmth_32 : decode cX1_warmth 32 = .ok (.iload_n 1, 1) := dk_27 (dk_at dksX1_warmth_2 4 rfl rfl)
theorem dX1_warmth_33 : decode cX1_warmth 33 = .ok (.iaload, 1) := dk_46 (dk_at dksX1_warmth_2 5 rfl rfl)
theorem dX1_warmth_34 : decode cX1_warmth 34 = .ok (.ireturn, 1) := dk_172 (dk_at dksX1_warmth_2 6 rfl rfl)
theorem dX1_warmth_35 : decode cX1_warmth 35 = .ok (.aload_n 0, 1) := dk_42 (dk_at dksX1_warmth_2 7 rfl rfl)
theorem dX1_warmth_36 : decode cX1_warmth 36 = .ok (.getfield 15, 3) := dk_180 0 15 (dk_at dksX1_warmth_2 8 rfl rfl)
theorem dX1_warmth_39 : decode cX1_warmth 39 = .ok (.iload_n 1, 1) := dk_27 (dk_at dksX1_warmth_2 11 rfl rfl)
theorem dX1_warmth_40 : decode cX1_warmth 40 = .ok (.iaload, 1) := dk_46 (dk_at dksX1_warmth_2 12 rfl rfl)
theorem dX1_warmth_41 : decode cX1_warmth 41 = .ok (.iconst 2, 1) := dk_5 (dk_at dksX1_warmth_2 13 rfl rfl)
theorem dX1_warmth_42 : decode cX1_warmth 42 = .ok (.idiv, 1) := dk_108 (dk_at dksX1_warmth_2 14 rfl rfl)
theorem dX1_warmth_43 : decode cX1_warmth 43 = .ok (.iconst 4, 1) := dk_7 (dk_at dksX1_warmth_2 15 rfl rfl)
theorem dX1_warmth_44 : decode cX1_warmth 44 = .ok (.iadd, 1) := dk_96 (dk_at dksX1_warmth_2 16 rfl rfl)
theorem dX1_warmth_45 : decode cX1_warmth 45 = .ok (.ireturn, 1) := dk_172 (dk_at dksX1_warmth_2 17 rfl rfl)
theorem dX1_warmth_46 : decode cX1_warmth 46 = .ok (.aload_n 0, 1) := dk_42 (dk_at dksX1_warmth_2 18 rfl rfl)
theorem dX1_warmth_47 : decode cX1_warmth 47 = .ok (.getfield 22, 3) := dk_180 0 22 (dk_at dksX1_warmth_2 19 rfl rfl)
theorem dX1_warmth_50 : decode cX1_warmth 50 = .ok (.iconst 0, 1) := dk_3 (dk_at dksX1_warmth_2 22 rfl rfl)
theorem dX1_warmth_51 : decode cX1_warmth 51 = .ok (.iaload, 1) := dk_46 (dk_at dksX1_warmth_2 23 rfl rfl)
theorem dX1_warmth_52 : decode cX1_warmth 52 = .ok (.ireturn, 1) := dk_172 (dk_at dksX1_warmth_3 0 rfl rfl)
theorem dX1_warmth_53 : decode cX1_warmth 53 = .ok (.aload_n 0, 1) := dk_42 (dk_at dksX1_warmth_3 1 rfl rfl)
theorem dX1_warmth_54 : decode cX1_warmth 54 = .ok (.getfield 15, 3) := dk_180 0 15 (dk_at dksX1_warmth_3 2 rfl rfl)
theorem dX1_warmth_57 : decode cX1_warmth 57 = .ok (.iload_n 1, 1) := dk_27 (dk_at dksX1_warmth_3 5 rfl rfl)
theorem dX1_warmth_58 : decode cX1_warmth 58 = .ok (.iaload, 1) := dk_46 (dk_at dksX1_warmth_3 6 rfl rfl)
theorem dX1_warmth_59 : decode cX1_warmth 59 = .ok (.iconst 4, 1) := dk_7 (dk_at dksX1_warmth_3 7 rfl rfl)
theorem dX1_warmth_60 : decode cX1_warmth 60 = .ok (.idiv, 1) := dk_108 (dk_at dksX1_warmth_3 8 rfl rfl)
theorem dX1_warmth_61 : decode cX1_warmth 61 = .ok (.bipush 6, 2) := dk_16 6 (dk_at dksX1_warmth_3 9 rfl rfl)
theorem dX1_warmth_63 : decode cX1_warmth 63 = .ok (.iadd, 1) := dk_96 (dk_at dksX1_warmth_3 11 rfl rfl)
theorem dX1_warmth_64 : decode cX1_warmth 64 = .ok (.ireturn, 1) := dk_172 (dk_at dksX1_warmth_3 12 rfl rfl)
abbrev cX1_kindOf : ByteArray := prog_36_method_7_code
def yX1_kindOf : MethodName := ⟨RX1, "kindOf", "(II)I"⟩
def dkwX1_kindOf_3 : List UInt8 := [172]
abbrev dktX1_kindOf_3 : List UInt8 := dkwX1_kindOf_3 ++ []
def dkwX1_kindOf_2 : List UInt8 := [180, 0, 19, 27, 46, 6, 162, 0, 7, 8, 167, 0, 14, 29, 16, 6, 162, 0, 7, 4, 167, 0, 4, 3]
abbrev dktX1_kindOf_2 : List UInt8 := dkwX1_kindOf_2 ++ dktX1_kindOf_3
def dkwX1_kindOf_1 : List UInt8 := [7, 46, 161, 0, 5, 6, 172, 29, 42, 180, 0, 22, 6, 46, 161, 0, 7, 5, 167, 0, 28, 42]
abbrev dktX1_kindOf_1 : List UInt8 := dkwX1_kindOf_1 ++ dktX1_kindOf_2
def dkwX1_kindOf_0 : List UInt8 := [42, 27, 28, 182, 0, 71, 62, 29, 42, 180, 0, 22, 5, 46, 162, 0, 5, 7, 172, 29, 42, 180, 0, 22]
abbrev dktX1_kindOf_0 : List UInt8 := dkwX1_kindOf_0 ++ dktX1_kindOf_1
theorem dksX1_kindOf_0 : cX1_kindOf.data.toList.drop 0 = dktX1_kindOf_0 := by decide +kernel
theorem dksX1_kindOf_1 : cX1_kindOf.data.toList.drop 24 = dktX1_kindOf_1 := dk_seg dksX1_kindOf_0 24 rfl rfl
theorem dksX1_kindOf_2 : cX1_kindOf.data.toList.drop 46 = dktX1_kindOf_2 := dk_seg dksX1_kindOf_1 22 rfl rfl
theorem dksX1_kindOf_3 : cX1_kindOf.data.toList.drop 70 = dktX1_kindOf_3 := dk_seg dksX1_kindOf_2 24 rfl rfl
theorem dX1_kindOf_0 : decode cX1_kindOf 0 = .ok (.aload_n 0, 1) := dk_42 (dk_at dksX1_kindOf_0 0 rfl rfl)
theorem dX1_kindOf_1 : decode cX1_kindOf 1 = .ok (.iload_n 1, 1) := dk_27 (dk_at dksX1_kindOf_0 1 rfl rfl)
theorem dX1_kindOf_2 : decode cX1_kindOf 2 = .ok (.iload_n 2, 1) := dk_28 (dk_at dksX1_kindOf_0 2 rfl rfl)
theorem dX1_kindOf_3 : decode cX1_kindOf 3 = .ok (.invokevirtual 71, 3) := dk_182 0 71 (dk_at dksX1_kindOf_0 3 rfl rfl)
theorem dX1_kindOf_6 : decode cX1_kindOf 6 = .ok (.istore_n 3, 1) := dk_62 (dk_at dksX1_kindOf_0 6 rfl rfl)
theorem dX1_kindOf_7 : decode cX1_kindOf 7 = .ok (.iload_n 3, 1) := dk_29 (dk_at dksX1_kindOf_0 7 rfl rfl)
theorem dX1_kindOf_8 : decode cX1_kindOf 8 = .ok (.aload_n 0, 1) := dk_42 (dk_at dksX1_kindOf_0 8 rfl rfl)
theorem dX1_kindOf_9 : decode cX1_kindOf 9 = .ok (.getfield 22, 3) := dk_180 0 22 (dk_at dksX1_kindOf_0 9 rfl rfl)
theorem dX1_kindOf_12 : decode cX1_kindOf 12 = .ok (.iconst 2, 1) := dk_5 (dk_at dksX1_kindOf_0 12 rfl rfl)
theorem dX1_kindOf_13 : decode cX1_kindOf 13 = .ok (.iaload, 1) := dk_46 (dk_at dksX1_kindOf_0 13 rfl rfl)
theorem dX1_kindOf_14 : decode cX1_kindOf 14 = .ok (.if_icmp .ge 5, 3) := dk_162 0 5 (dk_at dksX1_kindOf_0 14 rfl rfl)
theorem dX1_kindOf_17 : decode cX1_kindOf 17 = .ok (.iconst 4, 1) := dk_7 (dk_at dksX1_kindOf_0 17 rfl rfl)
theorem dX1_kindOf_18 : decode cX1_kindOf 18 = .ok (.ireturn, 1) := dk_172 (dk_at dksX1_kindOf_0 18 rfl rfl)
theorem dX1_kindOf_19 : decode cX1_kindOf 19 = .ok (.iload_n 3, 1) := dk_29 (dk_at dksX1_kindOf_0 19 rfl rfl)
theorem dX1_kindOf_20 : decode cX1_kindOf 20 = .ok (.aload_n 0, 1) := dk_42 (dk_at dksX1_kindOf_0 20 rfl rfl)
theorem dX1_kindOf_21 : decode cX1_kindOf 21 = .ok (.getfield 22, 3) := dk_180 0 22 (dk_at dksX1_kindOf_0 21 rfl rfl)
theorem dX1_kindOf_24 : decode cX1_kindOf 24 = .ok (.iconst 4, 1) := dk_7 (dk_at dksX1_kindOf_1 0 rfl rfl)
theorem dX1_kindOf_25 : decode cX1_kindOf 25 = .ok (.iaload, 1) := dk_46 (dk_at dksX1_kindOf_1 1 rfl rfl)
theorem dX1_kindOf_26 : decode cX1_kindOf 26 = .ok (.if_icmp .lt 5, 3) := dk_161 0 5 (dk_at dksX1_kindOf_1 2 rfl rfl)
theorem dX1_kindOf_29 : decode cX1_kindOf 29 = .ok (.iconst 3, 1) := dk_6 (dk_at dksX1_kindOf_1 5 rfl rfl)
theorem dX1_kindOf_30 : decode cX1_kindOf 30 = .ok (.ireturn, 1) := dk_172 (dk_at dksX1_kindOf_1 6 rfl rfl)
theorem dX1_kindOf_31 : decode cX1_kindOf 31 = .ok (.iload_n 3, 1) := dk_29 (dk_at dksX1_kindOf_1 7 rfl rfl)
theorem dX1_kindOf_32 : decode cX1_kindOf 32 = .ok (.aload_n 0, 1) := dk_42 (dk_at dksX1_kindOf_1 8 rfl rfl)
theorem dX1_kindOf_33 : decode cX1_kindOf 33 = .ok (.getfield 22, 3) := dk_180 0 22 (dk_at dksX1_kindOf_1 9 rfl rfl)
theorem dX1_kindOf_36 : decode cX1_kindOf 36 = .ok (.iconst 3, 1) := dk_6 (dk_at dksX1_kindOf_1 12 rfl rfl)
theorem dX1_kindOf_37 : decode cX1_kindOf 37 = .ok (.iaload, 1) := dk_46 (dk_at dksX1_kindOf_1 13 rfl rfl)
theorem dX1_kindOf_38 : decode cX1_kindOf 38 = .ok (.if_icmp .lt 7, 3) := dk_161 0 7 (dk_at dksX1_kindOf_1 14 rfl rfl)
theorem dX1_kindOf_41 : decode cX1_kindOf 41 = .ok (.iconst 2, 1) := dk_5 (dk_at dksX1_kindOf_1 17 rfl rfl)
theorem dX1_kindOf_42 : decode cX1_kindOf 42 = .ok (.goto 28, 3) := dk_167 0 28 (dk_at dksX1_kindOf_1 18 rfl rfl)
theorem dX1_kindOf_45 : decode cX1_kindOf 45 = .ok (.aload_n 0, 1) := dk_42 (dk_at dksX1_kindOf_1 21 rfl rfl)
theorem dX1_kindOf_46 : decode cX1_kindOf 46 = .ok (.getfield 19, 3) := dk_180 0 19 (dk_at dksX1_kindOf_2 0 rfl rfl)
theorem dX1_kindOf_49 : decode cX1_kindOf 49 = .ok (.iload_n 1, 1) := dk_27 (dk_at dksX1_kindOf_2 3 rfl rfl)
theorem dX1_kindOf_50 : decode cX1_kindOf 50 = .ok (.iaload, 1) := dk_46 (dk_at dksX1_kindOf_2 4 rfl rfl)
theorem dX1_kindOf_51 : decode cX1_kindOf 51 = .ok (.iconst 3, 1) := dk_6 (dk_at dksX1_kindOf_2 5 rfl rfl)
theorem dX1_kindOf_52 : decode cX1_kindOf 52 = .ok (.if_icmp .ge 7, 3) := dk_162 0 7 (dk_at dksX1_kindOf_2 6 rfl rfl)
theorem dX1_kindOf_55 : decode cX1_kindOf 55 = .ok (.iconst 5, 1) := dk_8 (dk_at dksX1_kindOf_2 9 rfl rfl)
theorem dX1_kindOf_56 : decode cX1_kindOf 56 = .ok (.goto 14, 3) := dk_167 0 14 (dk_at dksX1_kindOf_2 10 rfl rfl)
theorem dX1_kindOf_59 : decode cX1_kindOf 59 = .ok (.iload_n 3, 1) := dk_29 (dk_at dksX1_kindOf_2 13 rfl rfl)
theorem dX1_kindOf_60 : decode cX1_kindOf 60 = .ok (.bipush 6, 2) := dk_16 6 (dk_at dksX1_kindOf_2 14 rfl rfl)
theorem dX1_kindOf_62 : decode cX1_kindOf 62 = .ok (.if_icmp .ge 7, 3) := dk_162 0 7 (dk_at dksX1_kindOf_2 16 rfl rfl)
theorem dX1_kindOf_65 : decode cX1_kindOf 65 = .ok (.iconst 1, 1) := dk_4 (dk_at dksX1_kindOf_2 19 rfl rfl)
theorem dX1_kindOf_66 : decode cX1_kindOf 66 = .ok (.goto 4, 3) := dk_167 0 4 (dk_at dksX1_kindOf_2 20 rfl rfl)
theorem dX1_kindOf_69 : decode cX1_kindOf 69 = .ok (.iconst 0, 1) := dk_3 (dk_at dksX1_kindOf_2 23 rfl rfl)
theorem dX1_kindOf_70 : decode cX1_kindOf 70 = .ok (.ireturn, 1) := dk_172 (dk_at dksX1_kindOf_3 0 rfl rfl)
abbrev cX1_rate : ByteArray := prog_36_method_6_code
def yX1_rate : MethodName := ⟨RX1, "rate", "(I)I"⟩
def dkwX1_rate_1 : List UInt8 := [108, 120, 16, 10, 27, 16, 10, 112, 96, 104, 16, 10, 108, 172]
abbrev dktX1_rate_1 : List UInt8 := dkwX1_rate_1 ++ []
def dkwX1_rate_0 : List UInt8 := [27, 156, 0, 14, 42, 180, 0, 22, 4, 46, 5, 108, 167, 0, 25, 42, 180, 0, 22, 4, 46, 27, 16, 10]
abbrev dktX1_rate_0 : List UInt8 := dkwX1_rate_0 ++ dktX1_rate_1
theorem dksX1_rate_0 : cX1_rate.data.toList.drop 0 = dktX1_rate_0 := by decide +kernel
theorem dksX1_rate_1 : cX1_rate.data.toList.drop 24 = dktX1_rate_1 := dk_seg dksX1_rate_0 24 rfl rfl
theorem dX1_rate_0 : decode cX1_rate 0 = .ok (.iload_n 1, 1) := dk_27 (dk_at dksX1_rate_0 0 rfl rfl)
theorem dX1_rate_1 : decode cX1_rate 1 = .ok (.ifCond .ge 14, 3) := dk_156 0 14 (dk_at dksX1_rate_0 1 rfl rfl)
theorem dX1_rate_4 : decode cX1_rate 4 = .ok (.aload_n 0, 1) := dk_42 (dk_at dksX1_rate_0 4 rfl rfl)
theorem dX1_rate_5 : decode cX1_rate 5 = .ok (.getfield 22, 3) := dk_180 0 22 (dk_at dksX1_rate_0 5 rfl rfl)
theorem dX1_rate_8 : decode cX1_rate 8 = .ok (.iconst 1, 1) := dk_4 (dk_at dksX1_rate_0 8 rfl rfl)
theorem dX1_rate_9 : decode cX1_rate 9 = .ok (.iaload, 1) := dk_46 (dk_at dksX1_rate_0 9 rfl rfl)
theorem dX1_rate_10 : decode cX1_rate 10 = .ok (.iconst 2, 1) := dk_5 (dk_at dksX1_rate_0 10 rfl rfl)
theorem dX1_rate_11 : decode cX1_rate 11 = .ok (.idiv, 1) := dk_108 (dk_at dksX1_rate_0 11 rfl rfl)
theorem dX1_rate_12 : decode cX1_rate 12 = .ok (.goto 25, 3) := dk_167 0 25 (dk_at dksX1_rate_0 12 rfl rfl)
theorem dX1_rate_15 : decode cX1_rate 15 = .ok (.aload_n 0, 1) := dk_42 (dk_at dksX1_rate_0 15 rfl rfl)
theorem dX1_rate_16 : decode cX1_rate 16 = .ok (.getfield 22, 3) := dk_180 0 22 (dk_at dksX1_rate_0 16 rfl rfl)
theorem dX1_rate_19 : decode cX1_rate 19 = .ok (.iconst 1, 1) := dk_4 (dk_at dksX1_rate_0 19 rfl rfl)
theorem dX1_rate_20 : decode cX1_rate 20 = .ok (.iaload, 1) := dk_46 (dk_at dksX1_rate_0 20 rfl rfl)
theorem dX1_rate_21 : decode cX1_rate 21 = .ok (.iload_n 1, 1) := dk_27 (dk_at dksX1_rate_0 21 rfl rfl)
theorem dX1_rate_22 : decode cX1_rate 22 = .ok (.bipush 10, 2) := dk_16 10 (dk_at dksX1_rate_0 22 rfl rfl)
theorem dX1_rate_24 : decode cX1_rate 24 = .ok (.idiv, 1) := dk_108 (dk_at dksX1_rate_1 0 rfl rfl)
theorem dX1_rate_25 : decode cX1_rate 25 = .ok (.ishl, 1) := dk_120 (dk_at dksX1_rate_1 1 rfl rfl)
theorem dX1_rate_26 : decode cX1_rate 26 = .ok (.bipush 10, 2) := dk_16 10 (dk_at dksX1_rate_1 2 rfl rfl)
theorem dX1_rate_28 : decode cX1_rate 28 = .ok (.iload_n 1, 1) := dk_27 (dk_at dksX1_rate_1 4 rfl rfl)
theorem dX1_rate_29 : decode cX1_rate 29 = .ok (.bipush 10, 2) := dk_16 10 (dk_at dksX1_rate_1 5 rfl rfl)
theorem dX1_rate_31 : decode cX1_rate 31 = .ok (.irem, 1) := dk_112 (dk_at dksX1_rate_1 7 rfl rfl)
theorem dX1_rate_32 : decode cX1_rate 32 = .ok (.iadd, 1) := dk_96 (dk_at dksX1_rate_1 8 rfl rfl)
theorem dX1_rate_33 : decode cX1_rate 33 = .ok (.imul, 1) := dk_104 (dk_at dksX1_rate_1 9 rfl rfl)
theorem dX1_rate_34 : decode cX1_rate 34 = .ok (.bipush 10, 2) := dk_16 10 (dk_at dksX1_rate_1 10 rfl rfl)
theorem dX1_rate_36 : decode cX1_rate 36 = .ok (.idiv, 1) := dk_108 (dk_at dksX1_rate_1 12 rfl rfl)
theorem dX1_rate_37 : decode cX1_rate 37 = .ok (.ireturn, 1) := dk_172 (dk_at dksX1_rate_1 13 rfl rfl)
abbrev cX1_become : ByteArray := prog_36_method_4_code
def yX1_become : MethodName := ⟨RX1, "become", "(LColdBox$Winter;)V"⟩
def dkwX1_become_3 : List UInt8 := [184, 0, 56, 42, 43, 182, 0, 63, 42, 180, 0, 43, 43, 180, 0, 43, 182, 0, 67, 177]
abbrev dktX1_become_3 : List UInt8 := dkwX1_become_3 ++ []
def dkwX1_become_2 : List UInt8 := [184, 0, 56, 43, 180, 0, 25, 42, 180, 0, 25, 184, 0, 56, 43, 180, 0, 28, 42, 180, 0, 28]
abbrev dktX1_become_2 : List UInt8 := dkwX1_become_2 ++ dktX1_become_3
def dkwX1_become_1 : List UInt8 := [184, 0, 56, 43, 180, 0, 19, 42, 180, 0, 19, 184, 0, 56, 43, 180, 0, 22, 42, 180, 0, 22]
abbrev dktX1_become_1 : List UInt8 := dkwX1_become_1 ++ dktX1_become_2
def dkwX1_become_0 : List UInt8 := [42, 43, 180, 0, 60, 181, 0, 60, 42, 43, 180, 0, 9, 181, 0, 9, 43, 180, 0, 15, 42, 180, 0, 15]
abbrev dktX1_become_0 : List UInt8 := dkwX1_become_0 ++ dktX1_become_1
theorem dksX1_become_0 : cX1_become.data.toList.drop 0 = dktX1_become_0 := by decide +kernel
theorem dksX1_become_1 : cX1_become.data.toList.drop 24 = dktX1_become_1 := dk_seg dksX1_become_0 24 rfl rfl
theorem dksX1_become_2 : cX1_become.data.toList.drop 46 = dktX1_become_2 := dk_seg dksX1_become_1 22 rfl rfl
theorem dksX1_become_3 : cX1_become.data.toList.drop 68 = dktX1_become_3 := dk_seg dksX1_become_2 22 rfl rfl
theorem dX1_become_0 : decode cX1_become 0 = .ok (.aload_n 0, 1) := dk_42 (dk_at dksX1_become_0 0 rfl rfl)
theorem dX1_become_1 : decode cX1_become 1 = .ok (.aload_n 1, 1) := dk_43 (dk_at dksX1_become_0 1 rfl rfl)
theorem dX1_become_2 : decode cX1_become 2 = .ok (.getfield 60, 3) := dk_180 0 60 (dk_at dksX1_become_0 2 rfl rfl)
theorem dX1_become_5 : decode cX1_become 5 = .ok (.putfield 60, 3) := dk_181 0 60 (dk_at dksX1_become_0 5 rfl rfl)
theorem dX1_become_8 : decode cX1_become 8 = .ok (.aload_n 0, 1) := dk_42 (dk_at dksX1_become_0 8 rfl rfl)
theorem dX1_become_9 : decode cX1_become 9 = .ok (.aload_n 1, 1) := dk_43 (dk_at dksX1_become_0 9 rfl rfl)
theorem dX1_become_10 : decode cX1_become 10 = .ok (.getfield 9, 3) := dk_180 0 9 (dk_at dksX1_become_0 10 rfl rfl)
theorem dX1_become_13 : decode cX1_become 13 = .ok (.putfield 9, 3) := dk_181 0 9 (dk_at dksX1_become_0 13 rfl rfl)
theorem dX1_become_16 : decode cX1_become 16 = .ok (.aload_n 1, 1) := dk_43 (dk_at dksX1_become_0 16 rfl rfl)
theorem dX1_become_17 : decode cX1_become 17 = .ok (.getfield 15, 3) := dk_180 0 15 (dk_at dksX1_become_0 17 rfl rfl)
theorem dX1_become_20 : decode cX1_become 20 = .ok (.aload_n 0, 1) := dk_42 (dk_at dksX1_become_0 20 rfl rfl)
theorem dX1_become_21 : decode cX1_become 21 = .ok (.getfield 15, 3) := dk_180 0 15 (dk_at dksX1_become_0 21 rfl rfl)
theorem dX1_become_24 : decode cX1_become 24 = .ok (.invokestatic 56, 3) := dk_184 0 56 (dk_at dksX1_become_1 0 rfl rfl)
theorem dX1_become_27 : decode cX1_become 27 = .ok (.aload_n 1, 1) := dk_43 (dk_at dksX1_become_1 3 rfl rfl)
theorem dX1_become_28 : decode cX1_become 28 = .ok (.getfield 19, 3) := dk_180 0 19 (dk_at dksX1_become_1 4 rfl rfl)
theorem dX1_become_31 : decode cX1_become 31 = .ok (.aload_n 0, 1) := dk_42 (dk_at dksX1_become_1 7 rfl rfl)
theorem dX1_become_32 : decode cX1_become 32 = .ok (.getfield 19, 3) := dk_180 0 19 (dk_at dksX1_become_1 8 rfl rfl)
theorem dX1_become_35 : decode cX1_become 35 = .ok (.invokestatic 56, 3) := dk_184 0 56 (dk_at dksX1_become_1 11 rfl rfl)
theorem dX1_become_38 : decode cX1_become 38 = .ok (.aload_n 1, 1) := dk_43 (dk_at dksX1_become_1 14 rfl rfl)
theorem dX1_become_39 : decode cX1_become 39 = .ok (.getfield 22, 3) := dk_180 0 22 (dk_at dksX1_become_1 15 rfl rfl)
theorem dX1_become_42 : decode cX1_become 42 = .ok (.aload_n 0, 1) := dk_42 (dk_at dksX1_become_1 18 rfl rfl)
theorem dX1_become_43 : decode cX1_become 43 = .ok (.getfield 22, 3) := dk_180 0 22 (dk_at dksX1_become_1 19 rfl rfl)
theorem dX1_become_46 : decode cX1_become 46 = .ok (.invokestatic 56, 3) := dk_184 0 56 (dk_at dksX1_become_2 0 rfl rfl)
theorem dX1_become_49 : decode cX1_become 49 = .ok (.aload_n 1, 1) := dk_43 (dk_at dksX1_become_2 3 rfl rfl)
theorem dX1_become_50 : decode cX1_become 50 = .ok (.getfield 25, 3) := dk_180 0 25 (dk_at dksX1_become_2 4 rfl rfl)
theorem dX1_become_53 : decode cX1_become 53 = .ok (.aload_n 0, 1) := dk_42 (dk_at dksX1_become_2 7 rfl rfl)
theorem dX1_become_54 : decode cX1_become 54 = .ok (.getfield 25, 3) := dk_180 0 25 (dk_at dksX1_become_2 8 rfl rfl)
theorem dX1_become_57 : decode cX1_become 57 = .ok (.invokestatic 56, 3) := dk_184 0 56 (dk_at dksX1_become_2 11 rfl rfl)
theorem dX1_become_60 : decode cX1_become 60 = .ok (.aload_n 1, 1) := dk_43 (dk_at dksX1_become_2 14 rfl rfl)
theorem dX1_become_61 : decode cX1_become 61 = .ok (.getfield 28, 3) := dk_180 0 28 (dk_at dksX1_become_2 15 rfl rfl)
theorem dX1_become_64 : decode cX1_become 64 = .ok (.aload_n 0, 1) := dk_42 (dk_at dksX1_become_2 18 rfl rfl)
theorem dX1_become_65 : decode cX1_become 65 = .ok (.getfield 28, 3) := dk_180 0 28 (dk_at dksX1_become_2 19 rfl rfl)
theorem dX1_become_68 : decode cX1_become 68 = .ok (.invokestatic 56, 3) := dk_184 0 56 (dk_at dksX1_become_3 0 rfl rfl)
theorem dX1_become_71 : decode cX1_become 71 = .ok (.aload_n 0, 1) := dk_42 (dk_at dksX1_become_3 3 rfl rfl)
theorem dX1_become_72 : decode cX1_become 72 = .ok (.aload_n 1, 1) := dk_43 (dk_at dksX1_become_3 4 rfl rfl)
theorem dX1_become_73 : decode cX1_become 73 = .ok (.invokevirtual 63, 3) := dk_182 0 63 (dk_at dksX1_become_3 5 rfl rfl)
theorem dX1_become_76 : decode cX1_become 76 = .ok (.aload_n 0, 1) := dk_42 (dk_at dksX1_become_3 8 rfl rfl)
theorem dX1_become_77 : decode cX1_become 77 = .ok (.getfield 43, 3) := dk_180 0 43 (dk_at dksX1_become_3 9 rfl rfl)
theorem dX1_become_80 : decode cX1_become 80 = .ok (.aload_n 1, 1) := dk_43 (dk_at dksX1_become_3 12 rfl rfl)
theorem dX1_become_81 : decode cX1_become 81 = .ok (.getfield 43, 3) := dk_180 0 43 (dk_at dksX1_become_3 13 rfl rfl)
theorem dX1_become_84 : decode cX1_become 84 = .ok (.invokevirtual 67, 3) := dk_182 0 67 (dk_at dksX1_become_3 16 rfl rfl)
theorem dX1_become_87 : decode cX1_become 87 = .ok (.return_, 1) := dk_177 (dk_at dksX1_become_3 19 rfl rfl)
theorem q84 : (Jvm.Cond.initialized "ColdBox$Winter") ∈ lw_all := lw_g (lw_at lw_m1 2 rfl) rfl
theorem q138 : (Jvm.Cond.instantiable "ColdBox$Winter" (11 : Nat)) ∈ lw_all := lw_g (lw_at lw_m1 56 rfl) rfl
theorem q140 : (Jvm.Cond.instanceMethod ({ cls := "ColdBox$Winter", name := "<init>", desc := "()V" } : Jvm.MethodName)) ∈ lw_all := lw_g (lw_at lw_m1 58 rfl) rfl
theorem q141 : (Jvm.Cond.code ({ cls := "ColdBox$Winter", name := "<init>", desc := "()V" } : Jvm.MethodName) prog_36_method_1_code (2 : Nat) (Option.none : Option Jvm.ClassFile.FieldType)) ∈ lw_all := lw_g (lw_at lw_m1 59 rfl) rfl
theorem q142 : (Jvm.Cond.methodLink "ColdBox$Winter" (3 : Nat) ({ cls := "java/lang/Object", name := "<init>", desc := "()V" } : Jvm.MethodName)) ∈ lw_all := lw_g (lw_at lw_m1 60 rfl) rfl
theorem q143 : (Jvm.Cond.classLink "ColdBox$Winter" (34 : Nat) "ColdBox$Cond") ∈ lw_all := lw_g (lw_at lw_m1 61 rfl) rfl
theorem q145 : (Jvm.Cond.classLink "ColdBox$Winter" (40 : Nat) "ColdBox$Body") ∈ lw_all := lw_g (lw_at lw_m1 63 rfl) rfl
theorem q147 : (Jvm.Cond.methodLinkNest "ColdBox$Winter" (42 : Nat) ({ cls := "ColdBox$Body", name := "<init>", desc := "()V" } : Jvm.MethodName) "ColdBox") ∈ lw_tbl := lw_at lw_m1 65 rfl
theorem q185 : (Jvm.Cond.fieldLink "ColdBox$Winter" (53 : Nat) "ColdBox$Winter" "clauses" "I") ∈ lw_all := lw_g (lw_at lw_m1 103 rfl) rfl
theorem q188 : (Jvm.Cond.fieldLink "ColdBox$Winter" (60 : Nat) "ColdBox$Winter" "many" "I") ∈ lw_all := lw_g (lw_at lw_m1 106 rfl) rfl
theorem q190 : (Jvm.Cond.fieldLink "ColdBox$Winter" (9 : Nat) "ColdBox$Winter" "z" "I") ∈ lw_all := lw_g (lw_at lw_m1 108 rfl) rfl
theorem q192 : (Jvm.Cond.fieldLink "ColdBox$Winter" (15 : Nat) "ColdBox$Winter" "out" "[I") ∈ lw_all := lw_g (lw_at lw_m1 110 rfl) rfl
theorem q194 : (Jvm.Cond.fieldLink "ColdBox$Winter" (19 : Nat) "ColdBox$Winter" "air" "[I") ∈ lw_all := lw_g (lw_at lw_m1 112 rfl) rfl
theorem q196 : (Jvm.Cond.fieldLink "ColdBox$Winter" (22 : Nat) "ColdBox$Winter" "rule" "[I") ∈ lw_all := lw_g (lw_at lw_m1 114 rfl) rfl
theorem q198 : (Jvm.Cond.fieldLink "ColdBox$Winter" (25 : Nat) "ColdBox$Winter" "length" "[I") ∈ lw_all := lw_g (lw_at lw_m1 116 rfl) rfl
theorem q200 : (Jvm.Cond.fieldLink "ColdBox$Winter" (28 : Nat) "ColdBox$Winter" "weight" "[I") ∈ lw_all := lw_g (lw_at lw_m1 118 rfl) rfl
theorem q202 : (Jvm.Cond.fieldLink "ColdBox$Winter" (31 : Nat) "ColdBox$Winter" "to" "[I") ∈ lw_all := lw_g (lw_at lw_m1 120 rfl) rfl
theorem q205 : (Jvm.Cond.fieldLink "ColdBox$Winter" (36 : Nat) "ColdBox$Winter" "conds" "[LColdBox$Cond;") ∈ lw_all := lw_g (lw_at lw_m1 123 rfl) rfl
theorem q208 : (Jvm.Cond.fieldLink "ColdBox$Winter" (43 : Nat) "ColdBox$Winter" "body" "LColdBox$Body;") ∈ lw_all := lw_g (lw_at lw_m1 126 rfl) rfl
theorem q210 : (Jvm.Cond.lays "ColdBox$Winter" "ColdBox$Winter" "clauses" "I") ∈ lw_all := lw_g (lw_at lw_m1 128 rfl) rfl
theorem q211 : (Jvm.Cond.soleField "ColdBox$Winter" "clauses") ∈ lw_all := lw_g (lw_at lw_m1 129 rfl) rfl
theorem q212 : (Jvm.Cond.lays "ColdBox$Winter" "ColdBox$Winter" "many" "I") ∈ lw_all := lw_g (lw_at lw_m1 130 rfl) rfl
theorem q213 : (Jvm.Cond.soleField "ColdBox$Winter" "many") ∈ lw_all := lw_g (lw_at lw_m1 131 rfl) rfl
theorem q214 : (Jvm.Cond.lays "ColdBox$Winter" "ColdBox$Winter" "z" "I") ∈ lw_all := lw_g (lw_at lw_m1 132 rfl) rfl
theorem q215 : (Jvm.Cond.soleField "ColdBox$Winter" "z") ∈ lw_all := lw_g (lw_at lw_m1 133 rfl) rfl
theorem q216 : (Jvm.Cond.laysFinal "ColdBox$Winter" "ColdBox$Winter" "out" "[I") ∈ lw_all := lw_g (lw_at lw_m1 134 rfl) rfl
theorem q217 : (Jvm.Cond.soleField "ColdBox$Winter" "out") ∈ lw_all := lw_g (lw_at lw_m1 135 rfl) rfl
theorem q218 : (Jvm.Cond.laysFinal "ColdBox$Winter" "ColdBox$Winter" "air" "[I") ∈ lw_all := lw_g (lw_at lw_m1 136 rfl) rfl
theorem q219 : (Jvm.Cond.soleField "ColdBox$Winter" "air") ∈ lw_all := lw_g (lw_at lw_m1 137 rfl) rfl
theorem q220 : (Jvm.Cond.laysFinal "ColdBox$Winter" "ColdBox$Winter" "rule" "[I") ∈ lw_all := lw_g (lw_at lw_m1 138 rfl) rfl
theorem q221 : (Jvm.Cond.soleField "ColdBox$Winter" "rule") ∈ lw_all := lw_g (lw_at lw_m1 139 rfl) rfl
theorem q222 : (Jvm.Cond.laysFinal "ColdBox$Winter" "ColdBox$Winter" "length" "[I") ∈ lw_all := lw_g (lw_at lw_m1 140 rfl) rfl
theorem q223 : (Jvm.Cond.soleField "ColdBox$Winter" "length") ∈ lw_all := lw_g (lw_at lw_m1 141 rfl) rfl
theorem q224 : (Jvm.Cond.laysFinal "ColdBox$Winter" "ColdBox$Winter" "weight" "[I") ∈ lw_all := lw_g (lw_at lw_m1 142 rfl) rfl
theorem q225 : (Jvm.Cond.soleField "ColdBox$Winter" "weight") ∈ lw_all := lw_g (lw_at lw_m1 143 rfl) rfl
theorem q226 : (Jvm.Cond.laysFinal "ColdBox$Winter" "ColdBox$Winter" "to" "[I") ∈ lw_all := lw_g (lw_at lw_m1 144 rfl) rfl
theorem q227 : (Jvm.Cond.soleField "ColdBox$Winter" "to") ∈ lw_all := lw_g (lw_at lw_m1 145 rfl) rfl
theorem q228 : (Jvm.Cond.laysFinal "ColdBox$Winter" "ColdBox$Winter" "conds" "[LColdBox$Cond;") ∈ lw_all := lw_g (lw_at lw_m1 146 rfl) rfl
theorem q229 : (Jvm.Cond.soleField "ColdBox$Winter" "conds") ∈ lw_all := lw_g (lw_at lw_m1 147 rfl) rfl
theorem q230 : (Jvm.Cond.laysFinal "ColdBox$Winter" "ColdBox$Winter" "body" "LColdBox$Body;") ∈ lw_all := lw_g (lw_at lw_m1 148 rfl) rfl
theorem q231 : (Jvm.Cond.soleField "ColdBox$Winter" "body") ∈ lw_all := lw_g (lw_at lw_m1 149 rfl) rfl
theorem q232 : (Jvm.Cond.superclass "ColdBox$Winter" "java/lang/Object") ∈ lw_all := lw_g (lw_at lw_m1 150 rfl) rfl
theorem q845 : (Jvm.Cond.instanceMethod ({ cls := "ColdBox$Winter", name := "becomePlan", desc := "(LColdBox$Winter;)V" } : Jvm.MethodName)) ∈ lw_all := lw_g (lw_at lw_m4 43 rfl) rfl
theorem q846 : (Jvm.Cond.selects "ColdBox$Winter" ({ cls := "ColdBox$Winter", name := "becomePlan", desc := "(LColdBox$Winter;)V" } : Jvm.MethodName) ({ cls := "ColdBox$Winter", name := "becomePlan", desc := "(LColdBox$Winter;)V" } : Jvm.MethodName)) ∈ lw_all := lw_g (lw_at lw_m4 44 rfl) rfl
theorem q847 : (Jvm.Cond.code ({ cls := "ColdBox$Winter", name := "becomePlan", desc := "(LColdBox$Winter;)V" } : Jvm.MethodName) prog_36_method_3_code (2 : Nat) (Option.none : Option Jvm.ClassFile.FieldType)) ∈ lw_all := lw_g (lw_at lw_m4 45 rfl) rfl
theorem q848 : (Jvm.Cond.methodLink "ColdBox$Winter" (56 : Nat) ({ cls := "ColdBox$Winter", name := "copy", desc := "([I[I)V" } : Jvm.MethodName)) ∈ lw_all := lw_g (lw_at lw_m4 46 rfl) rfl
theorem q849 : (Jvm.Cond.static ({ cls := "ColdBox$Winter", name := "copy", desc := "([I[I)V" } : Jvm.MethodName)) ∈ lw_all := lw_g (lw_at lw_m4 47 rfl) rfl
theorem q850 : (Jvm.Cond.code ({ cls := "ColdBox$Winter", name := "copy", desc := "([I[I)V" } : Jvm.MethodName) prog_36_method_2_code (2 : Nat) (Option.none : Option Jvm.ClassFile.FieldType)) ∈ lw_all := lw_g (lw_at lw_m4 48 rfl) rfl
theorem q851 : (Jvm.Cond.methodLink "ColdBox$Winter" (47 : Nat) ({ cls := "java/lang/System", name := "arraycopy", desc := "(Ljava/lang/Object;ILjava/lang/Object;II)V" } : Jvm.MethodName)) ∈ lw_all := lw_g (lw_at lw_m4 49 rfl) rfl
theorem q874 : (Jvm.Cond.instanceMethod ({ cls := "ColdBox$Winter", name := "warmth", desc := "(II)I" } : Jvm.MethodName)) ∈ lw_all := lw_g (lw_at lw_m4 72 rfl) rfl
theorem q875 : (Jvm.Cond.selects "ColdBox$Winter" ({ cls := "ColdBox$Winter", name := "warmth", desc := "(II)I" } : Jvm.MethodName) ({ cls := "ColdBox$Winter", name := "warmth", desc := "(II)I" } : Jvm.MethodName)) ∈ lw_all := lw_g (lw_at lw_m4 73 rfl) rfl
theorem q876 : (Jvm.Cond.code ({ cls := "ColdBox$Winter", name := "warmth", desc := "(II)I" } : Jvm.MethodName) prog_36_method_5_code (3 : Nat) (Option.some Jvm.ClassFile.FieldType.int)) ∈ lw_all := lw_g (lw_at lw_m4 74 rfl) rfl
theorem q878 : (Jvm.Cond.instanceMethod ({ cls := "ColdBox$Winter", name := "kindOf", desc := "(II)I" } : Jvm.MethodName)) ∈ lw_all := lw_g (lw_at lw_m4 76 rfl) rfl
theorem q879 : (Jvm.Cond.selects "ColdBox$Winter" ({ cls := "ColdBox$Winter", name := "kindOf", desc := "(II)I" } : Jvm.MethodName) ({ cls := "ColdBox$Winter", name := "kindOf", desc := "(II)I" } : Jvm.MethodName)) ∈ lw_all := lw_g (lw_at lw_m4 77 rfl) rfl
theorem q880 : (Jvm.Cond.code ({ cls := "ColdBox$Winter", name := "kindOf", desc := "(II)I" } : Jvm.MethodName) prog_36_method_7_code (4 : Nat) (Option.some Jvm.ClassFile.FieldType.int)) ∈ lw_all := lw_g (lw_at lw_m4 78 rfl) rfl
theorem q881 : (Jvm.Cond.methodLink "ColdBox$Winter" (71 : Nat) ({ cls := "ColdBox$Winter", name := "warmth", desc := "(II)I" } : Jvm.MethodName)) ∈ lw_all := lw_g (lw_at lw_m4 79 rfl) rfl
theorem q897 : (Jvm.Cond.instanceMethod ({ cls := "ColdBox$Winter", name := "rate", desc := "(I)I" } : Jvm.MethodName)) ∈ lw_all := lw_g (lw_at lw_m4 95 rfl) rfl
theorem q898 : (Jvm.Cond.selects "ColdBox$Winter" ({ cls := "ColdBox$Winter", name := "rate", desc := "(I)I" } : Jvm.MethodName) ({ cls := "ColdBox$Winter", name := "rate", desc := "(I)I" } : Jvm.MethodName)) ∈ lw_all := lw_g (lw_at lw_m4 96 rfl) rfl
theorem q899 : (Jvm.Cond.code ({ cls := "ColdBox$Winter", name := "rate", desc := "(I)I" } : Jvm.MethodName) prog_36_method_6_code (2 : Nat) (Option.some Jvm.ClassFile.FieldType.int)) ∈ lw_all := lw_g (lw_at lw_m4 97 rfl) rfl
theorem q1643 : (Jvm.Cond.instanceMethod ({ cls := "ColdBox$Winter", name := "become", desc := "(LColdBox$Winter;)V" } : Jvm.MethodName)) ∈ lw_all := lw_g (lw_at lw_m7 121 rfl) rfl
theorem q1644 : (Jvm.Cond.selects "ColdBox$Winter" ({ cls := "ColdBox$Winter", name := "become", desc := "(LColdBox$Winter;)V" } : Jvm.MethodName) ({ cls := "ColdBox$Winter", name := "become", desc := "(LColdBox$Winter;)V" } : Jvm.MethodName)) ∈ lw_all := lw_g (lw_at lw_m7 122 rfl) rfl
theorem q1645 : (Jvm.Cond.code ({ cls := "ColdBox$Winter", name := "become", desc := "(LColdBox$Winter;)V" } : Jvm.MethodName) prog_36_method_4_code (2 : Nat) (Option.none : Option Jvm.ClassFile.FieldType)) ∈ lw_all := lw_g (lw_at lw_m7 123 rfl) rfl
theorem q1646 : (Jvm.Cond.methodLink "ColdBox$Winter" (63 : Nat) ({ cls := "ColdBox$Winter", name := "becomePlan", desc := "(LColdBox$Winter;)V" } : Jvm.MethodName)) ∈ lw_all := lw_g (lw_at lw_m7 124 rfl) rfl
theorem q1647 : (Jvm.Cond.methodLink "ColdBox$Winter" (67 : Nat) ({ cls := "ColdBox$Body", name := "become", desc := "(LColdBox$Body;)V" } : Jvm.MethodName)) ∈ lw_all := lw_g (lw_at lw_m7 125 rfl) rfl
theorem in_X1 : ∀ w ∈ wsX10, w ∈ lw_all := lw_in wsX10 [210, 212, 214, 216, 218, 220, 222, 224, 226, 228, 230] (by decide +kernel) (by decide +kernel)

/-! ColdBox$Reader -/
set_option maxRecDepth 100000
def RX10 : String := "ColdBox$Reader"
def TX10 : u_T := fun k => match k with
  | 0 => ("ColdBox$Reader", "facts", "[Ljava/lang/String;", true)
  | 1 => ("ColdBox$Reader", "acts", "[Ljava/lang/String;", true)
  | 2 => ("ColdBox$Reader", "open", "I", false)
  | 3 => ("ColdBox$Reader", "fault", "LColdBox$Fault;", true)
  | 4 => ("ColdBox$Reader", "w", "LColdBox$Winter;", true)
  | 5 => ("ColdBox$Reader", "text", "[B", false)
  | 6 => ("ColdBox$Reader", "many", "I", false)
  | 7 => ("ColdBox$Reader", "from", "I", false)
  | _ => ("ColdBox$Reader", "to", "I", false)
def tyX10 : Nat → FieldType := fun k => match k with
  | 0 => .array (.object "java/lang/String")
  | 1 => .array (.object "java/lang/String")
  | 2 => .int
  | 3 => .object "ColdBox$Fault"
  | 4 => .object "ColdBox$Winter"
  | 5 => .array .byte
  | 6 => .int
  | 7 => .int
  | _ => .int
abbrev wsX100 : List Cond := u_ws RX10 TX10 9
theorem nmX10 : ∀ a, a < 9 → ∀ b, b < 9 → a ≠ b → (TX10 a).2.1 ≠ (TX10 b).2.1 := by decide +kernel
theorem tyX10_ok : ∀ k, k < 9 → parseFieldDescriptor (TX10 k).2.2.1 = some (tyX10 k) := by decide +kernel
abbrev cX10_init : ByteArray := prog_26_method_1_code
def yX10_init : MethodName := ⟨RX10, "<init>", "(LColdBox$Winter;)V"⟩
def dkwX10_init_3 : List UInt8 := [187, 0, 40, 89, 183, 0, 42, 181, 0, 43, 42, 43, 181, 0, 47, 177]
abbrev dktX10_init_3 : List UInt8 := dkwX10_init_3 ++ []
def dkwX10_init_2 : List UInt8 := [89, 3, 18, 29, 83, 89, 4, 18, 31, 83, 89, 5, 18, 33, 83, 89, 6, 18, 35, 83, 181, 0, 37, 42]
abbrev dktX10_init_2 : List UInt8 := dkwX10_init_2 ++ dktX10_init_3
def dkwX10_init_1 : List UInt8 := [83, 89, 6, 18, 17, 83, 89, 7, 18, 19, 83, 89, 8, 18, 21, 83, 181, 0, 23, 42, 7, 189, 0, 9]
abbrev dktX10_init_1 : List UInt8 := dkwX10_init_1 ++ dktX10_init_2
def dkwX10_init_0 : List UInt8 := [42, 183, 0, 3, 42, 16, 6, 189, 0, 9, 89, 3, 18, 11, 83, 89, 4, 18, 13, 83, 89, 5, 18, 15]
abbrev dktX10_init_0 : List UInt8 := dkwX10_init_0 ++ dktX10_init_1
theorem dksX10_init_0 : cX10_init.data.toList.drop 0 = dktX10_init_0 := by decide +kernel
theorem dksX10_init_1 : cX10_init.data.toList.drop 24 = dktX10_init_1 := dk_seg dksX10_init_0 24 rfl rfl
theorem dksX10_init_2 : cX10_init.data.toList.drop 48 = dktX10_init_2 := dk_seg dksX10_init_1 24 rfl rfl
theorem dksX10_init_3 : cX10_init.data.toList.drop 72 = dktX10_init_3 := dk_seg dksX10_init_2 24 rfl rfl
theorem dX10_init_0 : decode cX10_init 0 = .ok (.aload_n 0, 1) := dk_42 (dk_at dksX10_init_0 0 rfl rfl)
theorem dX10_init_1 : decode cX10_init 1 = .ok (.invokespecial 3, 3) := dk_183 0 3 (dk_at dksX10_init_0 1 rfl rfl)
theorem dX10_init_4 : decode cX10_init 4 = .ok (.aload_n 0, 1) := dk_42 (dk_at dksX10_init_0 4 rfl rfl)
theorem dX10_init_5 : decode cX10_init 5 = .ok (.bipush 6, 2) := dk_16 6 (dk_at dksX10_init_0 5 rfl rfl)
theorem dX10_init_7 : decode cX10_init 7 = .ok (.anewarray 9, 3) := dk_189 0 9 (dk_at dksX10_init_0 7 rfl rfl)
theorem dX10_init_10 : decode cX10_init 10 = .ok (.dup, 1) := dk_89 (dk_at dksX10_init_0 10 rfl rfl)
theorem dX10_init_11 : decode cX10_init 11 = .ok (.iconst 0, 1) := dk_3 (dk_at dksX10_init_0 11 rfl rfl)
theorem dX10_init_12 : decode cX10_init 12 = .ok (.ldc 11, 2) := dk_18 11 (dk_at dksX10_init_0 12 rfl rfl)
theorem dX10_init_14 : decode cX10_init 14 = .ok (.aastore, 1) := dk_83 (dk_at dksX10_init_0 14 rfl rfl)
theorem dX10_init_15 : decode cX10_init 15 = .ok (.dup, 1) := dk_89 (dk_at dksX10_init_0 15 rfl rfl)
theorem dX10_init_16 : decode cX10_init 16 = .ok (.iconst 1, 1) := dk_4 (dk_at dksX10_init_0 16 rfl rfl)
theorem dX10_init_17 : decode cX10_init 17 = .ok (.ldc 13, 2) := dk_18 13 (dk_at dksX10_init_0 17 rfl rfl)
theorem dX10_init_19 : decode cX10_init 19 = .ok (.aastore, 1) := dk_83 (dk_at dksX10_init_0 19 rfl rfl)
theorem dX10_init_20 : decode cX10_init 20 = .ok (.dup, 1) := dk_89 (dk_at dksX10_init_0 20 rfl rfl)
theorem dX10_init_21 : decode cX10_init 21 = .ok (.iconst 2, 1) := dk_5 (dk_at dksX10_init_0 21 rfl rfl)
theorem dX10_init_22 : decode cX10_init 22 = .ok (.ldc 15, 2) := dk_18 15 (dk_at dksX10_init_0 22 rfl rfl)
theorem dX10_init_24 : decode cX10_init 24 = .ok (.aastore, 1) := dk_83 (dk_at dksX10_init_1 0 rfl rfl)
theorem dX10_init_25 : decode cX10_init 25 = .ok (.dup, 1) := dk_89 (dk_at dksX10_init_1 1 rfl rfl)
theorem dX10_init_26 : decode cX10_init 26 = .ok (.iconst 3, 1) := dk_6 (dk_at dksX10_init_1 2 rfl rfl)
theorem dX10_init_27 : decode cX10_init 27 = .ok (.ldc 17, 2) := dk_18 17 (dk_at dksX10_init_1 3 rfl rfl)
theorem dX10_init_29 : decode cX10_init 29 = .ok (.aastore, 1) := dk_83 (dk_at dksX10_init_1 5 rfl rfl)
theorem dX10_init_30 : decode cX10_init 30 = .ok (.dup, 1) := dk_89 (dk_at dksX10_init_1 6 rfl rfl)
theorem dX10_init_31 : decode cX10_init 31 = .ok (.iconst 4, 1) := dk_7 (dk_at dksX10_init_1 7 rfl rfl)
theorem dX10_init_32 : decode cX10_init 32 = .ok (.ldc 19, 2) := dk_18 19 (dk_at dksX10_init_1 8 rfl rfl)
theorem dX10_init_34 : decode cX10_init 34 = .ok (.aastore, 1) := dk_83 (dk_at dksX10_init_1 10 rfl rfl)
theorem dX10_init_35 : decode cX10_init 35 = .ok (.dup, 1) := dk_89 (dk_at dksX10_init_1 11 rfl rfl)
theorem dX10_init_36 : decode cX10_init 36 = .ok (.iconst 5, 1) := dk_8 (dk_at dksX10_init_1 12 rfl rfl)
theorem dX10_init_37 : decode cX10_init 37 = .ok (.ldc 21, 2) := dk_18 21 (dk_at dksX10_init_1 13 rfl rfl)
theorem dX10_init_39 : decode cX10_init 39 = .ok (.aastore, 1) := dk_83 (dk_at dksX10_init_1 15 rfl rfl)
theorem dX10_init_40 : decode cX10_init 40 = .ok (.putfield 23, 3) := dk_181 0 23 (dk_at dksX10_init_1 16 rfl rfl)
theorem dX10_init_43 : decode cX10_init 43 = .ok (.aload_n 0, 1) := dk_42 (dk_at dksX10_init_1 19 rfl rfl)
theorem dX10_init_44 : decode cX10_init 44 = .ok (.iconst 4, 1) := dk_7 (dk_at dksX10_init_1 20 rfl rfl)
theorem dX10_init_45 : decode cX10_init 45 = .ok (.anewarray 9, 3) := dk_189 0 9 (dk_at dksX10_init_1 21 rfl rfl)
theorem dX10_init_48 : decode cX10_init 48 = .ok (.dup, 1) := dk_89 (dk_at dksX10_init_2 0 rfl rfl)
theorem dX10_init_49 : decode cX10_init 49 = .ok (.iconst 0, 1) := dk_3 (dk_at dksX10_init_2 1 rfl rfl)
theorem dX10_init_50 : decode cX10_init 50 = .ok (.ldc 29, 2) := dk_18 29 (dk_at dksX10_init_2 2 rfl rfl)
theorem dX10_init_52 : decode cX10_init 52 = .ok (.aastore, 1) := dk_83 (dk_at dksX10_init_2 4 rfl rfl)
theorem dX10_init_53 : decode cX10_init 53 = .ok (.dup, 1) := dk_89 (dk_at dksX10_init_2 5 rfl rfl)
theorem dX10_init_54 : decode cX10_init 54 = .ok (.iconst 1, 1) := dk_4 (dk_at dksX10_init_2 6 rfl rfl)
theorem dX10_init_55 : decode cX10_init 55 = .ok (.ldc 31, 2) := dk_18 31 (dk_at dksX10_init_2 7 rfl rfl)
theorem dX10_init_57 : decode cX10_init 57 = .ok (.aastore, 1) := dk_83 (dk_at dksX10_init_2 9 rfl rfl)
theorem dX10_init_58 : decode cX10_init 58 = .ok (.dup, 1) := dk_89 (dk_at dksX10_init_2 10 rfl rfl)
theorem dX10_init_59 : decode cX10_init 59 = .ok (.iconst 2, 1) := dk_5 (dk_at dksX10_init_2 11 rfl rfl)
theorem dX10_init_60 : decode cX10_init 60 = .ok (.ldc 33, 2) := dk_18 33 (dk_at dksX10_init_2 12 rfl rfl)
theorem dX10_init_62 : decode cX10_init 62 = .ok (.aastore, 1) := dk_83 (dk_at dksX10_init_2 14 rfl rfl)
theorem dX10_init_63 : decode cX10_init 63 = .ok (.dup, 1) := dk_89 (dk_at dksX10_init_2 15 rfl rfl)
theorem dX10_init_64 : decode cX10_init 64 = .ok (.iconst 3, 1) := dk_6 (dk_at dksX10_init_2 16 rfl rfl)
theorem dX10_init_65 : decode cX10_init 65 = .ok (.ldc 35, 2) := dk_18 35 (dk_at dksX10_init_2 17 rfl rfl)
theorem dX10_init_67 : decode cX10_init 67 = .ok (.aastore, 1) := dk_83 (dk_at dksX10_init_2 19 rfl rfl)
theorem dX10_init_68 : decode cX10_init 68 = .ok (.putfield 37, 3) := dk_181 0 37 (dk_at dksX10_init_2 20 rfl rfl)
theorem dX10_init_71 : decode cX10_init 71 = .ok (.aload_n 0, 1) := dk_42 (dk_at dksX10_init_2 23 rfl rfl)
theorem dX10_init_72 : decode cX10_init 72 = .ok (.new 40, 3) := dk_187 0 40 (dk_at dksX10_init_3 0 rfl rfl)
theorem dX10_init_75 : decode cX10_init 75 = .ok (.dup, 1) := dk_89 (dk_at dksX10_init_3 3 rfl rfl)
theorem dX10_init_76 : decode cX10_init 76 = .ok (.invokespecial 42, 3) := dk_183 0 42 (dk_at dksX10_init_3 4 rfl rfl)
theorem dX10_init_79 : decode cX10_init 79 = .ok (.putfield 43, 3) := dk_181 0 43 (dk_at dksX10_init_3 7 rfl rfl)
theorem dX10_init_82 : decode cX10_init 82 = .ok (.aload_n 0, 1) := dk_42 (dk_at dksX10_init_3 10 rfl rfl)
theorem dX10_init_83 : decode cX10_init 83 = .ok (.aload_n 1, 1) := dk_43 (dk_at dksX10_init_3 11 rfl rfl)
theorem dX10_init_84 : decode cX10_init 84 = .ok (.putfield 47, 3) := dk_181 0 47 (dk_at dksX10_init_3 12 rfl rfl)
theorem dX10_init_87 : decode cX10_init 87 = .ok (.return_, 1) := dk_177 (dk_at dksX10_init_3 15 rfl rfl)
abbrev cX10_read : ByteArray := prog_26_method_18_code
def yX10_read : MethodName := ⟨RX10, "read", "([BI)V"⟩
def dkwX10_read_1 : List UInt8 := [180, 0, 55, 162, 0, 10, 42, 182, 0, 182, 167, 255, 241, 177]
abbrev dktX10_read_1 : List UInt8 := dkwX10_read_1 ++ []
def dkwX10_read_0 : List UInt8 := [42, 43, 28, 182, 0, 178, 42, 180, 0, 47, 3, 181, 0, 162, 42, 3, 181, 0, 116, 42, 180, 0, 51, 42]
abbrev dktX10_read_0 : List UInt8 := dkwX10_read_0 ++ dktX10_read_1
theorem dksX10_read_0 : cX10_read.data.toList.drop 0 = dktX10_read_0 := by decide +kernel
theorem dksX10_read_1 : cX10_read.data.toList.drop 24 = dktX10_read_1 := dk_seg dksX10_read_0 24 rfl rfl
theorem dX10_read_0 : decode cX10_read 0 = .ok (.aload_n 0, 1) := dk_42 (dk_at dksX10_read_0 0 rfl rfl)
theorem dX10_read_1 : decode cX10_read 1 = .ok (.aload_n 1, 1) := dk_43 (dk_at dksX10_read_0 1 rfl rfl)
theorem dX10_read_2 : decode cX10_read 2 = .ok (.iload_n 2, 1) := dk_28 (dk_at dksX10_read_0 2 rfl rfl)
theorem dX10_read_3 : decode cX10_read 3 = .ok (.invokevirtual 178, 3) := dk_182 0 178 (dk_at dksX10_read_0 3 rfl rfl)
theorem dX10_read_6 : decode cX10_read 6 = .ok (.aload_n 0, 1) := dk_42 (dk_at dksX10_read_0 6 rfl rfl)
theorem dX10_read_7 : decode cX10_read 7 = .ok (.getfield 47, 3) := dk_180 0 47 (dk_at dksX10_read_0 7 rfl rfl)
theorem dX10_read_10 : decode cX10_read 10 = .ok (.iconst 0, 1) := dk_3 (dk_at dksX10_read_0 10 rfl rfl)
theorem dX10_read_11 : decode cX10_read 11 = .ok (.putfield 162, 3) := dk_181 0 162 (dk_at dksX10_read_0 11 rfl rfl)
theorem dX10_read_14 : decode cX10_read 14 = .ok (.aload_n 0, 1) := dk_42 (dk_at dksX10_read_0 14 rfl rfl)
theorem dX10_read_15 : decode cX10_read 15 = .ok (.iconst 0, 1) := dk_3 (dk_at dksX10_read_0 15 rfl rfl)
theorem dX10_read_16 : decode cX10_read 16 = .ok (.putfield 116, 3) := dk_181 0 116 (dk_at dksX10_read_0 16 rfl rfl)
theorem dX10_read_19 : decode cX10_read 19 = .ok (.aload_n 0, 1) := dk_42 (dk_at dksX10_read_0 19 rfl rfl)
theorem dX10_read_20 : decode cX10_read 20 = .ok (.getfield 51, 3) := dk_180 0 51 (dk_at dksX10_read_0 20 rfl rfl)
theorem dX10_read_23 : decode cX10_read 23 = .ok (.aload_n 0, 1) := dk_42 (dk_at dksX10_read_0 23 rfl rfl)
theorem dX10_read_24 : decode cX10_read 24 = .ok (.getfield 55, 3) := dk_180 0 55 (dk_at dksX10_read_1 0 rfl rfl)
theorem dX10_read_27 : decode cX10_read 27 = .ok (.if_icmp .ge 10, 3) := dk_162 0 10 (dk_at dksX10_read_1 3 rfl rfl)
theorem dX10_read_30 : decode cX10_read 30 = .ok (.aload_n 0, 1) := dk_42 (dk_at dksX10_read_1 6 rfl rfl)
theorem dX10_read_31 : decode cX10_read 31 = .ok (.invokevirtual 182, 3) := dk_182 0 182 (dk_at dksX10_read_1 7 rfl rfl)
theorem dX10_read_34 : decode cX10_read 34 = .ok (.goto (-15), 3) := dk_167 255 241 (dk_at dksX10_read_1 10 rfl rfl)
theorem dX10_read_37 : decode cX10_read 37 = .ok (.return_, 1) := dk_177 (dk_at dksX10_read_1 13 rfl rfl)
abbrev cX10_begins : ByteArray := prog_26_method_12_code
def yX10_begins : MethodName := ⟨RX10, "begins", "([BI)V"⟩
def dkwX10_begins_0 : List UInt8 := [42, 43, 181, 0, 58, 42, 28, 181, 0, 55, 42, 3, 181, 0, 62, 42, 182, 0, 91, 177]
abbrev dktX10_begins_0 : List UInt8 := dkwX10_begins_0 ++ []
theorem dksX10_begins_0 : cX10_begins.data.toList.drop 0 = dktX10_begins_0 := by decide +kernel
theorem dX10_begins_0 : decode cX10_begins 0 = .ok (.aload_n 0, 1) := dk_42 (dk_at dksX10_begins_0 0 rfl rfl)
theorem dX10_begins_1 : decode cX10_begins 1 = .ok (.aload_n 1, 1) := dk_43 (dk_at dksX10_begins_0 1 rfl rfl)
theorem dX10_begins_2 : decode cX10_begins 2 = .ok (.putfield 58, 3) := dk_181 0 58 (dk_at dksX10_begins_0 2 rfl rfl)
theorem dX10_begins_5 : decode cX10_begins 5 = .ok (.aload_n 0, 1) := dk_42 (dk_at dksX10_begins_0 5 rfl rfl)
theorem dX10_begins_6 : decode cX10_begins 6 = .ok (.iload_n 2, 1) := dk_28 (dk_at dksX10_begins_0 6 rfl rfl)
theorem dX10_begins_7 : decode cX10_begins 7 = .ok (.putfield 55, 3) := dk_181 0 55 (dk_at dksX10_begins_0 7 rfl rfl)
theorem dX10_begins_10 : decode cX10_begins 10 = .ok (.aload_n 0, 1) := dk_42 (dk_at dksX10_begins_0 10 rfl rfl)
theorem dX10_begins_11 : decode cX10_begins 11 = .ok (.iconst 0, 1) := dk_3 (dk_at dksX10_begins_0 11 rfl rfl)
theorem dX10_begins_12 : decode cX10_begins 12 = .ok (.putfield 62, 3) := dk_181 0 62 (dk_at dksX10_begins_0 12 rfl rfl)
theorem dX10_begins_15 : decode cX10_begins 15 = .ok (.aload_n 0, 1) := dk_42 (dk_at dksX10_begins_0 15 rfl rfl)
theorem dX10_begins_16 : decode cX10_begins 16 = .ok (.invokevirtual 91, 3) := dk_182 0 91 (dk_at dksX10_begins_0 16 rfl rfl)
theorem dX10_begins_19 : decode cX10_begins 19 = .ok (.return_, 1) := dk_177 (dk_at dksX10_begins_0 19 rfl rfl)
abbrev cX10_next : ByteArray := prog_26_method_5_code
def yX10_next : MethodName := ⟨RX10, "next", "()V"⟩
def dkwX10_next_6 : List UInt8 := [180, 0, 62, 4, 96, 181, 0, 62, 167, 255, 197, 177]
abbrev dktX10_next_6 : List UInt8 := dkwX10_next_6 ++ []
def dkwX10_next_5 : List UInt8 := [154, 0, 22, 28, 153, 0, 31, 42, 180, 0, 58, 42, 180, 0, 62, 51, 184, 0, 73, 153, 0, 16, 42, 89]
abbrev dktX10_next_5 : List UInt8 := dkwX10_next_5 ++ dktX10_next_6
def dkwX10_next_4 : List UInt8 := [180, 0, 55, 162, 0, 54, 27, 153, 0, 18, 42, 180, 0, 58, 42, 180, 0, 62, 51, 184, 0, 69]
abbrev dktX10_next_4 : List UInt8 := dkwX10_next_4 ++ dktX10_next_5
def dkwX10_next_3 : List UInt8 := [181, 0, 62, 42, 182, 0, 65, 184, 0, 69, 60, 42, 182, 0, 65, 184, 0, 73, 61, 42, 180, 0, 62, 42]
abbrev dktX10_next_3 : List UInt8 := dkwX10_next_3 ++ dktX10_next_4
def dkwX10_next_2 : List UInt8 := [180, 0, 51, 42, 180, 0, 55, 162, 0, 12, 42, 180, 0, 51, 4, 96, 167, 0, 7, 42, 180, 0, 51]
abbrev dktX10_next_2 : List UInt8 := dkwX10_next_2 ++ dktX10_next_3
def dkwX10_next_1 : List UInt8 := [180, 0, 51, 51, 16, 32, 160, 0, 16, 42, 89, 180, 0, 51, 4, 96, 181, 0, 51, 167, 255, 221, 42, 42]
abbrev dktX10_next_1 : List UInt8 := dkwX10_next_1 ++ dktX10_next_2
def dkwX10_next_0 : List UInt8 := [42, 42, 180, 0, 62, 181, 0, 51, 42, 180, 0, 51, 42, 180, 0, 55, 162, 0, 30, 42, 180, 0, 58, 42]
abbrev dktX10_next_0 : List UInt8 := dkwX10_next_0 ++ dktX10_next_1
theorem dksX10_next_0 : cX10_next.data.toList.drop 0 = dktX10_next_0 := by decide +kernel
theorem dksX10_next_1 : cX10_next.data.toList.drop 24 = dktX10_next_1 := dk_seg dksX10_next_0 24 rfl rfl
theorem dksX10_next_2 : cX10_next.data.toList.drop 48 = dktX10_next_2 := dk_seg dksX10_next_1 24 rfl rfl
theorem dksX10_next_3 : cX10_next.data.toList.drop 71 = dktX10_next_3 := dk_seg dksX10_next_2 23 rfl rfl
theorem dksX10_next_4 : cX10_next.data.toList.drop 95 = dktX10_next_4 := dk_seg dksX10_next_3 24 rfl rfl
theorem dksX10_next_5 : cX10_next.data.toList.drop 117 = dktX10_next_5 := dk_seg dksX10_next_4 22 rfl rfl
theorem dksX10_next_6 : cX10_next.data.toList.drop 141 = dktX10_next_6 := dk_seg dksX10_next_5 24 rfl rfl
theorem dX10_next_0 : decode cX10_next 0 = .ok (.aload_n 0, 1) := dk_42 (dk_at dksX10_next_0 0 rfl rfl)
theorem dX10_next_1 : decode cX10_next 1 = .ok (.aload_n 0, 1) := dk_42 (dk_at dksX10_next_0 1 rfl rfl)
theorem dX10_next_2 : decode cX10_next 2 = .ok (.getfield 62, 3) := dk_180 0 62 (dk_at dksX10_next_0 2 rfl rfl)
theorem dX10_next_5 : decode cX10_next 5 = .ok (.putfield 51, 3) := dk_181 0 51 (dk_at dksX10_next_0 5 rfl rfl)
theorem dX10_next_8 : decode cX10_next 8 = .ok (.aload_n 0, 1) := dk_42 (dk_at dksX10_next_0 8 rfl rfl)
theorem dX10_next_9 : decode cX10_next 9 = .ok (.getfield 51, 3) := dk_180 0 51 (dk_at dksX10_next_0 9 rfl rfl)
theorem dX10_next_12 : decode cX10_next 12 = .ok (.aload_n 0, 1) := dk_42 (dk_at dksX10_next_0 12 rfl rfl)
theorem dX10_next_13 : decode cX10_next 13 = .ok (.getfield 55, 3) := dk_180 0 55 (dk_at dksX10_next_0 13 rfl rfl)
theorem dX10_next_16 : decode cX10_next 16 = .ok (.if_icmp .ge 30, 3) := dk_162 0 30 (dk_at dksX10_next_0 16 rfl rfl)
theorem dX10_next_19 : decode cX10_next 19 = .ok (.aload_n 0, 1) := dk_42 (dk_at dksX10_next_0 19 rfl rfl)
theorem dX10_next_20 : decode cX10_next 20 = .ok (.getfield 58, 3) := dk_180 0 58 (dk_at dksX10_next_0 20 rfl rfl)
theorem dX10_next_23 : decode cX10_next 23 = .ok (.aload_n 0, 1) := dk_42 (dk_at dksX10_next_0 23 rfl rfl)
theorem dX10_next_24 : decode cX10_next 24 = .ok (.getfield 51, 3) := dk_180 0 51 (dk_at dksX10_next_1 0 rfl rfl)
theorem dX10_next_27 : decode cX10_next 27 = .ok (.baload, 1) := dk_51 (dk_at dksX10_next_1 3 rfl rfl)
theorem dX10_next_28 : decode cX10_next 28 = .ok (.bipush 32, 2) := dk_16 32 (dk_at dksX10_next_1 4 rfl rfl)
theorem dX10_next_30 : decode cX10_next 30 = .ok (.if_icmp .ne 16, 3) := dk_160 0 16 (dk_at dksX10_next_1 6 rfl rfl)
theorem dX10_next_33 : decode cX10_next 33 = .ok (.aload_n 0, 1) := dk_42 (dk_at dksX10_next_1 9 rfl rfl)
theorem dX10_next_34 : decode cX10_next 34 = .ok (.dup, 1) := dk_89 (dk_at dksX10_next_1 10 rfl rfl)
theorem dX10_next_35 : decode cX10_next 35 = .ok (.getfield 51, 3) := dk_180 0 51 (dk_at dksX10_next_1 11 rfl rfl)
theorem dX10_next_38 : decode cX10_next 38 = .ok (.iconst 1, 1) := dk_4 (dk_at dksX10_next_1 14 rfl rfl)
theorem dX10_next_39 : decode cX10_next 39 = .ok (.iadd, 1) := dk_96 (dk_at dksX10_next_1 15 rfl rfl)
theorem dX10_next_40 : decode cX10_next 40 = .ok (.putfield 51, 3) := dk_181 0 51 (dk_at dksX10_next_1 16 rfl rfl)
theorem dX10_next_43 : decode cX10_next 43 = .ok (.goto (-35), 3) := dk_167 255 221 (dk_at dksX10_next_1 19 rfl rfl)
theorem dX10_next_46 : decode cX10_next 46 = .ok (.aload_n 0, 1) := dk_42 (dk_at dksX10_next_1 22 rfl rfl)
theorem dX10_next_47 : decode cX10_next 47 = .ok (.aload_n 0, 1) := dk_42 (dk_at dksX10_next_1 23 rfl rfl)
theorem dX10_next_48 : decode cX10_next 48 = .ok (.getfield 51, 3) := dk_180 0 51 (dk_at dksX10_next_2 0 rfl rfl)
theorem dX10_next_51 : decode cX10_next 51 = .ok (.aload_n 0, 1) := dk_42 (dk_at dksX10_next_2 3 rfl rfl)
theorem dX10_next_52 : decode cX10_next 52 = .ok (.getfield 55, 3) := dk_180 0 55 (dk_at dksX10_next_2 4 rfl rfl)
theorem dX10_next_55 : decode cX10_next 55 = .ok (.if_icmp .ge 12, 3) := dk_162 0 12 (dk_at dksX10_next_2 7 rfl rfl)
theorem dX10_next_58 : decode cX10_next 58 = .ok (.aload_n 0, 1) := dk_42 (dk_at dksX10_next_2 10 rfl rfl)
theorem dX10_next_59 : decode cX10_next 59 = .ok (.getfield 51, 3) := dk_180 0 51 (dk_at dksX10_next_2 11 rfl rfl)
theorem dX10_next_62 : decode cX10_next 62 = .ok (.iconst 1, 1) := dk_4 (dk_at dksX10_next_2 14 rfl rfl)
theorem dX10_next_63 : decode cX10_next 63 = .ok (.iadd, 1) := dk_96 (dk_at dksX10_next_2 15 rfl rfl)
theorem dX10_next_64 : decode cX10_next 64 = .ok (.goto 7, 3) := dk_167 0 7 (dk_at dksX10_next_2 16 rfl rfl)
theorem dX10_next_67 : decode cX10_next 67 = .ok (.aload_n 0, 1) := dk_42 (dk_at dksX10_next_2 19 rfl rfl)
theorem dX10_next_68 : decode cX10_next 68 = .ok (.getfield 51, 3) := dk_180 0 51 (dk_at dksX10_next_2 20 rfl rfl)
theorem dX10_next_71 : decode cX10_next 71 = .ok (.putfield 62, 3) := dk_181 0 62 (dk_at dksX10_next_3 0 rfl rfl)
theorem dX10_next_74 : decode cX10_next 74 = .ok (.aload_n 0, 1) := dk_42 (dk_at dksX10_next_3 3 rfl rfl)
theorem dX10_next_75 : decode cX10_next 75 = .ok (.invokevirtual 65, 3) := dk_182 0 65 (dk_at dksX10_next_3 4 rfl rfl)
theorem dX10_next_78 : decode cX10_next 78 = .ok (.invokestatic 69, 3) := dk_184 0 69 (dk_at dksX10_next_3 7 rfl rfl)
theorem dX10_next_81 : decode cX10_next 81 = .ok (.istore_n 1, 1) := dk_60 (dk_at dksX10_next_3 10 rfl rfl)
theorem dX10_next_82 : decode cX10_next 82 = .ok (.aload_n 0, 1) := dk_42 (dk_at dksX10_next_3 11 rfl rfl)
theorem dX10_next_83 : decode cX10_next 83 = .ok (.invokevirtual 65, 3) := dk_182 0 65 (dk_at dksX10_next_3 12 rfl rfl)
theorem dX10_next_86 : decode cX10_next 86 = .ok (.invokestatic 73, 3) := dk_184 0 73 (dk_at dksX10_next_3 15 rfl rfl)
theorem dX10_next_89 : decode cX10_next 89 = .ok (.istore_n 2, 1) := dk_61 (dk_at dksX10_next_3 18 rfl rfl)
theorem dX10_next_90 : decode cX10_next 90 = .ok (.aload_n 0, 1) := dk_42 (dk_at dksX10_next_3 19 rfl rfl)
theorem dX10_next_91 : decode cX10_next 91 = .ok (.getfield 62, 3) := dk_180 0 62 (dk_at dksX10_next_3 20 rfl rfl)
theorem dX10_next_94 : decode cX10_next 94 = .ok (.aload_n 0, 1) := dk_42 (dk_at dksX10_next_3 23 rfl rfl)
theorem dX10_next_95 : decode cX10_next 95 = .ok (.getfield 55, 3) := dk_180 0 55 (dk_at dksX10_next_4 0 rfl rfl)
theorem dX10_next_98 : decode cX10_next 98 = .ok (.if_icmp .ge 54, 3) := dk_162 0 54 (dk_at dksX10_next_4 3 rfl rfl)
theorem dX10_next_101 : decode cX10_next 101 = .ok (.iload_n 1, 1) := dk_27 (dk_at dksX10_next_4 6 rfl rfl)
theorem dX10_next_102 : decode cX10_next 102 = .ok (.ifCond .eq 18, 3) := dk_153 0 18 (dk_at dksX10_next_4 7 rfl rfl)
theorem dX10_next_105 : decode cX10_next 105 = .ok (.aload_n 0, 1) := dk_42 (dk_at dksX10_next_4 10 rfl rfl)
theorem dX10_next_106 : decode cX10_next 106 = .ok (.getfield 58, 3) := dk_180 0 58 (dk_at dksX10_next_4 11 rfl rfl)
theorem dX10_next_109 : decode cX10_next 109 = .ok (.aload_n 0, 1) := dk_42 (dk_at dksX10_next_4 14 rfl rfl)
theorem dX10_next_110 : decode cX10_next 110 = .ok (.getfield 62, 3) := dk_180 0 62 (dk_at dksX10_next_4 15 rfl rfl)
theorem dX10_next_113 : decode cX10_next 113 = .ok (.baload, 1) := dk_51 (dk_at dksX10_next_4 18 rfl rfl)
theorem dX10_next_114 : decode cX10_next 114 = .ok (.invokestatic 69, 3) := dk_184 0 69 (dk_at dksX10_next_4 19 rfl rfl)
theorem dX10_next_117 : decode cX10_next 117 = .ok (.ifCond .ne 22, 3) := dk_154 0 22 (dk_at dksX10_next_5 0 rfl rfl)
theorem dX10_next_120 : decode cX10_next 120 = .ok (.iload_n 2, 1) := dk_28 (dk_at dksX10_next_5 3 rfl rfl)
theorem dX10_next_121 : decode cX10_next 121 = .ok (.ifCond .eq 31, 3) := dk_153 0 31 (dk_at dksX10_next_5 4 rfl rfl)
theorem dX10_next_124 : decode cX10_next 124 = .ok (.aload_n 0, 1) := dk_42 (dk_at dksX10_next_5 7 rfl rfl)
theorem dX10_next_125 : decode cX10_next 125 = .ok (.getfield 58, 3) := dk_180 0 58 (dk_at dksX10_next_5 8 rfl rfl)
theorem dX10_next_128 : decode cX10_next 128 = .ok (.aload_n 0, 1) := dk_42 (dk_at dksX10_next_5 11 rfl rfl)
theorem dX10_next_129 : decode cX10_next 129 = .ok (.getfield 62, 3) := dk_180 0 62 (dk_at dksX10_next_5 12 rfl rfl)
theorem dX10_next_132 : decode cX10_next 132 = .ok (.baload, 1) := dk_51 (dk_at dksX10_next_5 15 rfl rfl)
theorem dX10_next_133 : decode cX10_next 133 = .ok (.invokestatic 73, 3) := dk_184 0 73 (dk_at dksX10_next_5 16 rfl rfl)
theorem dX10_next_136 : decode cX10_next 136 = .ok (.ifCond .eq 16, 3) := dk_153 0 16 (dk_at dksX10_next_5 19 rfl rfl)
theorem dX10_next_139 : decode cX10_next 139 = .ok (.aload_n 0, 1) := dk_42 (dk_at dksX10_next_5 22 rfl rfl)
theorem dX10_next_140 : decode cX10_next 140 = .ok (.dup, 1) := dk_89 (dk_at dksX10_next_5 23 rfl rfl)
theorem dX10_next_141 : decode cX10_next 141 = .ok (.getfield 62, 3) := dk_180 0 62 (dk_at dksX10_next_6 0 rfl rfl)
theorem dX10_next_144 : decode cX10_next 144 = .ok (.iconst 1, 1) := dk_4 (dk_at dksX10_next_6 3 rfl rfl)
theorem dX10_next_145 : decode cX10_next 145 = .ok (.iadd, 1) := dk_96 (dk_at dksX10_next_6 4 rfl rfl)
theorem dX10_next_146 : decode cX10_next 146 = .ok (.putfield 62, 3) := dk_181 0 62 (dk_at dksX10_next_6 5 rfl rfl)
theorem dX10_next_149 : decode cX10_next 149 = .ok (.goto (-59), 3) := dk_167 255 197 (dk_at dksX10_next_6 8 rfl rfl)
theorem dX10_next_152 : decode cX10_next 152 = .ok (.return_, 1) := dk_177 (dk_at dksX10_next_6 11 rfl rfl)
abbrev cX10_here : ByteArray := prog_26_method_2_code
def yX10_here : MethodName := ⟨RX10, "here", "()I"⟩
def dkwX10_here_1 : List UInt8 := [172]
abbrev dktX10_here_1 : List UInt8 := dkwX10_here_1 ++ []
def dkwX10_here_0 : List UInt8 := [42, 180, 0, 51, 42, 180, 0, 55, 162, 0, 15, 42, 180, 0, 58, 42, 180, 0, 51, 51, 167, 0, 4, 2]
abbrev dktX10_here_0 : List UInt8 := dkwX10_here_0 ++ dktX10_here_1
theorem dksX10_here_0 : cX10_here.data.toList.drop 0 = dktX10_here_0 := by decide +kernel
theorem dksX10_here_1 : cX10_here.data.toList.drop 24 = dktX10_here_1 := dk_seg dksX10_here_0 24 rfl rfl
theorem dX10_here_0 : decode cX10_here 0 = .ok (.aload_n 0, 1) := dk_42 (dk_at dksX10_here_0 0 rfl rfl)
theorem dX10_here_1 : decode cX10_here 1 = .ok (.getfield 51, 3) := dk_180 0 51 (dk_at dksX10_here_0 1 rfl rfl)
theorem dX10_here_4 : decode cX10_here 4 = .ok (.aload_n 0, 1) := dk_42 (dk_at dksX10_here_0 4 rfl rfl)
theorem dX10_here_5 : decode cX10_here 5 = .ok (.getfield 55, 3) := dk_180 0 55 (dk_at dksX10_here_0 5 rfl rfl)
theorem dX10_here_8 : decode cX10_here 8 = .ok (.if_icmp .ge 15, 3) := dk_162 0 15 (dk_at dksX10_here_0 8 rfl rfl)
theorem dX10_here_11 : decode cX10_here 11 = .ok (.aload_n 0, 1) := dk_42 (dk_at dksX10_here_0 11 rfl rfl)
theorem dX10_here_12 : decode cX10_here 12 = .ok (.getfield 58, 3) := dk_180 0 58 (dk_at dksX10_here_0 12 rfl rfl)
theorem dX10_here_15 : decode cX10_here 15 = .ok (.aload_n 0, 1) := dk_42 (dk_at dksX10_here_0 15 rfl rfl)
theorem dX10_here_16 : decode cX10_here 16 = .ok (.getfield 51, 3) := dk_180 0 51 (dk_at dksX10_here_0 16 rfl rfl)
theorem dX10_here_19 : decode cX10_here 19 = .ok (.baload, 1) := dk_51 (dk_at dksX10_here_0 19 rfl rfl)
theorem dX10_here_20 : decode cX10_here 20 = .ok (.goto 4, 3) := dk_167 0 4 (dk_at dksX10_here_0 20 rfl rfl)
theorem dX10_here_23 : decode cX10_here 23 = .ok (.iconst (-1), 1) := dk_2 (dk_at dksX10_here_0 23 rfl rfl)
theorem dX10_here_24 : decode cX10_here 24 = .ok (.ireturn, 1) := dk_172 (dk_at dksX10_here_1 0 rfl rfl)
abbrev cX10_isLetter : ByteArray := prog_26_method_4_code
def yX10_isLetter : MethodName := ⟨RX10, "isLetter", "(I)Z"⟩
def dkwX10_isLetter_0 : List UInt8 := [26, 16, 97, 161, 0, 13, 26, 16, 122, 163, 0, 7, 4, 167, 0, 4, 3, 172]
abbrev dktX10_isLetter_0 : List UInt8 := dkwX10_isLetter_0 ++ []
theorem dksX10_isLetter_0 : cX10_isLetter.data.toList.drop 0 = dktX10_isLetter_0 := by decide +kernel
theorem dX10_isLetter_0 : decode cX10_isLetter 0 = .ok (.iload_n 0, 1) := dk_26 (dk_at dksX10_isLetter_0 0 rfl rfl)
theorem dX10_isLetter_1 : decode cX10_isLetter 1 = .ok (.bipush 97, 2) := dk_16 97 (dk_at dksX10_isLetter_0 1 rfl rfl)
theorem dX10_isLetter_3 : decode cX10_isLetter 3 = .ok (.if_icmp .lt 13, 3) := dk_161 0 13 (dk_at dksX10_isLetter_0 3 rfl rfl)
theorem dX10_isLetter_6 : decode cX10_isLetter 6 = .ok (.iload_n 0, 1) := dk_26 (dk_at dksX10_isLetter_0 6 rfl rfl)
theorem dX10_isLetter_7 : decode cX10_isLetter 7 = .ok (.bipush 122, 2) := dk_16 122 (dk_at dksX10_isLetter_0 7 rfl rfl)
theorem dX10_isLetter_9 : decode cX10_isLetter 9 = .ok (.if_icmp .gt 7, 3) := dk_163 0 7 (dk_at dksX10_isLetter_0 9 rfl rfl)
theorem dX10_isLetter_12 : decode cX10_isLetter 12 = .ok (.iconst 1, 1) := dk_4 (dk_at dksX10_isLetter_0 12 rfl rfl)
theorem dX10_isLetter_13 : decode cX10_isLetter 13 = .ok (.goto 4, 3) := dk_167 0 4 (dk_at dksX10_isLetter_0 13 rfl rfl)
theorem dX10_isLetter_16 : decode cX10_isLetter 16 = .ok (.iconst 0, 1) := dk_3 (dk_at dksX10_isLetter_0 16 rfl rfl)
theorem dX10_isLetter_17 : decode cX10_isLetter 17 = .ok (.ireturn, 1) := dk_172 (dk_at dksX10_isLetter_0 17 rfl rfl)
abbrev cX10_isDigit : ByteArray := prog_26_method_3_code
def yX10_isDigit : MethodName := ⟨RX10, "isDigit", "(I)Z"⟩
def dkwX10_isDigit_0 : List UInt8 := [26, 16, 48, 161, 0, 13, 26, 16, 57, 163, 0, 7, 4, 167, 0, 4, 3, 172]
abbrev dktX10_isDigit_0 : List UInt8 := dkwX10_isDigit_0 ++ []
theorem dksX10_isDigit_0 : cX10_isDigit.data.toList.drop 0 = dktX10_isDigit_0 := by decide +kernel
theorem dX10_isDigit_0 : decode cX10_isDigit 0 = .ok (.iload_n 0, 1) := dk_26 (dk_at dksX10_isDigit_0 0 rfl rfl)
theorem dX10_isDigit_1 : decode cX10_isDigit 1 = .ok (.bipush 48, 2) := dk_16 48 (dk_at dksX10_isDigit_0 1 rfl rfl)
theorem dX10_isDigit_3 : decode cX10_isDigit 3 = .ok (.if_icmp .lt 13, 3) := dk_161 0 13 (dk_at dksX10_isDigit_0 3 rfl rfl)
theorem dX10_isDigit_6 : decode cX10_isDigit 6 = .ok (.iload_n 0, 1) := dk_26 (dk_at dksX10_isDigit_0 6 rfl rfl)
theorem dX10_isDigit_7 : decode cX10_isDigit 7 = .ok (.bipush 57, 2) := dk_16 57 (dk_at dksX10_isDigit_0 7 rfl rfl)
theorem dX10_isDigit_9 : decode cX10_isDigit 9 = .ok (.if_icmp .gt 7, 3) := dk_163 0 7 (dk_at dksX10_isDigit_0 9 rfl rfl)
theorem dX10_isDigit_12 : decode cX10_isDigit 12 = .ok (.iconst 1, 1) := dk_4 (dk_at dksX10_isDigit_0 12 rfl rfl)
theorem dX10_isDigit_13 : decode cX10_isDigit 13 = .ok (.goto 4, 3) := dk_167 0 4 (dk_at dksX10_isDigit_0 13 rfl rfl)
theorem dX10_isDigit_16 : decode cX10_isDigit 16 = .ok (.iconst 0, 1) := dk_3 (dk_at dksX10_isDigit_0 16 rfl rfl)
theorem dX10_isDigit_17 : decode cX10_isDigit 17 = .ok (.ireturn, 1) := dk_172 (dk_at dksX10_isDigit_0 17 rfl rfl)
abbrev cX10_clause : ByteArray := prog_26_method_17_code
def yX10_clause : MethodName := ⟨RX10, "clause", "()V"⟩
def dkwX10_clause_5 : List UInt8 := [42, 18, 176, 182, 0, 125, 42, 180, 0, 47, 89, 180, 0, 162, 4, 96, 181, 0, 162, 177]
abbrev dktX10_clause_5 : List UInt8 := dkwX10_clause_5 ++ []
def dkwX10_clause_4 : List UInt8 := [167, 0, 4, 2, 79, 42, 180, 0, 47, 180, 0, 172, 42, 180, 0, 47, 180, 0, 162, 42, 182, 0, 119, 83]
abbrev dktX10_clause_4 : List UInt8 := dkwX10_clause_4 ++ dktX10_clause_5
def dkwX10_clause_3 : List UInt8 := [182, 0, 125, 42, 180, 0, 47, 180, 0, 169, 42, 180, 0, 47, 180, 0, 162, 27, 7, 162, 0, 7, 27]
abbrev dktX10_clause_3 : List UInt8 := dkwX10_clause_3 ++ dktX10_clause_4
def dkwX10_clause_2 : List UInt8 := [180, 0, 162, 16, 8, 162, 0, 7, 4, 167, 0, 4, 3, 182, 0, 94, 42, 182, 0, 91, 42, 18, 167]
abbrev dktX10_clause_2 : List UInt8 := dkwX10_clause_2 ++ dktX10_clause_3
def dkwX10_clause_1 : List UInt8 := [167, 255, 235, 42, 27, 7, 161, 0, 12, 42, 18, 160, 182, 0, 87, 153, 0, 19, 42, 180, 0, 47]
abbrev dktX10_clause_1 : List UInt8 := dkwX10_clause_1 ++ dktX10_clause_2
def dkwX10_clause_0 : List UInt8 := [3, 60, 27, 7, 162, 0, 22, 42, 42, 180, 0, 37, 27, 50, 182, 0, 87, 154, 0, 9, 132, 1, 1]
abbrev dktX10_clause_0 : List UInt8 := dkwX10_clause_0 ++ dktX10_clause_1
theorem dksX10_clause_0 : cX10_clause.data.toList.drop 0 = dktX10_clause_0 := by decide +kernel
theorem dksX10_clause_1 : cX10_clause.data.toList.drop 23 = dktX10_clause_1 := dk_seg dksX10_clause_0 23 rfl rfl
theorem dksX10_clause_2 : cX10_clause.data.toList.drop 45 = dktX10_clause_2 := dk_seg dksX10_clause_1 22 rfl rfl
theorem dksX10_clause_3 : cX10_clause.data.toList.drop 68 = dktX10_clause_3 := dk_seg dksX10_clause_2 23 rfl rfl
theorem dksX10_clause_4 : cX10_clause.data.toList.drop 91 = dktX10_clause_4 := dk_seg dksX10_clause_3 23 rfl rfl
theorem dksX10_clause_5 : cX10_clause.data.toList.drop 115 = dktX10_clause_5 := dk_seg dksX10_clause_4 24 rfl rfl
theorem dX10_clause_0 : decode cX10_clause 0 = .ok (.iconst 0, 1) := dk_3 (dk_at dksX10_clause_0 0 rfl rfl)
theorem dX10_clause_1 : decode cX10_clause 1 = .ok (.istore_n 1, 1) := dk_60 (dk_at dksX10_clause_0 1 rfl rfl)
theorem dX10_clause_2 : decode cX10_clause 2 = .ok (.iload_n 1, 1) := dk_27 (dk_at dksX10_clause_0 2 rfl rfl)
theorem dX10_clause_3 : decode cX10_clause 3 = .ok (.iconst 4, 1) := dk_7 (dk_at dksX10_clause_0 3 rfl rfl)
theorem dX10_clause_4 : decode cX10_clause 4 = .ok (.if_icmp .ge 22, 3) := dk_162 0 22 (dk_at dksX10_clause_0 4 rfl rfl)
theorem dX10_clause_7 : decode cX10_clause 7 = .ok (.aload_n 0, 1) := dk_42 (dk_at dksX10_clause_0 7 rfl rfl)
theorem dX10_clause_8 : decode cX10_clause 8 = .ok (.aload_n 0, 1) := dk_42 (dk_at dksX10_clause_0 8 rfl rfl)
theorem dX10_clause_9 : decode cX10_clause 9 = .ok (.getfield 37, 3) := dk_180 0 37 (dk_at dksX10_clause_0 9 rfl rfl)
theorem dX10_clause_12 : decode cX10_clause 12 = .ok (.iload_n 1, 1) := dk_27 (dk_at dksX10_clause_0 12 rfl rfl)
theorem dX10_clause_13 : decode cX10_clause 13 = .ok (.aaload, 1) := dk_50 (dk_at dksX10_clause_0 13 rfl rfl)
theorem dX10_clause_14 : decode cX10_clause 14 = .ok (.invokevirtual 87, 3) := dk_182 0 87 (dk_at dksX10_clause_0 14 rfl rfl)
theorem dX10_clause_17 : decode cX10_clause 17 = .ok (.ifCond .ne 9, 3) := dk_154 0 9 (dk_at dksX10_clause_0 17 rfl rfl)
theorem dX10_clause_20 : decode cX10_clause 20 = .ok (.iinc 1 1, 3) := dk_132 1 1 (dk_at dksX10_clause_0 20 rfl rfl)
theorem dX10_clause_23 : decode cX10_clause 23 = .ok (.goto (-21), 3) := dk_167 255 235 (dk_at dksX10_clause_1 0 rfl rfl)
theorem dX10_clause_26 : decode cX10_clause 26 = .ok (.aload_n 0, 1) := dk_42 (dk_at dksX10_clause_1 3 rfl rfl)
theorem dX10_clause_27 : decode cX10_clause 27 = .ok (.iload_n 1, 1) := dk_27 (dk_at dksX10_clause_1 4 rfl rfl)
theorem dX10_clause_28 : decode cX10_clause 28 = .ok (.iconst 4, 1) := dk_7 (dk_at dksX10_clause_1 5 rfl rfl)
theorem dX10_clause_29 : decode cX10_clause 29 = .ok (.if_icmp .lt 12, 3) := dk_161 0 12 (dk_at dksX10_clause_1 6 rfl rfl)
theorem dX10_clause_32 : decode cX10_clause 32 = .ok (.aload_n 0, 1) := dk_42 (dk_at dksX10_clause_1 9 rfl rfl)
theorem dX10_clause_33 : decode cX10_clause 33 = .ok (.ldc 160, 2) := dk_18 160 (dk_at dksX10_clause_1 10 rfl rfl)
theorem dX10_clause_35 : decode cX10_clause 35 = .ok (.invokevirtual 87, 3) := dk_182 0 87 (dk_at dksX10_clause_1 12 rfl rfl)
theorem dX10_clause_38 : decode cX10_clause 38 = .ok (.ifCond .eq 19, 3) := dk_153 0 19 (dk_at dksX10_clause_1 15 rfl rfl)
theorem dX10_clause_41 : decode cX10_clause 41 = .ok (.aload_n 0, 1) := dk_42 (dk_at dksX10_clause_1 18 rfl rfl)
theorem dX10_clause_42 : decode cX10_clause 42 = .ok (.getfield 47, 3) := dk_180 0 47 (dk_at dksX10_clause_1 19 rfl rfl)
theorem dX10_clause_45 : decode cX10_clause 45 = .ok (.getfield 162, 3) := dk_180 0 162 (dk_at dksX10_clause_2 0 rfl rfl)
theorem dX10_clause_48 : decode cX10_clause 48 = .ok (.bipush 8, 2) := dk_16 8 (dk_at dksX10_clause_2 3 rfl rfl)
theorem dX10_clause_50 : decode cX10_clause 50 = .ok (.if_icmp .ge 7, 3) := dk_162 0 7 (dk_at dksX10_clause_2 5 rfl rfl)
theorem dX10_clause_53 : decode cX10_clause 53 = .ok (.iconst 1, 1) := dk_4 (dk_at dksX10_clause_2 8 rfl rfl)
theorem dX10_clause_54 : decode cX10_clause 54 = .ok (.goto 4, 3) := dk_167 0 4 (dk_at dksX10_clause_2 9 rfl rfl)
theorem dX10_clause_57 : decode cX10_clause 57 = .ok (.iconst 0, 1) := dk_3 (dk_at dksX10_clause_2 12 rfl rfl)
theorem dX10_clause_58 : decode cX10_clause 58 = .ok (.invokevirtual 94, 3) := dk_182 0 94 (dk_at dksX10_clause_2 13 rfl rfl)
theorem dX10_clause_61 : decode cX10_clause 61 = .ok (.aload_n 0, 1) := dk_42 (dk_at dksX10_clause_2 16 rfl rfl)
theorem dX10_clause_62 : decode cX10_clause 62 = .ok (.invokevirtual 91, 3) := dk_182 0 91 (dk_at dksX10_clause_2 17 rfl rfl)
theorem dX10_clause_65 : decode cX10_clause 65 = .ok (.aload_n 0, 1) := dk_42 (dk_at dksX10_clause_2 20 rfl rfl)
theorem dX10_clause_66 : decode cX10_clause 66 = .ok (.ldc 167, 2) := dk_18 167 (dk_at dksX10_clause_2 21 rfl rfl)
theorem dX10_clause_68 : decode cX10_clause 68 = .ok (.invokevirtual 125, 3) := dk_182 0 125 (dk_at dksX10_clause_3 0 rfl rfl)
theorem dX10_clause_71 : decode cX10_clause 71 = .ok (.aload_n 0, 1) := dk_42 (dk_at dksX10_clause_3 3 rfl rfl)
theorem dX10_clause_72 : decode cX10_clause 72 = .ok (.getfield 47, 3) := dk_180 0 47 (dk_at dksX10_clause_3 4 rfl rfl)
theorem dX10_clause_75 : decode cX10_clause 75 = .ok (.getfield 169, 3) := dk_180 0 169 (dk_at dksX10_clause_3 7 rfl rfl)
theorem dX10_clause_78 : decode cX10_clause 78 = .ok (.aload_n 0, 1) := dk_42 (dk_at dksX10_clause_3 10 rfl rfl)
theorem dX10_clause_79 : decode cX10_clause 79 = .ok (.getfield 47, 3) := dk_180 0 47 (dk_at dksX10_clause_3 11 rfl rfl)
theorem dX10_clause_82 : decode cX10_clause 82 = .ok (.getfield 162, 3) := dk_180 0 162 (dk_at dksX10_clause_3 14 rfl rfl)
theorem dX10_clause_85 : decode cX10_clause 85 = .ok (.iload_n 1, 1) := dk_27 (dk_at dksX10_clause_3 17 rfl rfl)
theorem dX10_clause_86 : decode cX10_clause 86 = .ok (.iconst 4, 1) := dk_7 (dk_at dksX10_clause_3 18 rfl rfl)
theorem dX10_clause_87 : decode cX10_clause 87 = .ok (.if_icmp .ge 7, 3) := dk_162 0 7 (dk_at dksX10_clause_3 19 rfl rfl)
theorem dX10_clause_90 : decode cX10_clause 90 = .ok (.iload_n 1, 1) := dk_27 (dk_at dksX10_clause_3 22 rfl rfl)
theorem dX10_clause_91 : decode cX10_clause 91 = .ok (.goto 4, 3) := dk_167 0 4 (dk_at dksX10_clause_4 0 rfl rfl)
theorem dX10_clause_94 : decode cX10_clause 94 = .ok (.iconst (-1), 1) := dk_2 (dk_at dksX10_clause_4 3 rfl rfl)
theorem dX10_clause_95 : decode cX10_clause 95 = .ok (.iastore, 1) := dk_79 (dk_at dksX10_clause_4 4 rfl rfl)
theorem dX10_clause_96 : decode cX10_clause 96 = .ok (.aload_n 0, 1) := dk_42 (dk_at dksX10_clause_4 5 rfl rfl)
theorem dX10_clause_97 : decode cX10_clause 97 = .ok (.getfield 47, 3) := dk_180 0 47 (dk_at dksX10_clause_4 6 rfl rfl)
theorem dX10_clause_100 : decode cX10_clause 100 = .ok (.getfield 172, 3) := dk_180 0 172 (dk_at dksX10_clause_4 9 rfl rfl)
theorem dX10_clause_103 : decode cX10_clause 103 = .ok (.aload_n 0, 1) := dk_42 (dk_at dksX10_clause_4 12 rfl rfl)
theorem dX10_clause_104 : decode cX10_clause 104 = .ok (.getfield 47, 3) := dk_180 0 47 (dk_at dksX10_clause_4 13 rfl rfl)
theorem dX10_clause_107 : decode cX10_clause 107 = .ok (.getfield 162, 3) := dk_180 0 162 (dk_at dksX10_clause_4 16 rfl rfl)
theorem dX10_clause_110 : decode cX10_clause 110 = .ok (.aload_n 0, 1) := dk_42 (dk_at dksX10_clause_4 19 rfl rfl)
theorem dX10_clause_111 : decode cX10_clause 111 = .ok (.invokevirtual 119, 3) := dk_182 0 119 (dk_at dksX10_clause_4 20 rfl rfl)
theorem dX10_clause_114 : decode cX10_clause 114 = .ok (.aastore, 1) := dk_83 (dk_at dksX10_clause_4 23 rfl rfl)
theorem dX10_clause_115 : decode cX10_clause 115 = .ok (.aload_n 0, 1) := dk_42 (dk_at dksX10_clause_5 0 rfl rfl)
theorem dX10_clause_116 : decode cX10_clause 116 = .ok (.ldc 176, 2) := dk_18 176 (dk_at dksX10_clause_5 1 rfl rfl)
theorem dX10_clause_118 : decode cX10_clause 118 = .ok (.invokevirtual 125, 3) := dk_182 0 125 (dk_at dksX10_clause_5 3 rfl rfl)
theorem dX10_clause_121 : decode cX10_clause 121 = .ok (.aload_n 0, 1) := dk_42 (dk_at dksX10_clause_5 6 rfl rfl)
theorem dX10_clause_122 : decode cX10_clause 122 = .ok (.getfield 47, 3) := dk_180 0 47 (dk_at dksX10_clause_5 7 rfl rfl)
theorem dX10_clause_125 : decode cX10_clause 125 = .ok (.dup, 1) := dk_89 (dk_at dksX10_clause_5 10 rfl rfl)
theorem dX10_clause_126 : decode cX10_clause 126 = .ok (.getfield 162, 3) := dk_180 0 162 (dk_at dksX10_clause_5 11 rfl rfl)
theorem dX10_clause_129 : decode cX10_clause 129 = .ok (.iconst 1, 1) := dk_4 (dk_at dksX10_clause_5 14 rfl rfl)
theorem dX10_clause_130 : decode cX10_clause 130 = .ok (.iadd, 1) := dk_96 (dk_at dksX10_clause_5 15 rfl rfl)
theorem dX10_clause_131 : decode cX10_clause 131 = .ok (.putfield 162, 3) := dk_181 0 162 (dk_at dksX10_clause_5 16 rfl rfl)
theorem dX10_clause_134 : decode cX10_clause 134 = .ok (.return_, 1) := dk_177 (dk_at dksX10_clause_5 19 rfl rfl)
abbrev cX10_isWord : ByteArray := prog_26_method_7_code
def yX10_isWord : MethodName := ⟨RX10, "isWord", "(Ljava/lang/String;)Z"⟩
def dkwX10_isWord_2 : List UInt8 := [29, 182, 0, 83, 160, 0, 7, 4, 167, 0, 4, 3, 61, 132, 3, 1, 167, 255, 216, 28, 172]
abbrev dktX10_isWord_2 : List UInt8 := dkwX10_isWord_2 ++ []
def dkwX10_isWord_1 : List UInt8 := [29, 43, 182, 0, 80, 162, 0, 38, 28, 153, 0, 34, 42, 180, 0, 58, 42, 180, 0, 51, 29, 96, 51, 43]
abbrev dktX10_isWord_1 : List UInt8 := dkwX10_isWord_1 ++ dktX10_isWord_2
def dkwX10_isWord_0 : List UInt8 := [42, 180, 0, 62, 42, 180, 0, 51, 100, 43, 182, 0, 80, 160, 0, 7, 4, 167, 0, 4, 3, 61, 3, 62]
abbrev dktX10_isWord_0 : List UInt8 := dkwX10_isWord_0 ++ dktX10_isWord_1
theorem dksX10_isWord_0 : cX10_isWord.data.toList.drop 0 = dktX10_isWord_0 := by decide +kernel
theorem dksX10_isWord_1 : cX10_isWord.data.toList.drop 24 = dktX10_isWord_1 := dk_seg dksX10_isWord_0 24 rfl rfl
theorem dksX10_isWord_2 : cX10_isWord.data.toList.drop 48 = dktX10_isWord_2 := dk_seg dksX10_isWord_1 24 rfl rfl
theorem dX10_isWord_0 : decode cX10_isWord 0 = .ok (.aload_n 0, 1) := dk_42 (dk_at dksX10_isWord_0 0 rfl rfl)
theorem dX10_isWord_1 : decode cX10_isWord 1 = .ok (.getfield 62, 3) := dk_180 0 62 (dk_at dksX10_isWord_0 1 rfl rfl)
theorem dX10_isWord_4 : decode cX10_isWord 4 = .ok (.aload_n 0, 1) := dk_42 (dk_at dksX10_isWord_0 4 rfl rfl)
theorem dX10_isWord_5 : decode cX10_isWord 5 = .ok (.getfield 51, 3) := dk_180 0 51 (dk_at dksX10_isWord_0 5 rfl rfl)
theorem dX10_isWord_8 : decode cX10_isWord 8 = .ok (.isub, 1) := dk_100 (dk_at dksX10_isWord_0 8 rfl rfl)
theorem dX10_isWord_9 : decode cX10_isWord 9 = .ok (.aload_n 1, 1) := dk_43 (dk_at dksX10_isWord_0 9 rfl rfl)
theorem dX10_isWord_10 : decode cX10_isWord 10 = .ok (.invokevirtual 80, 3) := dk_182 0 80 (dk_at dksX10_isWord_0 10 rfl rfl)
theorem dX10_isWord_13 : decode cX10_isWord 13 = .ok (.if_icmp .ne 7, 3) := dk_160 0 7 (dk_at dksX10_isWord_0 13 rfl rfl)
theorem dX10_isWord_16 : decode cX10_isWord 16 = .ok (.iconst 1, 1) := dk_4 (dk_at dksX10_isWord_0 16 rfl rfl)
theorem dX10_isWord_17 : decode cX10_isWord 17 = .ok (.goto 4, 3) := dk_167 0 4 (dk_at dksX10_isWord_0 17 rfl rfl)
theorem dX10_isWord_20 : decode cX10_isWord 20 = .ok (.iconst 0, 1) := dk_3 (dk_at dksX10_isWord_0 20 rfl rfl)
theorem dX10_isWord_21 : decode cX10_isWord 21 = .ok (.istore_n 2, 1) := dk_61 (dk_at dksX10_isWord_0 21 rfl rfl)
theorem dX10_isWord_22 : decode cX10_isWord 22 = .ok (.iconst 0, 1) := dk_3 (dk_at dksX10_isWord_0 22 rfl rfl)
theorem dX10_isWord_23 : decode cX10_isWord 23 = .ok (.istore_n 3, 1) := dk_62 (dk_at dksX10_isWord_0 23 rfl rfl)
theorem dX10_isWord_24 : decode cX10_isWord 24 = .ok (.iload_n 3, 1) := dk_29 (dk_at dksX10_isWord_1 0 rfl rfl)
theorem dX10_isWord_25 : decode cX10_isWord 25 = .ok (.aload_n 1, 1) := dk_43 (dk_at dksX10_isWord_1 1 rfl rfl)
theorem dX10_isWord_26 : decode cX10_isWord 26 = .ok (.invokevirtual 80, 3) := dk_182 0 80 (dk_at dksX10_isWord_1 2 rfl rfl)
theorem dX10_isWord_29 : decode cX10_isWord 29 = .ok (.if_icmp .ge 38, 3) := dk_162 0 38 (dk_at dksX10_isWord_1 5 rfl rfl)
theorem dX10_isWord_32 : decode cX10_isWord 32 = .ok (.iload_n 2, 1) := dk_28 (dk_at dksX10_isWord_1 8 rfl rfl)
theorem dX10_isWord_33 : decode cX10_isWord 33 = .ok (.ifCond .eq 34, 3) := dk_153 0 34 (dk_at dksX10_isWord_1 9 rfl rfl)
theorem dX10_isWord_36 : decode cX10_isWord 36 = .ok (.aload_n 0, 1) := dk_42 (dk_at dksX10_isWord_1 12 rfl rfl)
theorem dX10_isWord_37 : decode cX10_isWord 37 = .ok (.getfield 58, 3) := dk_180 0 58 (dk_at dksX10_isWord_1 13 rfl rfl)
theorem dX10_isWord_40 : decode cX10_isWord 40 = .ok (.aload_n 0, 1) := dk_42 (dk_at dksX10_isWord_1 16 rfl rfl)
theorem dX10_isWord_41 : decode cX10_isWord 41 = .ok (.getfield 51, 3) := dk_180 0 51 (dk_at dksX10_isWord_1 17 rfl rfl)
theorem dX10_isWord_44 : decode cX10_isWord 44 = .ok (.iload_n 3, 1) := dk_29 (dk_at dksX10_isWord_1 20 rfl rfl)
theorem dX10_isWord_45 : decode cX10_isWord 45 = .ok (.iadd, 1) := dk_96 (dk_at dksX10_isWord_1 21 rfl rfl)
theorem dX10_isWord_46 : decode cX10_isWord 46 = .ok (.baload, 1) := dk_51 (dk_at dksX10_isWord_1 22 rfl rfl)
theorem dX10_isWord_47 : decode cX10_isWord 47 = .ok (.aload_n 1, 1) := dk_43 (dk_at dksX10_isWord_1 23 rfl rfl)
theorem dX10_isWord_48 : decode cX10_isWord 48 = .ok (.iload_n 3, 1) := dk_29 (dk_at dksX10_isWord_2 0 rfl rfl)
theorem dX10_isWord_49 : decode cX10_isWord 49 = .ok (.invokevirtual 83, 3) := dk_182 0 83 (dk_at dksX10_isWord_2 1 rfl rfl)
theorem dX10_isWord_52 : decode cX10_isWord 52 = .ok (.if_icmp .ne 7, 3) := dk_160 0 7 (dk_at dksX10_isWord_2 4 rfl rfl)
theorem dX10_isWord_55 : decode cX10_isWord 55 = .ok (.iconst 1, 1) := dk_4 (dk_at dksX10_isWord_2 7 rfl rfl)
theorem dX10_isWord_56 : decode cX10_isWord 56 = .ok (.goto 4, 3) := dk_167 0 4 (dk_at dksX10_isWord_2 8 rfl rfl)
theorem dX10_isWord_59 : decode cX10_isWord 59 = .ok (.iconst 0, 1) := dk_3 (dk_at dksX10_isWord_2 11 rfl rfl)
theorem dX10_isWord_60 : decode cX10_isWord 60 = .ok (.istore_n 2, 1) := dk_61 (dk_at dksX10_isWord_2 12 rfl rfl)
theorem dX10_isWord_61 : decode cX10_isWord 61 = .ok (.iinc 3 1, 3) := dk_132 3 1 (dk_at dksX10_isWord_2 13 rfl rfl)
theorem dX10_isWord_64 : decode cX10_isWord 64 = .ok (.goto (-40), 3) := dk_167 255 216 (dk_at dksX10_isWord_2 16 rfl rfl)
theorem dX10_isWord_67 : decode cX10_isWord 67 = .ok (.iload_n 2, 1) := dk_28 (dk_at dksX10_isWord_2 19 rfl rfl)
theorem dX10_isWord_68 : decode cX10_isWord 68 = .ok (.ireturn, 1) := dk_172 (dk_at dksX10_isWord_2 20 rfl rfl)
abbrev cX10_need : ByteArray := prog_26_method_6_code
def yX10_need : MethodName := ⟨RX10, "need", "(Z)V"⟩
def dkwX10_need_0 : List UInt8 := [27, 154, 0, 15, 42, 180, 0, 43, 42, 180, 0, 51, 182, 0, 76, 191, 177]
abbrev dktX10_need_0 : List UInt8 := dkwX10_need_0 ++ []
theorem dksX10_need_0 : cX10_need.data.toList.drop 0 = dktX10_need_0 := by decide +kernel
theorem dX10_need_0 : decode cX10_need 0 = .ok (.iload_n 1, 1) := dk_27 (dk_at dksX10_need_0 0 rfl rfl)
theorem dX10_need_1 : decode cX10_need 1 = .ok (.ifCond .ne 15, 3) := dk_154 0 15 (dk_at dksX10_need_0 1 rfl rfl)
theorem dX10_need_4 : decode cX10_need 4 = .ok (.aload_n 0, 1) := dk_42 (dk_at dksX10_need_0 4 rfl rfl)
theorem dX10_need_5 : decode cX10_need 5 = .ok (.getfield 43, 3) := dk_180 0 43 (dk_at dksX10_need_0 5 rfl rfl)
theorem dX10_need_8 : decode cX10_need 8 = .ok (.aload_n 0, 1) := dk_42 (dk_at dksX10_need_0 8 rfl rfl)
theorem dX10_need_9 : decode cX10_need 9 = .ok (.getfield 51, 3) := dk_180 0 51 (dk_at dksX10_need_0 9 rfl rfl)
theorem dX10_need_12 : decode cX10_need 12 = .ok (.invokevirtual 76, 3) := dk_182 0 76 (dk_at dksX10_need_0 12 rfl rfl)
theorem dX10_need_15 : decode cX10_need 15 = .ok (.athrow, 1) := dk_191 (dk_at dksX10_need_0 15 rfl rfl)
theorem dX10_need_16 : decode cX10_need 16 = .ok (.return_, 1) := dk_177 (dk_at dksX10_need_0 16 rfl rfl)
abbrev cX10_must : ByteArray := prog_26_method_9_code
def yX10_must : MethodName := ⟨RX10, "must", "(Ljava/lang/String;)V"⟩
def dkwX10_must_0 : List UInt8 := [42, 42, 43, 182, 0, 87, 182, 0, 94, 42, 182, 0, 91, 177]
abbrev dktX10_must_0 : List UInt8 := dkwX10_must_0 ++ []
theorem dksX10_must_0 : cX10_must.data.toList.drop 0 = dktX10_must_0 := by decide +kernel
theorem dX10_must_0 : decode cX10_must 0 = .ok (.aload_n 0, 1) := dk_42 (dk_at dksX10_must_0 0 rfl rfl)
theorem dX10_must_1 : decode cX10_must 1 = .ok (.aload_n 0, 1) := dk_42 (dk_at dksX10_must_0 1 rfl rfl)
theorem dX10_must_2 : decode cX10_must 2 = .ok (.aload_n 1, 1) := dk_43 (dk_at dksX10_must_0 2 rfl rfl)
theorem dX10_must_3 : decode cX10_must 3 = .ok (.invokevirtual 87, 3) := dk_182 0 87 (dk_at dksX10_must_0 3 rfl rfl)
theorem dX10_must_6 : decode cX10_must 6 = .ok (.invokevirtual 94, 3) := dk_182 0 94 (dk_at dksX10_must_0 6 rfl rfl)
theorem dX10_must_9 : decode cX10_must 9 = .ok (.aload_n 0, 1) := dk_42 (dk_at dksX10_must_0 9 rfl rfl)
theorem dX10_must_10 : decode cX10_must 10 = .ok (.invokevirtual 91, 3) := dk_182 0 91 (dk_at dksX10_must_0 10 rfl rfl)
theorem dX10_must_13 : decode cX10_must 13 = .ok (.return_, 1) := dk_177 (dk_at dksX10_must_0 13 rfl rfl)
abbrev cX10_any : ByteArray := prog_26_method_16_code
def yX10_any : MethodName := ⟨RX10, "any", "()LColdBox$Cond;"⟩
def dkwX10_any_1 : List UInt8 := [183, 0, 159, 76, 167, 255, 234, 43, 176]
abbrev dktX10_any_1 : List UInt8 := dkwX10_any_1 ++ []
def dkwX10_any_0 : List UInt8 := [42, 182, 0, 152, 76, 42, 18, 155, 182, 0, 111, 153, 0, 19, 187, 0, 157, 89, 43, 42, 182, 0, 152]
abbrev dktX10_any_0 : List UInt8 := dkwX10_any_0 ++ dktX10_any_1
theorem dksX10_any_0 : cX10_any.data.toList.drop 0 = dktX10_any_0 := by decide +kernel
theorem dksX10_any_1 : cX10_any.data.toList.drop 23 = dktX10_any_1 := dk_seg dksX10_any_0 23 rfl rfl
theorem dX10_any_0 : decode cX10_any 0 = .ok (.aload_n 0, 1) := dk_42 (dk_at dksX10_any_0 0 rfl rfl)
theorem dX10_any_1 : decode cX10_any 1 = .ok (.invokevirtual 152, 3) := dk_182 0 152 (dk_at dksX10_any_0 1 rfl rfl)
theorem dX10_any_4 : decode cX10_any 4 = .ok (.astore_n 1, 1) := dk_76 (dk_at dksX10_any_0 4 rfl rfl)
theorem dX10_any_5 : decode cX10_any 5 = .ok (.aload_n 0, 1) := dk_42 (dk_at dksX10_any_0 5 rfl rfl)
theorem dX10_any_6 : decode cX10_any 6 = .ok (.ldc 155, 2) := dk_18 155 (dk_at dksX10_any_0 6 rfl rfl)
theorem dX10_any_8 : decode cX10_any 8 = .ok (.invokevirtual 111, 3) := dk_182 0 111 (dk_at dksX10_any_0 8 rfl rfl)
theorem dX10_any_11 : decode cX10_any 11 = .ok (.ifCond .eq 19, 3) := dk_153 0 19 (dk_at dksX10_any_0 11 rfl rfl)
theorem dX10_any_14 : decode cX10_any 14 = .ok (.new 157, 3) := dk_187 0 157 (dk_at dksX10_any_0 14 rfl rfl)
theorem dX10_any_17 : decode cX10_any 17 = .ok (.dup, 1) := dk_89 (dk_at dksX10_any_0 17 rfl rfl)
theorem dX10_any_18 : decode cX10_any 18 = .ok (.aload_n 1, 1) := dk_43 (dk_at dksX10_any_0 18 rfl rfl)
theorem dX10_any_19 : decode cX10_any 19 = .ok (.aload_n 0, 1) := dk_42 (dk_at dksX10_any_0 19 rfl rfl)
theorem dX10_any_20 : decode cX10_any 20 = .ok (.invokevirtual 152, 3) := dk_182 0 152 (dk_at dksX10_any_0 20 rfl rfl)
theorem dX10_any_23 : decode cX10_any 23 = .ok (.invokespecial 159, 3) := dk_183 0 159 (dk_at dksX10_any_1 0 rfl rfl)
theorem dX10_any_26 : decode cX10_any 26 = .ok (.astore_n 1, 1) := dk_76 (dk_at dksX10_any_1 3 rfl rfl)
theorem dX10_any_27 : decode cX10_any 27 = .ok (.goto (-22), 3) := dk_167 255 234 (dk_at dksX10_any_1 4 rfl rfl)
theorem dX10_any_30 : decode cX10_any 30 = .ok (.aload_n 1, 1) := dk_43 (dk_at dksX10_any_1 7 rfl rfl)
theorem dX10_any_31 : decode cX10_any 31 = .ok (.areturn, 1) := dk_176 (dk_at dksX10_any_1 8 rfl rfl)
abbrev cX10_all : ByteArray := prog_26_method_15_code
def yX10_all : MethodName := ⟨RX10, "all", "()LColdBox$Cond;"⟩
def dkwX10_all_1 : List UInt8 := [183, 0, 149, 76, 167, 255, 234, 43, 176]
abbrev dktX10_all_1 : List UInt8 := dkwX10_all_1 ++ []
def dkwX10_all_0 : List UInt8 := [42, 182, 0, 142, 76, 42, 18, 145, 182, 0, 111, 153, 0, 19, 187, 0, 147, 89, 43, 42, 182, 0, 142]
abbrev dktX10_all_0 : List UInt8 := dkwX10_all_0 ++ dktX10_all_1
theorem dksX10_all_0 : cX10_all.data.toList.drop 0 = dktX10_all_0 := by decide +kernel
theorem dksX10_all_1 : cX10_all.data.toList.drop 23 = dktX10_all_1 := dk_seg dksX10_all_0 23 rfl rfl
theorem dX10_all_0 : decode cX10_all 0 = .ok (.aload_n 0, 1) := dk_42 (dk_at dksX10_all_0 0 rfl rfl)
theorem dX10_all_1 : decode cX10_all 1 = .ok (.invokevirtual 142, 3) := dk_182 0 142 (dk_at dksX10_all_0 1 rfl rfl)
theorem dX10_all_4 : decode cX10_all 4 = .ok (.astore_n 1, 1) := dk_76 (dk_at dksX10_all_0 4 rfl rfl)
theorem dX10_all_5 : decode cX10_all 5 = .ok (.aload_n 0, 1) := dk_42 (dk_at dksX10_all_0 5 rfl rfl)
theorem dX10_all_6 : decode cX10_all 6 = .ok (.ldc 145, 2) := dk_18 145 (dk_at dksX10_all_0 6 rfl rfl)
theorem dX10_all_8 : decode cX10_all 8 = .ok (.invokevirtual 111, 3) := dk_182 0 111 (dk_at dksX10_all_0 8 rfl rfl)
theorem dX10_all_11 : decode cX10_all 11 = .ok (.ifCond .eq 19, 3) := dk_153 0 19 (dk_at dksX10_all_0 11 rfl rfl)
theorem dX10_all_14 : decode cX10_all 14 = .ok (.new 147, 3) := dk_187 0 147 (dk_at dksX10_all_0 14 rfl rfl)
theorem dX10_all_17 : decode cX10_all 17 = .ok (.dup, 1) := dk_89 (dk_at dksX10_all_0 17 rfl rfl)
theorem dX10_all_18 : decode cX10_all 18 = .ok (.aload_n 1, 1) := dk_43 (dk_at dksX10_all_0 18 rfl rfl)
theorem dX10_all_19 : decode cX10_all 19 = .ok (.aload_n 0, 1) := dk_42 (dk_at dksX10_all_0 19 rfl rfl)
theorem dX10_all_20 : decode cX10_all 20 = .ok (.invokevirtual 142, 3) := dk_182 0 142 (dk_at dksX10_all_0 20 rfl rfl)
theorem dX10_all_23 : decode cX10_all 23 = .ok (.invokespecial 149, 3) := dk_183 0 149 (dk_at dksX10_all_1 0 rfl rfl)
theorem dX10_all_26 : decode cX10_all 26 = .ok (.astore_n 1, 1) := dk_76 (dk_at dksX10_all_1 3 rfl rfl)
theorem dX10_all_27 : decode cX10_all 27 = .ok (.goto (-22), 3) := dk_167 255 234 (dk_at dksX10_all_1 4 rfl rfl)
theorem dX10_all_30 : decode cX10_all 30 = .ok (.aload_n 1, 1) := dk_43 (dk_at dksX10_all_1 7 rfl rfl)
theorem dX10_all_31 : decode cX10_all 31 = .ok (.areturn, 1) := dk_176 (dk_at dksX10_all_1 8 rfl rfl)
abbrev cX10_one : ByteArray := prog_26_method_14_code
def yX10_one : MethodName := ⟨RX10, "one", "()LColdBox$Cond;"⟩
def dkwX10_one_6 : List UInt8 := [182, 0, 129, 183, 0, 134, 77, 27, 153, 0, 14, 187, 0, 137, 89, 44, 183, 0, 139, 167, 0, 4, 44, 176]
abbrev dktX10_one_6 : List UInt8 := dkwX10_one_6 ++ []
def dkwX10_one_5 : List UInt8 := [160, 0, 7, 4, 167, 0, 4, 3, 182, 0, 94, 42, 182, 0, 91, 187, 0, 132, 89, 29, 21, 4, 42]
abbrev dktX10_one_5 : List UInt8 := dkwX10_one_5 ++ dktX10_one_6
def dkwX10_one_4 : List UInt8 := [182, 0, 65, 54, 4, 42, 21, 4, 16, 60, 159, 0, 17, 21, 4, 16, 61, 159, 0, 10, 21, 4, 16, 62]
abbrev dktX10_one_4 : List UInt8 := dkwX10_one_4 ++ dktX10_one_5
def dkwX10_one_3 : List UInt8 := [18, 123, 182, 0, 125, 42, 89, 180, 0, 116, 4, 100, 181, 0, 116, 167, 0, 63, 42, 182, 0, 129, 62, 42]
abbrev dktX10_one_3 : List UInt8 := dkwX10_one_3 ++ dktX10_one_4
def dkwX10_one_2 : List UInt8 := [182, 0, 94, 42, 182, 0, 91, 42, 89, 180, 0, 116, 4, 96, 181, 0, 116, 42, 182, 0, 119, 77, 42]
abbrev dktX10_one_2 : List UInt8 := dkwX10_one_2 ++ dktX10_one_3
def dkwX10_one_1 : List UInt8 := [42, 18, 114, 182, 0, 87, 153, 0, 58, 42, 42, 180, 0, 116, 6, 162, 0, 7, 4, 167, 0, 4, 3]
abbrev dktX10_one_1 : List UInt8 := dkwX10_one_1 ++ dktX10_one_2
def dkwX10_one_0 : List UInt8 := [3, 60, 42, 18, 109, 182, 0, 111, 153, 0, 16, 27, 154, 0, 7, 4, 167, 0, 4, 3, 60, 167, 255, 237]
abbrev dktX10_one_0 : List UInt8 := dkwX10_one_0 ++ dktX10_one_1
theorem dksX10_one_0 : cX10_one.data.toList.drop 0 = dktX10_one_0 := by decide +kernel
theorem dksX10_one_1 : cX10_one.data.toList.drop 24 = dktX10_one_1 := dk_seg dksX10_one_0 24 rfl rfl
theorem dksX10_one_2 : cX10_one.data.toList.drop 47 = dktX10_one_2 := dk_seg dksX10_one_1 23 rfl rfl
theorem dksX10_one_3 : cX10_one.data.toList.drop 70 = dktX10_one_3 := dk_seg dksX10_one_2 23 rfl rfl
theorem dksX10_one_4 : cX10_one.data.toList.drop 94 = dktX10_one_4 := dk_seg dksX10_one_3 24 rfl rfl
theorem dksX10_one_5 : cX10_one.data.toList.drop 118 = dktX10_one_5 := dk_seg dksX10_one_4 24 rfl rfl
theorem dksX10_one_6 : cX10_one.data.toList.drop 141 = dktX10_one_6 := dk_seg dksX10_one_5 23 rfl rfl
theorem dX10_one_0 : decode cX10_one 0 = .ok (.iconst 0, 1) := dk_3 (dk_at dksX10_one_0 0 rfl rfl)
theorem dX10_one_1 : decode cX10_one 1 = .ok (.istore_n 1, 1) := dk_60 (dk_at dksX10_one_0 1 rfl rfl)
theorem dX10_one_2 : decode cX10_one 2 = .ok (.aload_n 0, 1) := dk_42 (dk_at dksX10_one_0 2 rfl rfl)
theorem dX10_one_3 : decode cX10_one 3 = .ok (.ldc 109, 2) := dk_18 109 (dk_at dksX10_one_0 3 rfl rfl)
theorem dX10_one_5 : decode cX10_one 5 = .ok (.invokevirtual 111, 3) := dk_182 0 111 (dk_at dksX10_one_0 5 rfl rfl)
theorem dX10_one_8 : decode cX10_one 8 = .ok (.ifCond .eq 16, 3) := dk_153 0 16 (dk_at dksX10_one_0 8 rfl rfl)
theorem dX10_one_11 : decode cX10_one 11 = .ok (.iload_n 1, 1) := dk_27 (dk_at dksX10_one_0 11 rfl rfl)
theorem dX10_one_12 : decode cX10_one 12 = .ok (.ifCond .ne 7, 3) := dk_154 0 7 (dk_at dksX10_one_0 12 rfl rfl)
theorem dX10_one_15 : decode cX10_one 15 = .ok (.iconst 1, 1) := dk_4 (dk_at dksX10_one_0 15 rfl rfl)
theorem dX10_one_16 : decode cX10_one 16 = .ok (.goto 4, 3) := dk_167 0 4 (dk_at dksX10_one_0 16 rfl rfl)
theorem dX10_one_19 : decode cX10_one 19 = .ok (.iconst 0, 1) := dk_3 (dk_at dksX10_one_0 19 rfl rfl)
theorem dX10_one_20 : decode cX10_one 20 = .ok (.istore_n 1, 1) := dk_60 (dk_at dksX10_one_0 20 rfl rfl)
theorem dX10_one_21 : decode cX10_one 21 = .ok (.goto (-19), 3) := dk_167 255 237 (dk_at dksX10_one_0 21 rfl rfl)
theorem dX10_one_24 : decode cX10_one 24 = .ok (.aload_n 0, 1) := dk_42 (dk_at dksX10_one_1 0 rfl rfl)
theorem dX10_one_25 : decode cX10_one 25 = .ok (.ldc 114, 2) := dk_18 114 (dk_at dksX10_one_1 1 rfl rfl)
theorem dX10_one_27 : decode cX10_one 27 = .ok (.invokevirtual 87, 3) := dk_182 0 87 (dk_at dksX10_one_1 3 rfl rfl)
theorem dX10_one_30 : decode cX10_one 30 = .ok (.ifCond .eq 58, 3) := dk_153 0 58 (dk_at dksX10_one_1 6 rfl rfl)
theorem dX10_one_33 : decode cX10_one 33 = .ok (.aload_n 0, 1) := dk_42 (dk_at dksX10_one_1 9 rfl rfl)
theorem dX10_one_34 : decode cX10_one 34 = .ok (.aload_n 0, 1) := dk_42 (dk_at dksX10_one_1 10 rfl rfl)
theorem dX10_one_35 : decode cX10_one 35 = .ok (.getfield 116, 3) := dk_180 0 116 (dk_at dksX10_one_1 11 rfl rfl)
theorem dX10_one_38 : decode cX10_one 38 = .ok (.iconst 3, 1) := dk_6 (dk_at dksX10_one_1 14 rfl rfl)
theorem dX10_one_39 : decode cX10_one 39 = .ok (.if_icmp .ge 7, 3) := dk_162 0 7 (dk_at dksX10_one_1 15 rfl rfl)
theorem dX10_one_42 : decode cX10_one 42 = .ok (.iconst 1, 1) := dk_4 (dk_at dksX10_one_1 18 rfl rfl)
theorem dX10_one_43 : decode cX10_one 43 = .ok (.goto 4, 3) := dk_167 0 4 (dk_at dksX10_one_1 19 rfl rfl)
theorem dX10_one_46 : decode cX10_one 46 = .ok (.iconst 0, 1) := dk_3 (dk_at dksX10_one_1 22 rfl rfl)
theorem dX10_one_47 : decode cX10_one 47 = .ok (.invokevirtual 94, 3) := dk_182 0 94 (dk_at dksX10_one_2 0 rfl rfl)
theorem dX10_one_50 : decode cX10_one 50 = .ok (.aload_n 0, 1) := dk_42 (dk_at dksX10_one_2 3 rfl rfl)
theorem dX10_one_51 : decode cX10_one 51 = .ok (.invokevirtual 91, 3) := dk_182 0 91 (dk_at dksX10_one_2 4 rfl rfl)
theorem dX10_one_54 : decode cX10_one 54 = .ok (.aload_n 0, 1) := dk_42 (dk_at dksX10_one_2 7 rfl rfl)
theorem dX10_one_55 : decode cX10_one 55 = .ok (.dup, 1) := dk_89 (dk_at dksX10_one_2 8 rfl rfl)
theorem dX10_one_56 : decode cX10_one 56 = .ok (.getfield 116, 3) := dk_180 0 116 (dk_at dksX10_one_2 9 rfl rfl)
theorem dX10_one_59 : decode cX10_one 59 = .ok (.iconst 1, 1) := dk_4 (dk_at dksX10_one_2 12 rfl rfl)
theorem dX10_one_60 : decode cX10_one 60 = .ok (.iadd, 1) := dk_96 (dk_at dksX10_one_2 13 rfl rfl)
theorem dX10_one_61 : decode cX10_one 61 = .ok (.putfield 116, 3) := dk_181 0 116 (dk_at dksX10_one_2 14 rfl rfl)
theorem dX10_one_64 : decode cX10_one 64 = .ok (.aload_n 0, 1) := dk_42 (dk_at dksX10_one_2 17 rfl rfl)
theorem dX10_one_65 : decode cX10_one 65 = .ok (.invokevirtual 119, 3) := dk_182 0 119 (dk_at dksX10_one_2 18 rfl rfl)
theorem dX10_one_68 : decode cX10_one 68 = .ok (.astore_n 2, 1) := dk_77 (dk_at dksX10_one_2 21 rfl rfl)
theorem dX10_one_69 : decode cX10_one 69 = .ok (.aload_n 0, 1) := dk_42 (dk_at dksX10_one_2 22 rfl rfl)
theorem dX10_one_70 : decode cX10_one 70 = .ok (.ldc 123, 2) := dk_18 123 (dk_at dksX10_one_3 0 rfl rfl)
theorem dX10_one_72 : decode cX10_one 72 = .ok (.invokevirtual 125, 3) := dk_182 0 125 (dk_at dksX10_one_3 2 rfl rfl)
theorem dX10_one_75 : decode cX10_one 75 = .ok (.aload_n 0, 1) := dk_42 (dk_at dksX10_one_3 5 rfl rfl)
theorem dX10_one_76 : decode cX10_one 76 = .ok (.dup, 1) := dk_89 (dk_at dksX10_one_3 6 rfl rfl)
theorem dX10_one_77 : decode cX10_one 77 = .ok (.getfield 116, 3) := dk_180 0 116 (dk_at dksX10_one_3 7 rfl rfl)
theorem dX10_one_80 : decode cX10_one 80 = .ok (.iconst 1, 1) := dk_4 (dk_at dksX10_one_3 10 rfl rfl)
theorem dX10_one_81 : decode cX10_one 81 = .ok (.isub, 1) := dk_100 (dk_at dksX10_one_3 11 rfl rfl)
theorem dX10_one_82 : decode cX10_one 82 = .ok (.putfield 116, 3) := dk_181 0 116 (dk_at dksX10_one_3 12 rfl rfl)
theorem dX10_one_85 : decode cX10_one 85 = .ok (.goto 63, 3) := dk_167 0 63 (dk_at dksX10_one_3 15 rfl rfl)
theorem dX10_one_88 : decode cX10_one 88 = .ok (.aload_n 0, 1) := dk_42 (dk_at dksX10_one_3 18 rfl rfl)
theorem dX10_one_89 : decode cX10_one 89 = .ok (.invokevirtual 129, 3) := dk_182 0 129 (dk_at dksX10_one_3 19 rfl rfl)
theorem dX10_one_92 : decode cX10_one 92 = .ok (.istore_n 3, 1) := dk_62 (dk_at dksX10_one_3 22 rfl rfl)
theorem dX10_one_93 : decode cX10_one 93 = .ok (.aload_n 0, 1) := dk_42 (dk_at dksX10_one_3 23 rfl rfl)
theorem dX10_one_94 : decode cX10_one 94 = .ok (.invokevirtual 65, 3) := dk_182 0 65 (dk_at dksX10_one_4 0 rfl rfl)
theorem dX10_one_97 : decode cX10_one 97 = .ok (.istore 4, 2) := dk_54 4 (dk_at dksX10_one_4 3 rfl rfl)
theorem dX10_one_99 : decode cX10_one 99 = .ok (.aload_n 0, 1) := dk_42 (dk_at dksX10_one_4 5 rfl rfl)
theorem dX10_one_100 : decode cX10_one 100 = .ok (.iload 4, 2) := dk_21 4 (dk_at dksX10_one_4 6 rfl rfl)
theorem dX10_one_102 : decode cX10_one 102 = .ok (.bipush 60, 2) := dk_16 60 (dk_at dksX10_one_4 8 rfl rfl)
theorem dX10_one_104 : decode cX10_one 104 = .ok (.if_icmp .eq 17, 3) := dk_159 0 17 (dk_at dksX10_one_4 10 rfl rfl)
theorem dX10_one_107 : decode cX10_one 107 = .ok (.iload 4, 2) := dk_21 4 (dk_at dksX10_one_4 13 rfl rfl)
theorem dX10_one_109 : decode cX10_one 109 = .ok (.bipush 61, 2) := dk_16 61 (dk_at dksX10_one_4 15 rfl rfl)
theorem dX10_one_111 : decode cX10_one 111 = .ok (.if_icmp .eq 10, 3) := dk_159 0 10 (dk_at dksX10_one_4 17 rfl rfl)
theorem dX10_one_114 : decode cX10_one 114 = .ok (.iload 4, 2) := dk_21 4 (dk_at dksX10_one_4 20 rfl rfl)
theorem dX10_one_116 : decode cX10_one 116 = .ok (.bipush 62, 2) := dk_16 62 (dk_at dksX10_one_4 22 rfl rfl)
theorem dX10_one_118 : decode cX10_one 118 = .ok (.if_icmp .ne 7, 3) := dk_160 0 7 (dk_at dksX10_one_5 0 rfl rfl)
theorem dX10_one_121 : decode cX10_one 121 = .ok (.iconst 1, 1) := dk_4 (dk_at dksX10_one_5 3 rfl rfl)
theorem dX10_one_122 : decode cX10_one 122 = .ok (.goto 4, 3) := dk_167 0 4 (dk_at dksX10_one_5 4 rfl rfl)
theorem dX10_one_125 : decode cX10_one 125 = .ok (.iconst 0, 1) := dk_3 (dk_at dksX10_one_5 7 rfl rfl)
theorem dX10_one_126 : decode cX10_one 126 = .ok (.invokevirtual 94, 3) := dk_182 0 94 (dk_at dksX10_one_5 8 rfl rfl)
theorem dX10_one_129 : decode cX10_one 129 = .ok (.aload_n 0, 1) := dk_42 (dk_at dksX10_one_5 11 rfl rfl)
theorem dX10_one_130 : decode cX10_one 130 = .ok (.invokevirtual 91, 3) := dk_182 0 91 (dk_at dksX10_one_5 12 rfl rfl)
theorem dX10_one_133 : decode cX10_one 133 = .ok (.new 132, 3) := dk_187 0 132 (dk_at dksX10_one_5 15 rfl rfl)
theorem dX10_one_136 : decode cX10_one 136 = .ok (.dup, 1) := dk_89 (dk_at dksX10_one_5 18 rfl rfl)
theorem dX10_one_137 : decode cX10_one 137 = .ok (.iload_n 3, 1) := dk_29 (dk_at dksX10_one_5 19 rfl rfl)
theorem dX10_one_138 : decode cX10_one 138 = .ok (.iload 4, 2) := dk_21 4 (dk_at dksX10_one_5 20 rfl rfl)
theorem dX10_one_140 : decode cX10_one 140 = .ok (.aload_n 0, 1) := dk_42 (dk_at dksX10_one_5 22 rfl rfl)
theorem dX10_one_141 : decode cX10_one 141 = .ok (.invokevirtual 129, 3) := dk_182 0 129 (dk_at dksX10_one_6 0 rfl rfl)
theorem dX10_one_144 : decode cX10_one 144 = .ok (.invokespecial 134, 3) := dk_183 0 134 (dk_at dksX10_one_6 3 rfl rfl)
theorem dX10_one_147 : decode cX10_one 147 = .ok (.astore_n 2, 1) := dk_77 (dk_at dksX10_one_6 6 rfl rfl)
theorem dX10_one_148 : decode cX10_one 148 = .ok (.iload_n 1, 1) := dk_27 (dk_at dksX10_one_6 7 rfl rfl)
theorem dX10_one_149 : decode cX10_one 149 = .ok (.ifCond .eq 14, 3) := dk_153 0 14 (dk_at dksX10_one_6 8 rfl rfl)
theorem dX10_one_152 : decode cX10_one 152 = .ok (.new 137, 3) := dk_187 0 137 (dk_at dksX10_one_6 11 rfl rfl)
theorem dX10_one_155 : decode cX10_one 155 = .ok (.dup, 1) := dk_89 (dk_at dksX10_one_6 14 rfl rfl)
theorem dX10_one_156 : decode cX10_one 156 = .ok (.aload_n 2, 1) := dk_44 (dk_at dksX10_one_6 15 rfl rfl)
theorem dX10_one_157 : decode cX10_one 157 = .ok (.invokespecial 139, 3) := dk_183 0 139 (dk_at dksX10_one_6 16 rfl rfl)
theorem dX10_one_160 : decode cX10_one 160 = .ok (.goto 4, 3) := dk_167 0 4 (dk_at dksX10_one_6 19 rfl rfl)
theorem dX10_one_163 : decode cX10_one 163 = .ok (.aload_n 2, 1) := dk_44 (dk_at dksX10_one_6 22 rfl rfl)
theorem dX10_one_164 : decode cX10_one 164 = .ok (.areturn, 1) := dk_176 (dk_at dksX10_one_6 23 rfl rfl)
abbrev cX10_may : ByteArray := prog_26_method_8_code
def yX10_may : MethodName := ⟨RX10, "may", "(Ljava/lang/String;)Z"⟩
def dkwX10_may_0 : List UInt8 := [42, 43, 182, 0, 87, 154, 0, 5, 3, 172, 42, 182, 0, 91, 4, 172]
abbrev dktX10_may_0 : List UInt8 := dkwX10_may_0 ++ []
theorem dksX10_may_0 : cX10_may.data.toList.drop 0 = dktX10_may_0 := by decide +kernel
theorem dX10_may_0 : decode cX10_may 0 = .ok (.aload_n 0, 1) := dk_42 (dk_at dksX10_may_0 0 rfl rfl)
theorem dX10_may_1 : decode cX10_may 1 = .ok (.aload_n 1, 1) := dk_43 (dk_at dksX10_may_0 1 rfl rfl)
theorem dX10_may_2 : decode cX10_may 2 = .ok (.invokevirtual 87, 3) := dk_182 0 87 (dk_at dksX10_may_0 2 rfl rfl)
theorem dX10_may_5 : decode cX10_may 5 = .ok (.ifCond .ne 5, 3) := dk_154 0 5 (dk_at dksX10_may_0 5 rfl rfl)
theorem dX10_may_8 : decode cX10_may 8 = .ok (.iconst 0, 1) := dk_3 (dk_at dksX10_may_0 8 rfl rfl)
theorem dX10_may_9 : decode cX10_may 9 = .ok (.ireturn, 1) := dk_172 (dk_at dksX10_may_0 9 rfl rfl)
theorem dX10_may_10 : decode cX10_may 10 = .ok (.aload_n 0, 1) := dk_42 (dk_at dksX10_may_0 10 rfl rfl)
theorem dX10_may_11 : decode cX10_may 11 = .ok (.invokevirtual 91, 3) := dk_182 0 91 (dk_at dksX10_may_0 11 rfl rfl)
theorem dX10_may_14 : decode cX10_may 14 = .ok (.iconst 1, 1) := dk_4 (dk_at dksX10_may_0 14 rfl rfl)
theorem dX10_may_15 : decode cX10_may 15 = .ok (.ireturn, 1) := dk_172 (dk_at dksX10_may_0 15 rfl rfl)
abbrev cX10_value : ByteArray := prog_26_method_13_code
def yX10_value : MethodName := ⟨RX10, "value", "()I"⟩
def dkwX10_value_3 : List UInt8 := [182, 0, 91, 2, 27, 100, 172]
abbrev dktX10_value_3 : List UInt8 := dkwX10_value_3 ++ []
def dkwX10_value_2 : List UInt8 := [167, 255, 231, 42, 27, 42, 180, 0, 23, 190, 162, 0, 7, 4, 167, 0, 4, 3, 182, 0, 94, 42]
abbrev dktX10_value_2 : List UInt8 := dkwX10_value_2 ++ dktX10_value_3
def dkwX10_value_1 : List UInt8 := [180, 0, 23, 190, 162, 0, 22, 42, 42, 180, 0, 23, 27, 50, 182, 0, 87, 154, 0, 9, 132, 1, 1]
abbrev dktX10_value_1 : List UInt8 := dkwX10_value_1 ++ dktX10_value_2
def dkwX10_value_0 : List UInt8 := [42, 182, 0, 65, 184, 0, 73, 153, 0, 12, 42, 3, 17, 39, 15, 182, 0, 106, 172, 3, 60, 27, 42]
abbrev dktX10_value_0 : List UInt8 := dkwX10_value_0 ++ dktX10_value_1
theorem dksX10_value_0 : cX10_value.data.toList.drop 0 = dktX10_value_0 := by decide +kernel
theorem dksX10_value_1 : cX10_value.data.toList.drop 23 = dktX10_value_1 := dk_seg dksX10_value_0 23 rfl rfl
theorem dksX10_value_2 : cX10_value.data.toList.drop 46 = dktX10_value_2 := dk_seg dksX10_value_1 23 rfl rfl
theorem dksX10_value_3 : cX10_value.data.toList.drop 68 = dktX10_value_3 := dk_seg dksX10_value_2 22 rfl rfl
theorem dX10_value_0 : decode cX10_value 0 = .ok (.aload_n 0, 1) := dk_42 (dk_at dksX10_value_0 0 rfl rfl)
theorem dX10_value_1 : decode cX10_value 1 = .ok (.invokevirtual 65, 3) := dk_182 0 65 (dk_at dksX10_value_0 1 rfl rfl)
theorem dX10_value_4 : decode cX10_value 4 = .ok (.invokestatic 73, 3) := dk_184 0 73 (dk_at dksX10_value_0 4 rfl rfl)
theorem dX10_value_7 : decode cX10_value 7 = .ok (.ifCond .eq 12, 3) := dk_153 0 12 (dk_at dksX10_value_0 7 rfl rfl)
theorem dX10_value_10 : decode cX10_value 10 = .ok (.aload_n 0, 1) := dk_42 (dk_at dksX10_value_0 10 rfl rfl)
theorem dX10_value_11 : decode cX10_value 11 = .ok (.iconst 0, 1) := dk_3 (dk_at dksX10_value_0 11 rfl rfl)
theorem dX10_value_12 : decode cX10_value 12 = .ok (.sipush 9999, 3) := dk_17 39 15 (dk_at dksX10_value_0 12 rfl rfl)
theorem dX10_value_15 : decode cX10_value 15 = .ok (.invokevirtual 106, 3) := dk_182 0 106 (dk_at dksX10_value_0 15 rfl rfl)
theorem dX10_value_18 : decode cX10_value 18 = .ok (.ireturn, 1) := dk_172 (dk_at dksX10_value_0 18 rfl rfl)
theorem dX10_value_19 : decode cX10_value 19 = .ok (.iconst 0, 1) := dk_3 (dk_at dksX10_value_0 19 rfl rfl)
theorem dX10_value_20 : decode cX10_value 20 = .ok (.istore_n 1, 1) := dk_60 (dk_at dksX10_value_0 20 rfl rfl)
theorem dX10_value_21 : decode cX10_value 21 = .ok (.iload_n 1, 1) := dk_27 (dk_at dksX10_value_0 21 rfl rfl)
theorem dX10_value_22 : decode cX10_value 22 = .ok (.aload_n 0, 1) := dk_42 (dk_at dksX10_value_0 22 rfl rfl)
theorem dX10_value_23 : decode cX10_value 23 = .ok (.getfield 23, 3) := dk_180 0 23 (dk_at dksX10_value_1 0 rfl rfl)
theorem dX10_value_26 : decode cX10_value 26 = .ok (.arraylength, 1) := dk_190 (dk_at dksX10_value_1 3 rfl rfl)
theorem dX10_value_27 : decode cX10_value 27 = .ok (.if_icmp .ge 22, 3) := dk_162 0 22 (dk_at dksX10_value_1 4 rfl rfl)
theorem dX10_value_30 : decode cX10_value 30 = .ok (.aload_n 0, 1) := dk_42 (dk_at dksX10_value_1 7 rfl rfl)
theorem dX10_value_31 : decode cX10_value 31 = .ok (.aload_n 0, 1) := dk_42 (dk_at dksX10_value_1 8 rfl rfl)
theorem dX10_value_32 : decode cX10_value 32 = .ok (.getfield 23, 3) := dk_180 0 23 (dk_at dksX10_value_1 9 rfl rfl)
theorem dX10_value_35 : decode cX10_value 35 = .ok (.iload_n 1, 1) := dk_27 (dk_at dksX10_value_1 12 rfl rfl)
theorem dX10_value_36 : decode cX10_value 36 = .ok (.aaload, 1) := dk_50 (dk_at dksX10_value_1 13 rfl rfl)
theorem dX10_value_37 : decode cX10_value 37 = .ok (.invokevirtual 87, 3) := dk_182 0 87 (dk_at dksX10_value_1 14 rfl rfl)
theorem dX10_value_40 : decode cX10_value 40 = .ok (.ifCond .ne 9, 3) := dk_154 0 9 (dk_at dksX10_value_1 17 rfl rfl)
theorem dX10_value_43 : decode cX10_value 43 = .ok (.iinc 1 1, 3) := dk_132 1 1 (dk_at dksX10_value_1 20 rfl rfl)
theorem dX10_value_46 : decode cX10_value 46 = .ok (.goto (-25), 3) := dk_167 255 231 (dk_at dksX10_value_2 0 rfl rfl)
theorem dX10_value_49 : decode cX10_value 49 = .ok (.aload_n 0, 1) := dk_42 (dk_at dksX10_value_2 3 rfl rfl)
theorem dX10_value_50 : decode cX10_value 50 = .ok (.iload_n 1, 1) := dk_27 (dk_at dksX10_value_2 4 rfl rfl)
theorem dX10_value_51 : decode cX10_value 51 = .ok (.aload_n 0, 1) := dk_42 (dk_at dksX10_value_2 5 rfl rfl)
theorem dX10_value_52 : decode cX10_value 52 = .ok (.getfield 23, 3) := dk_180 0 23 (dk_at dksX10_value_2 6 rfl rfl)
theorem dX10_value_55 : decode cX10_value 55 = .ok (.arraylength, 1) := dk_190 (dk_at dksX10_value_2 9 rfl rfl)
theorem dX10_value_56 : decode cX10_value 56 = .ok (.if_icmp .ge 7, 3) := dk_162 0 7 (dk_at dksX10_value_2 10 rfl rfl)
theorem dX10_value_59 : decode cX10_value 59 = .ok (.iconst 1, 1) := dk_4 (dk_at dksX10_value_2 13 rfl rfl)
theorem dX10_value_60 : decode cX10_value 60 = .ok (.goto 4, 3) := dk_167 0 4 (dk_at dksX10_value_2 14 rfl rfl)
theorem dX10_value_63 : decode cX10_value 63 = .ok (.iconst 0, 1) := dk_3 (dk_at dksX10_value_2 17 rfl rfl)
theorem dX10_value_64 : decode cX10_value 64 = .ok (.invokevirtual 94, 3) := dk_182 0 94 (dk_at dksX10_value_2 18 rfl rfl)
theorem dX10_value_67 : decode cX10_value 67 = .ok (.aload_n 0, 1) := dk_42 (dk_at dksX10_value_2 21 rfl rfl)
theorem dX10_value_68 : decode cX10_value 68 = .ok (.invokevirtual 91, 3) := dk_182 0 91 (dk_at dksX10_value_3 0 rfl rfl)
theorem dX10_value_71 : decode cX10_value 71 = .ok (.iconst (-1), 1) := dk_2 (dk_at dksX10_value_3 3 rfl rfl)
theorem dX10_value_72 : decode cX10_value 72 = .ok (.iload_n 1, 1) := dk_27 (dk_at dksX10_value_3 4 rfl rfl)
theorem dX10_value_73 : decode cX10_value 73 = .ok (.isub, 1) := dk_100 (dk_at dksX10_value_3 5 rfl rfl)
theorem dX10_value_74 : decode cX10_value 74 = .ok (.ireturn, 1) := dk_172 (dk_at dksX10_value_3 6 rfl rfl)
abbrev cX10_number : ByteArray := prog_26_method_11_code
def yX10_number : MethodName := ⟨RX10, "number", "(II)I"⟩
def dkwX10_number_0 : List UInt8 := [42, 27, 28, 182, 0, 102, 62, 42, 182, 0, 91, 29, 172]
abbrev dktX10_number_0 : List UInt8 := dkwX10_number_0 ++ []
theorem dksX10_number_0 : cX10_number.data.toList.drop 0 = dktX10_number_0 := by decide +kernel
theorem dX10_number_0 : decode cX10_number 0 = .ok (.aload_n 0, 1) := dk_42 (dk_at dksX10_number_0 0 rfl rfl)
theorem dX10_number_1 : decode cX10_number 1 = .ok (.iload_n 1, 1) := dk_27 (dk_at dksX10_number_0 1 rfl rfl)
theorem dX10_number_2 : decode cX10_number 2 = .ok (.iload_n 2, 1) := dk_28 (dk_at dksX10_number_0 2 rfl rfl)
theorem dX10_number_3 : decode cX10_number 3 = .ok (.invokevirtual 102, 3) := dk_182 0 102 (dk_at dksX10_number_0 3 rfl rfl)
theorem dX10_number_6 : decode cX10_number 6 = .ok (.istore_n 3, 1) := dk_62 (dk_at dksX10_number_0 6 rfl rfl)
theorem dX10_number_7 : decode cX10_number 7 = .ok (.aload_n 0, 1) := dk_42 (dk_at dksX10_number_0 7 rfl rfl)
theorem dX10_number_8 : decode cX10_number 8 = .ok (.invokevirtual 91, 3) := dk_182 0 91 (dk_at dksX10_number_0 8 rfl rfl)
theorem dX10_number_11 : decode cX10_number 11 = .ok (.iload_n 3, 1) := dk_29 (dk_at dksX10_number_0 11 rfl rfl)
theorem dX10_number_12 : decode cX10_number 12 = .ok (.ireturn, 1) := dk_172 (dk_at dksX10_number_0 12 rfl rfl)
abbrev cX10_seen : ByteArray := prog_26_method_10_code
def yX10_seen : MethodName := ⟨RX10, "seen", "(II)I"⟩
def dkwX10_seen_3 : List UInt8 := [167, 255, 228, 42, 29, 27, 28, 184, 0, 98, 182, 0, 94, 29, 172]
abbrev dktX10_seen_3 : List UInt8 := dkwX10_seen_3 ++ []
def dkwX10_seen_2 : List UInt8 := [162, 0, 25, 16, 10, 29, 104, 42, 180, 0, 58, 21, 4, 51, 96, 16, 48, 100, 62, 132, 4, 1]
abbrev dktX10_seen_2 : List UInt8 := dkwX10_seen_2 ++ dktX10_seen_3
def dkwX10_seen_1 : List UInt8 := [4, 167, 0, 4, 3, 182, 0, 94, 3, 62, 42, 180, 0, 51, 54, 4, 21, 4, 42, 180, 0, 62]
abbrev dktX10_seen_1 : List UInt8 := dkwX10_seen_1 ++ dktX10_seen_2
def dkwX10_seen_0 : List UInt8 := [42, 42, 182, 0, 65, 184, 0, 73, 153, 0, 20, 42, 180, 0, 62, 42, 180, 0, 51, 100, 7, 163, 0, 7]
abbrev dktX10_seen_0 : List UInt8 := dkwX10_seen_0 ++ dktX10_seen_1
theorem dksX10_seen_0 : cX10_seen.data.toList.drop 0 = dktX10_seen_0 := by decide +kernel
theorem dksX10_seen_1 : cX10_seen.data.toList.drop 24 = dktX10_seen_1 := dk_seg dksX10_seen_0 24 rfl rfl
theorem dksX10_seen_2 : cX10_seen.data.toList.drop 46 = dktX10_seen_2 := dk_seg dksX10_seen_1 22 rfl rfl
theorem dksX10_seen_3 : cX10_seen.data.toList.drop 68 = dktX10_seen_3 := dk_seg dksX10_seen_2 22 rfl rfl
theorem dX10_seen_0 : decode cX10_seen 0 = .ok (.aload_n 0, 1) := dk_42 (dk_at dksX10_seen_0 0 rfl rfl)
theorem dX10_seen_1 : decode cX10_seen 1 = .ok (.aload_n 0, 1) := dk_42 (dk_at dksX10_seen_0 1 rfl rfl)
theorem dX10_seen_2 : decode cX10_seen 2 = .ok (.invokevirtual 65, 3) := dk_182 0 65 (dk_at dksX10_seen_0 2 rfl rfl)
theorem dX10_seen_5 : decode cX10_seen 5 = .ok (.invokestatic 73, 3) := dk_184 0 73 (dk_at dksX10_seen_0 5 rfl rfl)
theorem dX10_seen_8 : decode cX10_seen 8 = .ok (.ifCond .eq 20, 3) := dk_153 0 20 (dk_at dksX10_seen_0 8 rfl rfl)
theorem dX10_seen_11 : decode cX10_seen 11 = .ok (.aload_n 0, 1) := dk_42 (dk_at dksX10_seen_0 11 rfl rfl)
theorem dX10_seen_12 : decode cX10_seen 12 = .ok (.getfield 62, 3) := dk_180 0 62 (dk_at dksX10_seen_0 12 rfl rfl)
theorem dX10_seen_15 : decode cX10_seen 15 = .ok (.aload_n 0, 1) := dk_42 (dk_at dksX10_seen_0 15 rfl rfl)
theorem dX10_seen_16 : decode cX10_seen 16 = .ok (.getfield 51, 3) := dk_180 0 51 (dk_at dksX10_seen_0 16 rfl rfl)
theorem dX10_seen_19 : decode cX10_seen 19 = .ok (.isub, 1) := dk_100 (dk_at dksX10_seen_0 19 rfl rfl)
theorem dX10_seen_20 : decode cX10_seen 20 = .ok (.iconst 4, 1) := dk_7 (dk_at dksX10_seen_0 20 rfl rfl)
theorem dX10_seen_21 : decode cX10_seen 21 = .ok (.if_icmp .gt 7, 3) := dk_163 0 7 (dk_at dksX10_seen_0 21 rfl rfl)
theorem dX10_seen_24 : decode cX10_seen 24 = .ok (.iconst 1, 1) := dk_4 (dk_at dksX10_seen_1 0 rfl rfl)
theorem dX10_seen_25 : decode cX10_seen 25 = .ok (.goto 4, 3) := dk_167 0 4 (dk_at dksX10_seen_1 1 rfl rfl)
theorem dX10_seen_28 : decode cX10_seen 28 = .ok (.iconst 0, 1) := dk_3 (dk_at dksX10_seen_1 4 rfl rfl)
theorem dX10_seen_29 : decode cX10_seen 29 = .ok (.invokevirtual 94, 3) := dk_182 0 94 (dk_at dksX10_seen_1 5 rfl rfl)
theorem dX10_seen_32 : decode cX10_seen 32 = .ok (.iconst 0, 1) := dk_3 (dk_at dksX10_seen_1 8 rfl rfl)
theorem dX10_seen_33 : decode cX10_seen 33 = .ok (.istore_n 3, 1) := dk_62 (dk_at dksX10_seen_1 9 rfl rfl)
theorem dX10_seen_34 : decode cX10_seen 34 = .ok (.aload_n 0, 1) := dk_42 (dk_at dksX10_seen_1 10 rfl rfl)
theorem dX10_seen_35 : decode cX10_seen 35 = .ok (.getfield 51, 3) := dk_180 0 51 (dk_at dksX10_seen_1 11 rfl rfl)
theorem dX10_seen_38 : decode cX10_seen 38 = .ok (.istore 4, 2) := dk_54 4 (dk_at dksX10_seen_1 14 rfl rfl)
theorem dX10_seen_40 : decode cX10_seen 40 = .ok (.iload 4, 2) := dk_21 4 (dk_at dksX10_seen_1 16 rfl rfl)
theorem dX10_seen_42 : decode cX10_seen 42 = .ok (.aload_n 0, 1) := dk_42 (dk_at dksX10_seen_1 18 rfl rfl)
theorem dX10_seen_43 : decode cX10_seen 43 = .ok (.getfield 62, 3) := dk_180 0 62 (dk_at dksX10_seen_1 19 rfl rfl)
theorem dX10_seen_46 : decode cX10_seen 46 = .ok (.if_icmp .ge 25, 3) := dk_162 0 25 (dk_at dksX10_seen_2 0 rfl rfl)
theorem dX10_seen_49 : decode cX10_seen 49 = .ok (.bipush 10, 2) := dk_16 10 (dk_at dksX10_seen_2 3 rfl rfl)
theorem dX10_seen_51 : decode cX10_seen 51 = .ok (.iload_n 3, 1) := dk_29 (dk_at dksX10_seen_2 5 rfl rfl)
theorem dX10_seen_52 : decode cX10_seen 52 = .ok (.imul, 1) := dk_104 (dk_at dksX10_seen_2 6 rfl rfl)
theorem dX10_seen_53 : decode cX10_seen 53 = .ok (.aload_n 0, 1) := dk_42 (dk_at dksX10_seen_2 7 rfl rfl)
theorem dX10_seen_54 : decode cX10_seen 54 = .ok (.getfield 58, 3) := dk_180 0 58 (dk_at dksX10_seen_2 8 rfl rfl)
theorem dX10_seen_57 : decode cX10_seen 57 = .ok (.iload 4, 2) := dk_21 4 (dk_at dksX10_seen_2 11 rfl rfl)
theorem dX10_seen_59 : decode cX10_seen 59 = .ok (.baload, 1) := dk_51 (dk_at dksX10_seen_2 13 rfl rfl)
theorem dX10_seen_60 : decode cX10_seen 60 = .ok (.iadd, 1) := dk_96 (dk_at dksX10_seen_2 14 rfl rfl)
theorem dX10_seen_61 : decode cX10_seen 61 = .ok (.bipush 48, 2) := dk_16 48 (dk_at dksX10_seen_2 15 rfl rfl)
theorem dX10_seen_63 : decode cX10_seen 63 = .ok (.isub, 1) := dk_100 (dk_at dksX10_seen_2 17 rfl rfl)
theorem dX10_seen_64 : decode cX10_seen 64 = .ok (.istore_n 3, 1) := dk_62 (dk_at dksX10_seen_2 18 rfl rfl)
theorem dX10_seen_65 : decode cX10_seen 65 = .ok (.iinc 4 1, 3) := dk_132 4 1 (dk_at dksX10_seen_2 19 rfl rfl)
theorem dX10_seen_68 : decode cX10_seen 68 = .ok (.goto (-28), 3) := dk_167 255 228 (dk_at dksX10_seen_3 0 rfl rfl)
theorem dX10_seen_71 : decode cX10_seen 71 = .ok (.aload_n 0, 1) := dk_42 (dk_at dksX10_seen_3 3 rfl rfl)
theorem dX10_seen_72 : decode cX10_seen 72 = .ok (.iload_n 3, 1) := dk_29 (dk_at dksX10_seen_3 4 rfl rfl)
theorem dX10_seen_73 : decode cX10_seen 73 = .ok (.iload_n 1, 1) := dk_27 (dk_at dksX10_seen_3 5 rfl rfl)
theorem dX10_seen_74 : decode cX10_seen 74 = .ok (.iload_n 2, 1) := dk_28 (dk_at dksX10_seen_3 6 rfl rfl)
theorem dX10_seen_75 : decode cX10_seen 75 = .ok (.invokestatic 98, 3) := dk_184 0 98 (dk_at dksX10_seen_3 7 rfl rfl)
theorem dX10_seen_78 : decode cX10_seen 78 = .ok (.invokevirtual 94, 3) := dk_182 0 94 (dk_at dksX10_seen_3 10 rfl rfl)
theorem dX10_seen_81 : decode cX10_seen 81 = .ok (.iload_n 3, 1) := dk_29 (dk_at dksX10_seen_3 13 rfl rfl)
theorem dX10_seen_82 : decode cX10_seen 82 = .ok (.ireturn, 1) := dk_172 (dk_at dksX10_seen_3 14 rfl rfl)
theorem q93 : (Jvm.Cond.initialized "ColdBox$Reader") ∈ lw_all := lw_g (lw_at lw_m1 11 rfl) rfl
theorem q187 : (Jvm.Cond.fieldLinkNest "ColdBox$Reader" (162 : Nat) "ColdBox$Winter" "clauses" "I" "ColdBox") ∈ lw_tbl := lw_at lw_m1 105 rfl
theorem q204 : (Jvm.Cond.fieldLinkNest "ColdBox$Reader" (169 : Nat) "ColdBox$Winter" "to" "[I" "ColdBox") ∈ lw_tbl := lw_at lw_m1 122 rfl
theorem q206 : (Jvm.Cond.fieldLinkNest "ColdBox$Reader" (172 : Nat) "ColdBox$Winter" "conds" "[LColdBox$Cond;" "ColdBox") ∈ lw_tbl := lw_at lw_m1 124 rfl
theorem q316 : (Jvm.Cond.instantiable "ColdBox$Reader" (9 : Nat)) ∈ lw_all := lw_g (lw_at lw_m1 234 rfl) rfl
theorem q318 : (Jvm.Cond.instanceMethod ({ cls := "ColdBox$Reader", name := "<init>", desc := "(LColdBox$Winter;)V" } : Jvm.MethodName)) ∈ lw_all := lw_g (lw_at lw_m1 236 rfl) rfl
theorem q319 : (Jvm.Cond.code ({ cls := "ColdBox$Reader", name := "<init>", desc := "(LColdBox$Winter;)V" } : Jvm.MethodName) prog_26_method_1_code (2 : Nat) (Option.none : Option Jvm.ClassFile.FieldType)) ∈ lw_all := lw_g (lw_at lw_m1 237 rfl) rfl
theorem q320 : (Jvm.Cond.methodLink "ColdBox$Reader" (3 : Nat) ({ cls := "java/lang/Object", name := "<init>", desc := "()V" } : Jvm.MethodName)) ∈ lw_all := lw_g (lw_at lw_m1 238 rfl) rfl
theorem q321 : (Jvm.Cond.classLink "ColdBox$Reader" (9 : Nat) "java/lang/String") ∈ lw_all := lw_g (lw_at lw_m1 239 rfl) rfl
theorem q323 : (Jvm.Cond.stringRef "ColdBox$Reader" (11 : Nat) "week") ∈ lw_tbl := lw_at lw_m2 1 rfl
theorem q324 : (Jvm.Cond.stringRef "ColdBox$Reader" (13 : Nat) "loss") ∈ lw_tbl := lw_at lw_m2 2 rfl
theorem q325 : (Jvm.Cond.stringRef "ColdBox$Reader" (15 : Nat) "fat") ∈ lw_tbl := lw_at lw_m2 3 rfl
theorem q326 : (Jvm.Cond.stringRef "ColdBox$Reader" (17 : Nat) "water") ∈ lw_tbl := lw_at lw_m2 4 rfl
theorem q327 : (Jvm.Cond.stringRef "ColdBox$Reader" (19 : Nat) "eyes") ∈ lw_tbl := lw_at lw_m2 5 rfl
theorem q328 : (Jvm.Cond.stringRef "ColdBox$Reader" (21 : Nat) "out") ∈ lw_tbl := lw_at lw_m2 6 rfl
theorem q329 : (Jvm.Cond.stringRef "ColdBox$Reader" (29 : Nat) "shed") ∈ lw_tbl := lw_at lw_m2 7 rfl
theorem q330 : (Jvm.Cond.stringRef "ColdBox$Reader" (31 : Nat) "box") ∈ lw_tbl := lw_at lw_m2 8 rfl
theorem q331 : (Jvm.Cond.stringRef "ColdBox$Reader" (33 : Nat) "fridge") ∈ lw_tbl := lw_at lw_m2 9 rfl
theorem q332 : (Jvm.Cond.stringRef "ColdBox$Reader" (35 : Nat) "ground") ∈ lw_tbl := lw_at lw_m2 10 rfl
theorem q333 : (Jvm.Cond.classLink "ColdBox$Reader" (40 : Nat) "ColdBox$Fault") ∈ lw_all := lw_g (lw_at lw_m2 11 rfl) rfl
theorem q377 : (Jvm.Cond.methodLink "ColdBox$Reader" (42 : Nat) ({ cls := "ColdBox$Fault", name := "<init>", desc := "()V" } : Jvm.MethodName)) ∈ lw_all := lw_g (lw_at lw_m2 55 rfl) rfl
theorem q407 : (Jvm.Cond.fieldLink "ColdBox$Reader" (23 : Nat) "ColdBox$Reader" "facts" "[Ljava/lang/String;") ∈ lw_all := lw_g (lw_at lw_m2 85 rfl) rfl
theorem q408 : (Jvm.Cond.fieldLink "ColdBox$Reader" (37 : Nat) "ColdBox$Reader" "acts" "[Ljava/lang/String;") ∈ lw_all := lw_g (lw_at lw_m2 86 rfl) rfl
theorem q409 : (Jvm.Cond.fieldLink "ColdBox$Reader" (116 : Nat) "ColdBox$Reader" "open" "I") ∈ lw_all := lw_g (lw_at lw_m2 87 rfl) rfl
theorem q410 : (Jvm.Cond.fieldLink "ColdBox$Reader" (43 : Nat) "ColdBox$Reader" "fault" "LColdBox$Fault;") ∈ lw_all := lw_g (lw_at lw_m2 88 rfl) rfl
theorem q411 : (Jvm.Cond.fieldLink "ColdBox$Reader" (47 : Nat) "ColdBox$Reader" "w" "LColdBox$Winter;") ∈ lw_all := lw_g (lw_at lw_m2 89 rfl) rfl
theorem q412 : (Jvm.Cond.fieldLink "ColdBox$Reader" (58 : Nat) "ColdBox$Reader" "text" "[B") ∈ lw_all := lw_g (lw_at lw_m2 90 rfl) rfl
theorem q413 : (Jvm.Cond.fieldLink "ColdBox$Reader" (55 : Nat) "ColdBox$Reader" "many" "I") ∈ lw_all := lw_g (lw_at lw_m2 91 rfl) rfl
theorem q414 : (Jvm.Cond.fieldLink "ColdBox$Reader" (51 : Nat) "ColdBox$Reader" "from" "I") ∈ lw_all := lw_g (lw_at lw_m2 92 rfl) rfl
theorem q415 : (Jvm.Cond.fieldLink "ColdBox$Reader" (62 : Nat) "ColdBox$Reader" "to" "I") ∈ lw_all := lw_g (lw_at lw_m2 93 rfl) rfl
theorem q416 : (Jvm.Cond.laysFinal "ColdBox$Reader" "ColdBox$Reader" "facts" "[Ljava/lang/String;") ∈ lw_all := lw_g (lw_at lw_m2 94 rfl) rfl
theorem q417 : (Jvm.Cond.soleField "ColdBox$Reader" "facts") ∈ lw_all := lw_g (lw_at lw_m2 95 rfl) rfl
theorem q418 : (Jvm.Cond.laysFinal "ColdBox$Reader" "ColdBox$Reader" "acts" "[Ljava/lang/String;") ∈ lw_all := lw_g (lw_at lw_m2 96 rfl) rfl
theorem q419 : (Jvm.Cond.soleField "ColdBox$Reader" "acts") ∈ lw_all := lw_g (lw_at lw_m2 97 rfl) rfl
theorem q420 : (Jvm.Cond.lays "ColdBox$Reader" "ColdBox$Reader" "open" "I") ∈ lw_all := lw_g (lw_at lw_m2 98 rfl) rfl
theorem q421 : (Jvm.Cond.soleField "ColdBox$Reader" "open") ∈ lw_all := lw_g (lw_at lw_m2 99 rfl) rfl
theorem q422 : (Jvm.Cond.laysFinal "ColdBox$Reader" "ColdBox$Reader" "fault" "LColdBox$Fault;") ∈ lw_all := lw_g (lw_at lw_m2 100 rfl) rfl
theorem q423 : (Jvm.Cond.soleField "ColdBox$Reader" "fault") ∈ lw_all := lw_g (lw_at lw_m2 101 rfl) rfl
theorem q424 : (Jvm.Cond.laysFinal "ColdBox$Reader" "ColdBox$Reader" "w" "LColdBox$Winter;") ∈ lw_all := lw_g (lw_at lw_m2 102 rfl) rfl
theorem q425 : (Jvm.Cond.soleField "ColdBox$Reader" "w") ∈ lw_all := lw_g (lw_at lw_m2 103 rfl) rfl
theorem q426 : (Jvm.Cond.lays "ColdBox$Reader" "ColdBox$Reader" "text" "[B") ∈ lw_all := lw_g (lw_at lw_m2 104 rfl) rfl
theorem q427 : (Jvm.Cond.soleField "ColdBox$Reader" "text") ∈ lw_all := lw_g (lw_at lw_m2 105 rfl) rfl
theorem q428 : (Jvm.Cond.lays "ColdBox$Reader" "ColdBox$Reader" "many" "I") ∈ lw_all := lw_g (lw_at lw_m2 106 rfl) rfl
theorem q429 : (Jvm.Cond.soleField "ColdBox$Reader" "many") ∈ lw_all := lw_g (lw_at lw_m2 107 rfl) rfl
theorem q430 : (Jvm.Cond.lays "ColdBox$Reader" "ColdBox$Reader" "from" "I") ∈ lw_all := lw_g (lw_at lw_m2 108 rfl) rfl
theorem q431 : (Jvm.Cond.soleField "ColdBox$Reader" "from") ∈ lw_all := lw_g (lw_at lw_m2 109 rfl) rfl
theorem q432 : (Jvm.Cond.lays "ColdBox$Reader" "ColdBox$Reader" "to" "I") ∈ lw_all := lw_g (lw_at lw_m2 110 rfl) rfl
theorem q433 : (Jvm.Cond.soleField "ColdBox$Reader" "to") ∈ lw_all := lw_g (lw_at lw_m2 111 rfl) rfl
theorem q434 : (Jvm.Cond.superclass "ColdBox$Reader" "java/lang/Object") ∈ lw_all := lw_g (lw_at lw_m2 112 rfl) rfl
theorem q656 : (Jvm.Cond.instanceMethod ({ cls := "ColdBox$Reader", name := "read", desc := "([BI)V" } : Jvm.MethodName)) ∈ lw_all := lw_g (lw_at lw_m3 94 rfl) rfl
theorem q657 : (Jvm.Cond.selects "ColdBox$Reader" ({ cls := "ColdBox$Reader", name := "read", desc := "([BI)V" } : Jvm.MethodName) ({ cls := "ColdBox$Reader", name := "read", desc := "([BI)V" } : Jvm.MethodName)) ∈ lw_all := lw_g (lw_at lw_m3 95 rfl) rfl
theorem q658 : (Jvm.Cond.code ({ cls := "ColdBox$Reader", name := "read", desc := "([BI)V" } : Jvm.MethodName) prog_26_method_18_code (3 : Nat) (Option.none : Option Jvm.ClassFile.FieldType)) ∈ lw_all := lw_g (lw_at lw_m3 96 rfl) rfl
theorem q659 : (Jvm.Cond.methodLink "ColdBox$Reader" (178 : Nat) ({ cls := "ColdBox$Reader", name := "begins", desc := "([BI)V" } : Jvm.MethodName)) ∈ lw_all := lw_g (lw_at lw_m3 97 rfl) rfl
theorem q660 : (Jvm.Cond.privateMethod ({ cls := "ColdBox$Reader", name := "begins", desc := "([BI)V" } : Jvm.MethodName)) ∈ lw_tbl := lw_at lw_m3 98 rfl
theorem q661 : (Jvm.Cond.instanceMethod ({ cls := "ColdBox$Reader", name := "begins", desc := "([BI)V" } : Jvm.MethodName)) ∈ lw_all := lw_g (lw_at lw_m3 99 rfl) rfl
theorem q662 : (Jvm.Cond.code ({ cls := "ColdBox$Reader", name := "begins", desc := "([BI)V" } : Jvm.MethodName) prog_26_method_12_code (3 : Nat) (Option.none : Option Jvm.ClassFile.FieldType)) ∈ lw_all := lw_g (lw_at lw_m3 100 rfl) rfl
theorem q663 : (Jvm.Cond.methodLink "ColdBox$Reader" (91 : Nat) ({ cls := "ColdBox$Reader", name := "next", desc := "()V" } : Jvm.MethodName)) ∈ lw_all := lw_g (lw_at lw_m3 101 rfl) rfl
theorem q664 : (Jvm.Cond.privateMethod ({ cls := "ColdBox$Reader", name := "next", desc := "()V" } : Jvm.MethodName)) ∈ lw_tbl := lw_at lw_m3 102 rfl
theorem q665 : (Jvm.Cond.instanceMethod ({ cls := "ColdBox$Reader", name := "next", desc := "()V" } : Jvm.MethodName)) ∈ lw_all := lw_g (lw_at lw_m3 103 rfl) rfl
theorem q666 : (Jvm.Cond.code ({ cls := "ColdBox$Reader", name := "next", desc := "()V" } : Jvm.MethodName) prog_26_method_5_code (3 : Nat) (Option.none : Option Jvm.ClassFile.FieldType)) ∈ lw_all := lw_g (lw_at lw_m3 104 rfl) rfl
theorem q667 : (Jvm.Cond.methodLink "ColdBox$Reader" (65 : Nat) ({ cls := "ColdBox$Reader", name := "here", desc := "()I" } : Jvm.MethodName)) ∈ lw_all := lw_g (lw_at lw_m3 105 rfl) rfl
theorem q668 : (Jvm.Cond.privateMethod ({ cls := "ColdBox$Reader", name := "here", desc := "()I" } : Jvm.MethodName)) ∈ lw_tbl := lw_at lw_m3 106 rfl
theorem q669 : (Jvm.Cond.instanceMethod ({ cls := "ColdBox$Reader", name := "here", desc := "()I" } : Jvm.MethodName)) ∈ lw_all := lw_g (lw_at lw_m3 107 rfl) rfl
theorem q670 : (Jvm.Cond.code ({ cls := "ColdBox$Reader", name := "here", desc := "()I" } : Jvm.MethodName) prog_26_method_2_code (1 : Nat) (Option.some Jvm.ClassFile.FieldType.int)) ∈ lw_all := lw_g (lw_at lw_m3 108 rfl) rfl
theorem q671 : (Jvm.Cond.methodLink "ColdBox$Reader" (69 : Nat) ({ cls := "ColdBox$Reader", name := "isLetter", desc := "(I)Z" } : Jvm.MethodName)) ∈ lw_all := lw_g (lw_at lw_m3 109 rfl) rfl
theorem q672 : (Jvm.Cond.static ({ cls := "ColdBox$Reader", name := "isLetter", desc := "(I)Z" } : Jvm.MethodName)) ∈ lw_all := lw_g (lw_at lw_m3 110 rfl) rfl
theorem q673 : (Jvm.Cond.code ({ cls := "ColdBox$Reader", name := "isLetter", desc := "(I)Z" } : Jvm.MethodName) prog_26_method_4_code (1 : Nat) (Option.some Jvm.ClassFile.FieldType.boolean)) ∈ lw_all := lw_g (lw_at lw_m3 111 rfl) rfl
theorem q674 : (Jvm.Cond.methodLink "ColdBox$Reader" (73 : Nat) ({ cls := "ColdBox$Reader", name := "isDigit", desc := "(I)Z" } : Jvm.MethodName)) ∈ lw_all := lw_g (lw_at lw_m3 112 rfl) rfl
theorem q675 : (Jvm.Cond.static ({ cls := "ColdBox$Reader", name := "isDigit", desc := "(I)Z" } : Jvm.MethodName)) ∈ lw_all := lw_g (lw_at lw_m3 113 rfl) rfl
theorem q676 : (Jvm.Cond.code ({ cls := "ColdBox$Reader", name := "isDigit", desc := "(I)Z" } : Jvm.MethodName) prog_26_method_3_code (1 : Nat) (Option.some Jvm.ClassFile.FieldType.boolean)) ∈ lw_all := lw_g (lw_at lw_m3 114 rfl) rfl
theorem q677 : (Jvm.Cond.methodLink "ColdBox$Reader" (182 : Nat) ({ cls := "ColdBox$Reader", name := "clause", desc := "()V" } : Jvm.MethodName)) ∈ lw_all := lw_g (lw_at lw_m3 115 rfl) rfl
theorem q678 : (Jvm.Cond.privateMethod ({ cls := "ColdBox$Reader", name := "clause", desc := "()V" } : Jvm.MethodName)) ∈ lw_tbl := lw_at lw_m3 116 rfl
theorem q679 : (Jvm.Cond.instanceMethod ({ cls := "ColdBox$Reader", name := "clause", desc := "()V" } : Jvm.MethodName)) ∈ lw_all := lw_g (lw_at lw_m3 117 rfl) rfl
theorem q680 : (Jvm.Cond.code ({ cls := "ColdBox$Reader", name := "clause", desc := "()V" } : Jvm.MethodName) prog_26_method_17_code (2 : Nat) (Option.none : Option Jvm.ClassFile.FieldType)) ∈ lw_all := lw_g (lw_at lw_m3 118 rfl) rfl
theorem q681 : (Jvm.Cond.methodLink "ColdBox$Reader" (87 : Nat) ({ cls := "ColdBox$Reader", name := "isWord", desc := "(Ljava/lang/String;)Z" } : Jvm.MethodName)) ∈ lw_all := lw_g (lw_at lw_m3 119 rfl) rfl
theorem q682 : (Jvm.Cond.privateMethod ({ cls := "ColdBox$Reader", name := "isWord", desc := "(Ljava/lang/String;)Z" } : Jvm.MethodName)) ∈ lw_tbl := lw_at lw_m3 120 rfl
theorem q683 : (Jvm.Cond.instanceMethod ({ cls := "ColdBox$Reader", name := "isWord", desc := "(Ljava/lang/String;)Z" } : Jvm.MethodName)) ∈ lw_all := lw_g (lw_at lw_m3 121 rfl) rfl
theorem q684 : (Jvm.Cond.code ({ cls := "ColdBox$Reader", name := "isWord", desc := "(Ljava/lang/String;)Z" } : Jvm.MethodName) prog_26_method_7_code (4 : Nat) (Option.some Jvm.ClassFile.FieldType.boolean)) ∈ lw_all := lw_g (lw_at lw_m3 122 rfl) rfl
theorem q685 : (Jvm.Cond.methodLink "ColdBox$Reader" (80 : Nat) ({ cls := "java/lang/String", name := "length", desc := "()I" } : Jvm.MethodName)) ∈ lw_all := lw_g (lw_at lw_m3 123 rfl) rfl
theorem q695 : (Jvm.Cond.methodLink "ColdBox$Reader" (83 : Nat) ({ cls := "java/lang/String", name := "charAt", desc := "(I)C" } : Jvm.MethodName)) ∈ lw_all := lw_g (lw_at lw_m3 133 rfl) rfl
theorem q733 : (Jvm.Cond.stringRef "ColdBox$Reader" (160 : Nat) "wake") ∈ lw_tbl := lw_at lw_m3 171 rfl
theorem q734 : (Jvm.Cond.methodLink "ColdBox$Reader" (94 : Nat) ({ cls := "ColdBox$Reader", name := "need", desc := "(Z)V" } : Jvm.MethodName)) ∈ lw_all := lw_g (lw_at lw_m3 172 rfl) rfl
theorem q735 : (Jvm.Cond.privateMethod ({ cls := "ColdBox$Reader", name := "need", desc := "(Z)V" } : Jvm.MethodName)) ∈ lw_tbl := lw_at lw_m3 173 rfl
theorem q736 : (Jvm.Cond.instanceMethod ({ cls := "ColdBox$Reader", name := "need", desc := "(Z)V" } : Jvm.MethodName)) ∈ lw_all := lw_g (lw_at lw_m3 174 rfl) rfl
theorem q737 : (Jvm.Cond.code ({ cls := "ColdBox$Reader", name := "need", desc := "(Z)V" } : Jvm.MethodName) prog_26_method_6_code (2 : Nat) (Option.none : Option Jvm.ClassFile.FieldType)) ∈ lw_all := lw_g (lw_at lw_m3 175 rfl) rfl
theorem q738 : (Jvm.Cond.methodLink "ColdBox$Reader" (76 : Nat) ({ cls := "ColdBox$Fault", name := "at", desc := "(I)LColdBox$Fault;" } : Jvm.MethodName)) ∈ lw_all := lw_g (lw_at lw_m3 176 rfl) rfl
theorem q742 : (Jvm.Cond.stringRef "ColdBox$Reader" (167 : Nat) "if") ∈ lw_tbl := lw_at lw_m3 180 rfl
theorem q743 : (Jvm.Cond.methodLink "ColdBox$Reader" (125 : Nat) ({ cls := "ColdBox$Reader", name := "must", desc := "(Ljava/lang/String;)V" } : Jvm.MethodName)) ∈ lw_all := lw_g (lw_at lw_m3 181 rfl) rfl
theorem q744 : (Jvm.Cond.privateMethod ({ cls := "ColdBox$Reader", name := "must", desc := "(Ljava/lang/String;)V" } : Jvm.MethodName)) ∈ lw_tbl := lw_at lw_m3 182 rfl
theorem q745 : (Jvm.Cond.instanceMethod ({ cls := "ColdBox$Reader", name := "must", desc := "(Ljava/lang/String;)V" } : Jvm.MethodName)) ∈ lw_all := lw_g (lw_at lw_m3 183 rfl) rfl
theorem q746 : (Jvm.Cond.code ({ cls := "ColdBox$Reader", name := "must", desc := "(Ljava/lang/String;)V" } : Jvm.MethodName) prog_26_method_9_code (2 : Nat) (Option.none : Option Jvm.ClassFile.FieldType)) ∈ lw_all := lw_g (lw_at lw_m3 184 rfl) rfl
theorem q747 : (Jvm.Cond.methodLink "ColdBox$Reader" (119 : Nat) ({ cls := "ColdBox$Reader", name := "any", desc := "()LColdBox$Cond;" } : Jvm.MethodName)) ∈ lw_all := lw_g (lw_at lw_m3 185 rfl) rfl
theorem q748 : (Jvm.Cond.privateMethod ({ cls := "ColdBox$Reader", name := "any", desc := "()LColdBox$Cond;" } : Jvm.MethodName)) ∈ lw_tbl := lw_at lw_m3 186 rfl
theorem q749 : (Jvm.Cond.instanceMethod ({ cls := "ColdBox$Reader", name := "any", desc := "()LColdBox$Cond;" } : Jvm.MethodName)) ∈ lw_all := lw_g (lw_at lw_m3 187 rfl) rfl
theorem q750 : (Jvm.Cond.code ({ cls := "ColdBox$Reader", name := "any", desc := "()LColdBox$Cond;" } : Jvm.MethodName) prog_26_method_16_code (2 : Nat) (Option.some (Jvm.ClassFile.FieldType.object "ColdBox$Cond"))) ∈ lw_all := lw_g (lw_at lw_m3 188 rfl) rfl
theorem q751 : (Jvm.Cond.methodLink "ColdBox$Reader" (152 : Nat) ({ cls := "ColdBox$Reader", name := "all", desc := "()LColdBox$Cond;" } : Jvm.MethodName)) ∈ lw_all := lw_g (lw_at lw_m3 189 rfl) rfl
theorem q752 : (Jvm.Cond.privateMethod ({ cls := "ColdBox$Reader", name := "all", desc := "()LColdBox$Cond;" } : Jvm.MethodName)) ∈ lw_tbl := lw_at lw_m3 190 rfl
theorem q753 : (Jvm.Cond.instanceMethod ({ cls := "ColdBox$Reader", name := "all", desc := "()LColdBox$Cond;" } : Jvm.MethodName)) ∈ lw_all := lw_g (lw_at lw_m3 191 rfl) rfl
theorem q754 : (Jvm.Cond.code ({ cls := "ColdBox$Reader", name := "all", desc := "()LColdBox$Cond;" } : Jvm.MethodName) prog_26_method_15_code (2 : Nat) (Option.some (Jvm.ClassFile.FieldType.object "ColdBox$Cond"))) ∈ lw_all := lw_g (lw_at lw_m3 192 rfl) rfl
theorem q755 : (Jvm.Cond.methodLink "ColdBox$Reader" (142 : Nat) ({ cls := "ColdBox$Reader", name := "one", desc := "()LColdBox$Cond;" } : Jvm.MethodName)) ∈ lw_all := lw_g (lw_at lw_m3 193 rfl) rfl
theorem q756 : (Jvm.Cond.privateMethod ({ cls := "ColdBox$Reader", name := "one", desc := "()LColdBox$Cond;" } : Jvm.MethodName)) ∈ lw_tbl := lw_at lw_m3 194 rfl
theorem q757 : (Jvm.Cond.instanceMethod ({ cls := "ColdBox$Reader", name := "one", desc := "()LColdBox$Cond;" } : Jvm.MethodName)) ∈ lw_all := lw_g (lw_at lw_m3 195 rfl) rfl
theorem q758 : (Jvm.Cond.code ({ cls := "ColdBox$Reader", name := "one", desc := "()LColdBox$Cond;" } : Jvm.MethodName) prog_26_method_14_code (5 : Nat) (Option.some (Jvm.ClassFile.FieldType.object "ColdBox$Cond"))) ∈ lw_all := lw_g (lw_at lw_m3 196 rfl) rfl
theorem q759 : (Jvm.Cond.stringRef "ColdBox$Reader" (109 : Nat) "not") ∈ lw_tbl := lw_at lw_m3 197 rfl
theorem q760 : (Jvm.Cond.methodLink "ColdBox$Reader" (111 : Nat) ({ cls := "ColdBox$Reader", name := "may", desc := "(Ljava/lang/String;)Z" } : Jvm.MethodName)) ∈ lw_all := lw_g (lw_at lw_m3 198 rfl) rfl
theorem q761 : (Jvm.Cond.privateMethod ({ cls := "ColdBox$Reader", name := "may", desc := "(Ljava/lang/String;)Z" } : Jvm.MethodName)) ∈ lw_tbl := lw_at lw_m3 199 rfl
theorem q762 : (Jvm.Cond.instanceMethod ({ cls := "ColdBox$Reader", name := "may", desc := "(Ljava/lang/String;)Z" } : Jvm.MethodName)) ∈ lw_all := lw_g (lw_at lw_m3 200 rfl) rfl
theorem q763 : (Jvm.Cond.code ({ cls := "ColdBox$Reader", name := "may", desc := "(Ljava/lang/String;)Z" } : Jvm.MethodName) prog_26_method_8_code (2 : Nat) (Option.some Jvm.ClassFile.FieldType.boolean)) ∈ lw_all := lw_g (lw_at lw_m3 201 rfl) rfl
theorem q764 : (Jvm.Cond.stringRef "ColdBox$Reader" (114 : Nat) "(") ∈ lw_tbl := lw_at lw_m3 202 rfl
theorem q765 : (Jvm.Cond.stringRef "ColdBox$Reader" (123 : Nat) ")") ∈ lw_tbl := lw_at lw_m3 203 rfl
theorem q766 : (Jvm.Cond.methodLink "ColdBox$Reader" (129 : Nat) ({ cls := "ColdBox$Reader", name := "value", desc := "()I" } : Jvm.MethodName)) ∈ lw_all := lw_g (lw_at lw_m3 204 rfl) rfl
theorem q767 : (Jvm.Cond.privateMethod ({ cls := "ColdBox$Reader", name := "value", desc := "()I" } : Jvm.MethodName)) ∈ lw_tbl := lw_at lw_m3 205 rfl
theorem q768 : (Jvm.Cond.instanceMethod ({ cls := "ColdBox$Reader", name := "value", desc := "()I" } : Jvm.MethodName)) ∈ lw_all := lw_g (lw_at lw_m3 206 rfl) rfl
theorem q769 : (Jvm.Cond.code ({ cls := "ColdBox$Reader", name := "value", desc := "()I" } : Jvm.MethodName) prog_26_method_13_code (2 : Nat) (Option.some Jvm.ClassFile.FieldType.int)) ∈ lw_all := lw_g (lw_at lw_m3 207 rfl) rfl
theorem q770 : (Jvm.Cond.methodLink "ColdBox$Reader" (106 : Nat) ({ cls := "ColdBox$Reader", name := "number", desc := "(II)I" } : Jvm.MethodName)) ∈ lw_all := lw_g (lw_at lw_m3 208 rfl) rfl
theorem q771 : (Jvm.Cond.privateMethod ({ cls := "ColdBox$Reader", name := "number", desc := "(II)I" } : Jvm.MethodName)) ∈ lw_tbl := lw_at lw_m3 209 rfl
theorem q772 : (Jvm.Cond.instanceMethod ({ cls := "ColdBox$Reader", name := "number", desc := "(II)I" } : Jvm.MethodName)) ∈ lw_all := lw_g (lw_at lw_m3 210 rfl) rfl
theorem q773 : (Jvm.Cond.code ({ cls := "ColdBox$Reader", name := "number", desc := "(II)I" } : Jvm.MethodName) prog_26_method_11_code (4 : Nat) (Option.some Jvm.ClassFile.FieldType.int)) ∈ lw_all := lw_g (lw_at lw_m3 211 rfl) rfl
theorem q774 : (Jvm.Cond.methodLink "ColdBox$Reader" (102 : Nat) ({ cls := "ColdBox$Reader", name := "seen", desc := "(II)I" } : Jvm.MethodName)) ∈ lw_all := lw_g (lw_at lw_m3 212 rfl) rfl
theorem q775 : (Jvm.Cond.privateMethod ({ cls := "ColdBox$Reader", name := "seen", desc := "(II)I" } : Jvm.MethodName)) ∈ lw_tbl := lw_at lw_m3 213 rfl
theorem q776 : (Jvm.Cond.instanceMethod ({ cls := "ColdBox$Reader", name := "seen", desc := "(II)I" } : Jvm.MethodName)) ∈ lw_all := lw_g (lw_at lw_m3 214 rfl) rfl
theorem q777 : (Jvm.Cond.code ({ cls := "ColdBox$Reader", name := "seen", desc := "(II)I" } : Jvm.MethodName) prog_26_method_10_code (5 : Nat) (Option.some Jvm.ClassFile.FieldType.int)) ∈ lw_all := lw_g (lw_at lw_m3 215 rfl) rfl
theorem q778 : (Jvm.Cond.methodLinkNest "ColdBox$Reader" (98 : Nat) ({ cls := "ColdBox", name := "in", desc := "(III)Z" } : Jvm.MethodName) "ColdBox") ∈ lw_tbl := lw_at lw_m3 216 rfl
theorem q779 : (Jvm.Cond.classLink "ColdBox$Reader" (132 : Nat) "ColdBox$Test") ∈ lw_all := lw_g (lw_at lw_m3 217 rfl) rfl
theorem q781 : (Jvm.Cond.methodLink "ColdBox$Reader" (134 : Nat) ({ cls := "ColdBox$Test", name := "<init>", desc := "(III)V" } : Jvm.MethodName)) ∈ lw_all := lw_g (lw_at lw_m3 219 rfl) rfl
theorem q798 : (Jvm.Cond.classLink "ColdBox$Reader" (137 : Nat) "ColdBox$Not") ∈ lw_all := lw_g (lw_at lw_m3 236 rfl) rfl
theorem q800 : (Jvm.Cond.methodLink "ColdBox$Reader" (139 : Nat) ({ cls := "ColdBox$Not", name := "<init>", desc := "(LColdBox$Cond;)V" } : Jvm.MethodName)) ∈ lw_all := lw_g (lw_at lw_m3 238 rfl) rfl
theorem q808 : (Jvm.Cond.stringRef "ColdBox$Reader" (145 : Nat) "and") ∈ lw_tbl := lw_at lw_m4 6 rfl
theorem q809 : (Jvm.Cond.classLink "ColdBox$Reader" (147 : Nat) "ColdBox$Both") ∈ lw_all := lw_g (lw_at lw_m4 7 rfl) rfl
theorem q811 : (Jvm.Cond.methodLink "ColdBox$Reader" (149 : Nat) ({ cls := "ColdBox$Both", name := "<init>", desc := "(LColdBox$Cond;LColdBox$Cond;)V" } : Jvm.MethodName)) ∈ lw_all := lw_g (lw_at lw_m4 9 rfl) rfl
theorem q833 : (Jvm.Cond.stringRef "ColdBox$Reader" (155 : Nat) "or") ∈ lw_tbl := lw_at lw_m4 31 rfl
theorem q834 : (Jvm.Cond.classLink "ColdBox$Reader" (157 : Nat) "ColdBox$Either") ∈ lw_all := lw_g (lw_at lw_m4 32 rfl) rfl
theorem q836 : (Jvm.Cond.methodLink "ColdBox$Reader" (159 : Nat) ({ cls := "ColdBox$Either", name := "<init>", desc := "(LColdBox$Cond;LColdBox$Cond;)V" } : Jvm.MethodName)) ∈ lw_all := lw_g (lw_at lw_m4 34 rfl) rfl
theorem q843 : (Jvm.Cond.stringRef "ColdBox$Reader" (176 : Nat) ";") ∈ lw_tbl := lw_at lw_m4 41 rfl
theorem in_X10 : ∀ w ∈ wsX100, w ∈ lw_all := lw_in wsX100 [416, 418, 420, 422, 424, 426, 428, 430, 432] (by decide +kernel) (by decide +kernel)

/-! ColdBox$Fault -/
set_option maxRecDepth 100000
def RX11 : String := "ColdBox$Fault"
def TX11 : u_T := fun k => match k with
  | 0 => ("java/lang/Throwable", "cause", "Ljava/lang/Throwable;", false)
  | 1 => ("java/lang/Throwable", "stackTrace", "[Ljava/lang/StackTraceElement;", false)
  | 2 => ("java/lang/Throwable", "suppressedExceptions", "Ljava/util/List;", false)
  | 3 => ("java/lang/Throwable", "detailMessage", "Ljava/lang/String;", false)
  | 4 => ("java/lang/Throwable", "backtrace", "Ljava/lang/Object;", false)
  | 5 => ("java/lang/Throwable", "depth", "I", false)
  | _ => ("ColdBox$Fault", "place", "I", false)
def tyX11 : Nat → FieldType := fun k => match k with
  | 0 => .object "java/lang/Throwable"
  | 1 => .array (.object "java/lang/StackTraceElement")
  | 2 => .object "java/util/List"
  | 3 => .object "java/lang/String"
  | 4 => .object "java/lang/Object"
  | 5 => .int
  | _ => .int
abbrev wsX110 : List Cond := u_ws RX11 TX11 7
theorem nmX11 : ∀ a, a < 7 → ∀ b, b < 7 → a ≠ b → (TX11 a).2.1 ≠ (TX11 b).2.1 := by decide +kernel
theorem tyX11_ok : ∀ k, k < 7 → parseFieldDescriptor (TX11 k).2.2.1 = some (tyX11 k) := by decide +kernel
abbrev cX11_init : ByteArray := prog_14_method_1_code
def yX11_init : MethodName := ⟨RX11, "<init>", "()V"⟩
def dkwX11_init_0 : List UInt8 := [42, 1, 1, 3, 3, 183, 0, 1, 177]
abbrev dktX11_init_0 : List UInt8 := dkwX11_init_0 ++ []
theorem dksX11_init_0 : cX11_init.data.toList.drop 0 = dktX11_init_0 := by decide +kernel
theorem dX11_init_0 : decode cX11_init 0 = .ok (.aload_n 0, 1) := dk_42 (dk_at dksX11_init_0 0 rfl rfl)
theorem dX11_init_1 : decode cX11_init 1 = .ok (.aconst_null, 1) := dk_1 (dk_at dksX11_init_0 1 rfl rfl)
theorem dX11_init_2 : decode cX11_init 2 = .ok (.aconst_null, 1) := dk_1 (dk_at dksX11_init_0 2 rfl rfl)
theorem dX11_init_3 : decode cX11_init 3 = .ok (.iconst 0, 1) := dk_3 (dk_at dksX11_init_0 3 rfl rfl)
theorem dX11_init_4 : decode cX11_init 4 = .ok (.iconst 0, 1) := dk_3 (dk_at dksX11_init_0 4 rfl rfl)
theorem dX11_init_5 : decode cX11_init 5 = .ok (.invokespecial 1, 3) := dk_183 0 1 (dk_at dksX11_init_0 5 rfl rfl)
theorem dX11_init_8 : decode cX11_init 8 = .ok (.return_, 1) := dk_177 (dk_at dksX11_init_0 8 rfl rfl)
abbrev cX11_at : ByteArray := prog_14_method_2_code
def yX11_at : MethodName := ⟨RX11, "at", "(I)LColdBox$Fault;"⟩
def dkwX11_at_0 : List UInt8 := [42, 27, 181, 0, 7, 42, 176]
abbrev dktX11_at_0 : List UInt8 := dkwX11_at_0 ++ []
theorem dksX11_at_0 : cX11_at.data.toList.drop 0 = dktX11_at_0 := by decide +kernel
theorem dX11_at_0 : decode cX11_at 0 = .ok (.aload_n 0, 1) := dk_42 (dk_at dksX11_at_0 0 rfl rfl)
theorem dX11_at_1 : decode cX11_at 1 = .ok (.iload_n 1, 1) := dk_27 (dk_at dksX11_at_0 1 rfl rfl)
theorem dX11_at_2 : decode cX11_at 2 = .ok (.putfield 7, 3) := dk_181 0 7 (dk_at dksX11_at_0 2 rfl rfl)
theorem dX11_at_5 : decode cX11_at 5 = .ok (.aload_n 0, 1) := dk_42 (dk_at dksX11_at_0 5 rfl rfl)
theorem dX11_at_6 : decode cX11_at 6 = .ok (.areturn, 1) := dk_176 (dk_at dksX11_at_0 6 rfl rfl)
theorem q97 : (Jvm.Cond.initialized "ColdBox$Fault") ∈ lw_all := lw_g (lw_at lw_m1 15 rfl) rfl
theorem q334 : (Jvm.Cond.instantiable "ColdBox$Fault" (7 : Nat)) ∈ lw_all := lw_g (lw_at lw_m2 12 rfl) rfl
theorem q335 : (Jvm.Cond.castable "ColdBox$Fault" "ColdBox$Fault") ∈ lw_tbl := lw_at lw_m2 13 rfl
theorem q342 : (Jvm.Cond.selects "ColdBox$Fault" ({ cls := "java/lang/Throwable", name := "fillInStackTrace", desc := "(I)Ljava/lang/Throwable;" } : Jvm.MethodName) ({ cls := "java/lang/Throwable", name := "fillInStackTrace", desc := "(I)Ljava/lang/Throwable;" } : Jvm.MethodName)) ∈ lw_all := lw_g (lw_at lw_m2 20 rfl) rfl
theorem q343 : (Jvm.Cond.selects "ColdBox$Fault" ({ cls := "java/lang/Throwable", name := "fillInStackTrace", desc := "()Ljava/lang/Throwable;" } : Jvm.MethodName) ({ cls := "java/lang/Throwable", name := "fillInStackTrace", desc := "()Ljava/lang/Throwable;" } : Jvm.MethodName)) ∈ lw_all := lw_g (lw_at lw_m2 21 rfl) rfl
theorem q344 : (Jvm.Cond.lays "ColdBox$Fault" "java/lang/Throwable" "cause" "Ljava/lang/Throwable;") ∈ lw_all := lw_g (lw_at lw_m2 22 rfl) rfl
theorem q346 : (Jvm.Cond.lays "ColdBox$Fault" "java/lang/Throwable" "stackTrace" "[Ljava/lang/StackTraceElement;") ∈ lw_all := lw_g (lw_at lw_m2 24 rfl) rfl
theorem q348 : (Jvm.Cond.lays "ColdBox$Fault" "java/lang/Throwable" "suppressedExceptions" "Ljava/util/List;") ∈ lw_all := lw_g (lw_at lw_m2 26 rfl) rfl
theorem q350 : (Jvm.Cond.lays "ColdBox$Fault" "java/lang/Throwable" "detailMessage" "Ljava/lang/String;") ∈ lw_all := lw_g (lw_at lw_m2 28 rfl) rfl
theorem q352 : (Jvm.Cond.lays "ColdBox$Fault" "java/lang/Throwable" "backtrace" "Ljava/lang/Object;") ∈ lw_all := lw_g (lw_at lw_m2 30 rfl) rfl
theorem q378 : (Jvm.Cond.instanceMethod ({ cls := "ColdBox$Fault", name := "<init>", desc := "()V" } : Jvm.MethodName)) ∈ lw_all := lw_g (lw_at lw_m2 56 rfl) rfl
theorem q379 : (Jvm.Cond.code ({ cls := "ColdBox$Fault", name := "<init>", desc := "()V" } : Jvm.MethodName) prog_14_method_1_code (1 : Nat) (Option.none : Option Jvm.ClassFile.FieldType)) ∈ lw_all := lw_g (lw_at lw_m2 57 rfl) rfl
theorem q380 : (Jvm.Cond.methodLink "ColdBox$Fault" (1 : Nat) ({ cls := "java/lang/RuntimeException", name := "<init>", desc := "(Ljava/lang/String;Ljava/lang/Throwable;ZZ)V" } : Jvm.MethodName)) ∈ lw_all := lw_g (lw_at lw_m2 58 rfl) rfl
theorem q389 : (Jvm.Cond.fieldLink "ColdBox$Fault" (7 : Nat) "ColdBox$Fault" "place" "I") ∈ lw_all := lw_g (lw_at lw_m2 67 rfl) rfl
theorem q396 : (Jvm.Cond.lays "ColdBox$Fault" "ColdBox$Fault" "place" "I") ∈ lw_all := lw_g (lw_at lw_m2 74 rfl) rfl
theorem q397 : (Jvm.Cond.soleField "ColdBox$Fault" "place") ∈ lw_all := lw_g (lw_at lw_m2 75 rfl) rfl
theorem q402 : (Jvm.Cond.lays "ColdBox$Fault" "java/lang/Throwable" "depth" "I") ∈ lw_all := lw_g (lw_at lw_m2 80 rfl) rfl
theorem q405 : (Jvm.Cond.superclass "ColdBox$Fault" "java/lang/RuntimeException") ∈ lw_all := lw_g (lw_at lw_m2 83 rfl) rfl
theorem q739 : (Jvm.Cond.instanceMethod ({ cls := "ColdBox$Fault", name := "at", desc := "(I)LColdBox$Fault;" } : Jvm.MethodName)) ∈ lw_all := lw_g (lw_at lw_m3 177 rfl) rfl
theorem q740 : (Jvm.Cond.selects "ColdBox$Fault" ({ cls := "ColdBox$Fault", name := "at", desc := "(I)LColdBox$Fault;" } : Jvm.MethodName) ({ cls := "ColdBox$Fault", name := "at", desc := "(I)LColdBox$Fault;" } : Jvm.MethodName)) ∈ lw_all := lw_g (lw_at lw_m3 178 rfl) rfl
theorem q741 : (Jvm.Cond.code ({ cls := "ColdBox$Fault", name := "at", desc := "(I)LColdBox$Fault;" } : Jvm.MethodName) prog_14_method_2_code (2 : Nat) (Option.some (Jvm.ClassFile.FieldType.object "ColdBox$Fault"))) ∈ lw_all := lw_g (lw_at lw_m3 179 rfl) rfl
theorem in_X11 : ∀ w ∈ wsX110, w ∈ lw_all := lw_in wsX110 [344, 346, 348, 350, 352, 402, 396] (by decide +kernel) (by decide +kernel)

/-! ColdBox$Lying -/
set_option maxRecDepth 100000
def RX12 : String := "ColdBox$Lying"
abbrev cX12_init : ByteArray := prog_18_method_1_code
def yX12_init : MethodName := ⟨RX12, "<init>", "(LColdBox;)V"⟩
def dkwX12_init_0 : List UInt8 := [42, 43, 181, 0, 3, 42, 183, 0, 9, 177]
abbrev dktX12_init_0 : List UInt8 := dkwX12_init_0 ++ []
theorem dksX12_init_0 : cX12_init.data.toList.drop 0 = dktX12_init_0 := by decide +kernel
theorem dX12_init_0 : decode cX12_init 0 = .ok (.aload_n 0, 1) := dk_42 (dk_at dksX12_init_0 0 rfl rfl)
theorem dX12_init_1 : decode cX12_init 1 = .ok (.aload_n 1, 1) := dk_43 (dk_at dksX12_init_0 1 rfl rfl)
theorem dX12_init_2 : decode cX12_init 2 = .ok (.putfield 3, 3) := dk_181 0 3 (dk_at dksX12_init_0 2 rfl rfl)
theorem dX12_init_5 : decode cX12_init 5 = .ok (.aload_n 0, 1) := dk_42 (dk_at dksX12_init_0 5 rfl rfl)
theorem dX12_init_6 : decode cX12_init 6 = .ok (.invokespecial 9, 3) := dk_183 0 9 (dk_at dksX12_init_0 6 rfl rfl)
theorem dX12_init_9 : decode cX12_init 9 = .ok (.return_, 1) := dk_177 (dk_at dksX12_init_0 9 rfl rfl)
abbrev cX12_goes : ByteArray := prog_18_method_3_code
def yX12_goes : MethodName := ⟨RX12, "goes", "(LColdBox$Body;)Z"⟩
def dkwX12_goes_6 : List UInt8 := [181, 0, 21, 167, 255, 126, 29, 172]
abbrev dktX12_goes_6 : List UInt8 := dkwX12_goes_6 ++ []
def dkwX12_goes_5 : List UInt8 := [42, 180, 0, 3, 43, 182, 0, 53, 42, 43, 21, 5, 182, 0, 57, 62, 42, 89, 180, 0, 21, 4, 96]
abbrev dktX12_goes_5 : List UInt8 := dkwX12_goes_5 ++ dktX12_goes_6
def dkwX12_goes_4 : List UInt8 := [46, 181, 0, 46, 42, 180, 0, 3, 180, 0, 36, 43, 180, 0, 25, 43, 180, 0, 46, 182, 0, 49, 54, 5]
abbrev dktX12_goes_4 : List UInt8 := dkwX12_goes_4 ++ dktX12_goes_5
def dkwX12_goes_3 : List UInt8 := [21, 4, 156, 0, 10, 43, 180, 0, 46, 167, 0, 16, 42, 180, 0, 3, 180, 0, 36, 180, 0, 40, 21, 4]
abbrev dktX12_goes_3 : List UInt8 := dkwX12_goes_3 ++ dktX12_goes_4
def dkwX12_goes_2 : List UInt8 := [155, 0, 22, 42, 180, 0, 3, 180, 0, 36, 180, 0, 40, 21, 4, 46, 2, 160, 0, 5, 4, 172, 43]
abbrev dktX12_goes_2 : List UInt8 := dkwX12_goes_2 ++ dktX12_goes_3
def dkwX12_goes_1 : List UInt8 := [162, 0, 123, 43, 182, 0, 28, 153, 0, 116, 42, 180, 0, 3, 43, 28, 182, 0, 32, 54, 4, 21, 4]
abbrev dktX12_goes_1 : List UInt8 := dkwX12_goes_1 ++ dktX12_goes_2
def dkwX12_goes_0 : List UInt8 := [43, 182, 0, 15, 61, 42, 3, 181, 0, 21, 4, 62, 29, 153, 0, 132, 43, 180, 0, 25, 16, 24]
abbrev dktX12_goes_0 : List UInt8 := dkwX12_goes_0 ++ dktX12_goes_1
theorem dksX12_goes_0 : cX12_goes.data.toList.drop 0 = dktX12_goes_0 := by decide +kernel
theorem dksX12_goes_1 : cX12_goes.data.toList.drop 22 = dktX12_goes_1 := dk_seg dksX12_goes_0 22 rfl rfl
theorem dksX12_goes_2 : cX12_goes.data.toList.drop 45 = dktX12_goes_2 := dk_seg dksX12_goes_1 23 rfl rfl
theorem dksX12_goes_3 : cX12_goes.data.toList.drop 68 = dktX12_goes_3 := dk_seg dksX12_goes_2 23 rfl rfl
theorem dksX12_goes_4 : cX12_goes.data.toList.drop 92 = dktX12_goes_4 := dk_seg dksX12_goes_3 24 rfl rfl
theorem dksX12_goes_5 : cX12_goes.data.toList.drop 116 = dktX12_goes_5 := dk_seg dksX12_goes_4 24 rfl rfl
theorem dksX12_goes_6 : cX12_goes.data.toList.drop 139 = dktX12_goes_6 := dk_seg dksX12_goes_5 23 rfl rfl
theorem dX12_goes_0 : decode cX12_goes 0 = .ok (.aload_n 1, 1) := dk_43 (dk_at dksX12_goes_0 0 rfl rfl)
theorem dX12_goes_1 : decode cX12_goes 1 = .ok (.invokevirtual 15, 3) := dk_182 0 15 (dk_at dksX12_goes_0 1 rfl rfl)
theorem dX12_goes_4 : decode cX12_goes 4 = .ok (.istore_n 2, 1) := dk_61 (dk_at dksX12_goes_0 4 rfl rfl)
theorem dX12_goes_5 : decode cX12_goes 5 = .ok (.aload_n 0, 1) := dk_42 (dk_at dksX12_goes_0 5 rfl rfl)
theorem dX12_goes_6 : decode cX12_goes 6 = .ok (.iconst 0, 1) := dk_3 (dk_at dksX12_goes_0 6 rfl rfl)
theorem dX12_goes_7 : decode cX12_goes 7 = .ok (.putfield 21, 3) := dk_181 0 21 (dk_at dksX12_goes_0 7 rfl rfl)
theorem dX12_goes_10 : decode cX12_goes 10 = .ok (.iconst 1, 1) := dk_4 (dk_at dksX12_goes_0 10 rfl rfl)
theorem dX12_goes_11 : decode cX12_goes 11 = .ok (.istore_n 3, 1) := dk_62 (dk_at dksX12_goes_0 11 rfl rfl)
theorem dX12_goes_12 : decode cX12_goes 12 = .ok (.iload_n 3, 1) := dk_29 (dk_at dksX12_goes_0 12 rfl rfl)
theorem dX12_goes_13 : decode cX12_goes 13 = .ok (.ifCond .eq 132, 3) := dk_153 0 132 (dk_at dksX12_goes_0 13 rfl rfl)
theorem dX12_goes_16 : decode cX12_goes 16 = .ok (.aload_n 1, 1) := dk_43 (dk_at dksX12_goes_0 16 rfl rfl)
theorem dX12_goes_17 : decode cX12_goes 17 = .ok (.getfield 25, 3) := dk_180 0 25 (dk_at dksX12_goes_0 17 rfl rfl)
theorem dX12_goes_20 : decode cX12_goes 20 = .ok (.bipush 24, 2) := dk_16 24 (dk_at dksX12_goes_0 20 rfl rfl)
theorem dX12_goes_22 : decode cX12_goes 22 = .ok (.if_icmp .ge 123, 3) := dk_162 0 123 (dk_at dksX12_goes_1 0 rfl rfl)
theorem dX12_goes_25 : decode cX12_goes 25 = .ok (.aload_n 1, 1) := dk_43 (dk_at dksX12_goes_1 3 rfl rfl)
theorem dX12_goes_26 : decode cX12_goes 26 = .ok (.invokevirtual 28, 3) := dk_182 0 28 (dk_at dksX12_goes_1 4 rfl rfl)
theorem dX12_goes_29 : decode cX12_goes 29 = .ok (.ifCond .eq 116, 3) := dk_153 0 116 (dk_at dksX12_goes_1 7 rfl rfl)
theorem dX12_goes_32 : decode cX12_goes 32 = .ok (.aload_n 0, 1) := dk_42 (dk_at dksX12_goes_1 10 rfl rfl)
theorem dX12_goes_33 : decode cX12_goes 33 = .ok (.getfield 3, 3) := dk_180 0 3 (dk_at dksX12_goes_1 11 rfl rfl)
theorem dX12_goes_36 : decode cX12_goes 36 = .ok (.aload_n 1, 1) := dk_43 (dk_at dksX12_goes_1 14 rfl rfl)
theorem dX12_goes_37 : decode cX12_goes 37 = .ok (.iload_n 2, 1) := dk_28 (dk_at dksX12_goes_1 15 rfl rfl)
theorem dX12_goes_38 : decode cX12_goes 38 = .ok (.invokevirtual 32, 3) := dk_182 0 32 (dk_at dksX12_goes_1 16 rfl rfl)
theorem dX12_goes_41 : decode cX12_goes 41 = .ok (.istore 4, 2) := dk_54 4 (dk_at dksX12_goes_1 19 rfl rfl)
theorem dX12_goes_43 : decode cX12_goes 43 = .ok (.iload 4, 2) := dk_21 4 (dk_at dksX12_goes_1 21 rfl rfl)
theorem dX12_goes_45 : decode cX12_goes 45 = .ok (.ifCond .lt 22, 3) := dk_155 0 22 (dk_at dksX12_goes_2 0 rfl rfl)
theorem dX12_goes_48 : decode cX12_goes 48 = .ok (.aload_n 0, 1) := dk_42 (dk_at dksX12_goes_2 3 rfl rfl)
theorem dX12_goes_49 : decode cX12_goes 49 = .ok (.getfield 3, 3) := dk_180 0 3 (dk_at dksX12_goes_2 4 rfl rfl)
theorem dX12_goes_52 : decode cX12_goes 52 = .ok (.getfield 36, 3) := dk_180 0 36 (dk_at dksX12_goes_2 7 rfl rfl)
theorem dX12_goes_55 : decode cX12_goes 55 = .ok (.getfield 40, 3) := dk_180 0 40 (dk_at dksX12_goes_2 10 rfl rfl)
theorem dX12_goes_58 : decode cX12_goes 58 = .ok (.iload 4, 2) := dk_21 4 (dk_at dksX12_goes_2 13 rfl rfl)
theorem dX12_goes_60 : decode cX12_goes 60 = .ok (.iaload, 1) := dk_46 (dk_at dksX12_goes_2 15 rfl rfl)
theorem dX12_goes_61 : decode cX12_goes 61 = .ok (.iconst (-1), 1) := dk_2 (dk_at dksX12_goes_2 16 rfl rfl)
theorem dX12_goes_62 : decode cX12_goes 62 = .ok (.if_icmp .ne 5, 3) := dk_160 0 5 (dk_at dksX12_goes_2 17 rfl rfl)
theorem dX12_goes_65 : decode cX12_goes 65 = .ok (.iconst 1, 1) := dk_4 (dk_at dksX12_goes_2 20 rfl rfl)
theorem dX12_goes_66 : decode cX12_goes 66 = .ok (.ireturn, 1) := dk_172 (dk_at dksX12_goes_2 21 rfl rfl)
theorem dX12_goes_67 : decode cX12_goes 67 = .ok (.aload_n 1, 1) := dk_43 (dk_at dksX12_goes_2 22 rfl rfl)
theorem dX12_goes_68 : decode cX12_goes 68 = .ok (.iload 4, 2) := dk_21 4 (dk_at dksX12_goes_3 0 rfl rfl)
theorem dX12_goes_70 : decode cX12_goes 70 = .ok (.ifCond .ge 10, 3) := dk_156 0 10 (dk_at dksX12_goes_3 2 rfl rfl)
theorem dX12_goes_73 : decode cX12_goes 73 = .ok (.aload_n 1, 1) := dk_43 (dk_at dksX12_goes_3 5 rfl rfl)
theorem dX12_goes_74 : decode cX12_goes 74 = .ok (.getfield 46, 3) := dk_180 0 46 (dk_at dksX12_goes_3 6 rfl rfl)
theorem dX12_goes_77 : decode cX12_goes 77 = .ok (.goto 16, 3) := dk_167 0 16 (dk_at dksX12_goes_3 9 rfl rfl)
theorem dX12_goes_80 : decode cX12_goes 80 = .ok (.aload_n 0, 1) := dk_42 (dk_at dksX12_goes_3 12 rfl rfl)
theorem dX12_goes_81 : decode cX12_goes 81 = .ok (.getfield 3, 3) := dk_180 0 3 (dk_at dksX12_goes_3 13 rfl rfl)
theorem dX12_goes_84 : decode cX12_goes 84 = .ok (.getfield 36, 3) := dk_180 0 36 (dk_at dksX12_goes_3 16 rfl rfl)
theorem dX12_goes_87 : decode cX12_goes 87 = .ok (.getfield 40, 3) := dk_180 0 40 (dk_at dksX12_goes_3 19 rfl rfl)
theorem dX12_goes_90 : decode cX12_goes 90 = .ok (.iload 4, 2) := dk_21 4 (dk_at dksX12_goes_3 22 rfl rfl)
theorem dX12_goes_92 : decode cX12_goes 92 = .ok (.iaload, 1) := dk_46 (dk_at dksX12_goes_4 0 rfl rfl)
theorem dX12_goes_93 : decode cX12_goes 93 = .ok (.putfield 46, 3) := dk_181 0 46 (dk_at dksX12_goes_4 1 rfl rfl)
theorem dX12_goes_96 : decode cX12_goes 96 = .ok (.aload_n 0, 1) := dk_42 (dk_at dksX12_goes_4 4 rfl rfl)
theorem dX12_goes_97 : decode cX12_goes 97 = .ok (.getfield 3, 3) := dk_180 0 3 (dk_at dksX12_goes_4 5 rfl rfl)
theorem dX12_goes_100 : decode cX12_goes 100 = .ok (.getfield 36, 3) := dk_180 0 36 (dk_at dksX12_goes_4 8 rfl rfl)
theorem dX12_goes_103 : decode cX12_goes 103 = .ok (.aload_n 1, 1) := dk_43 (dk_at dksX12_goes_4 11 rfl rfl)
theorem dX12_goes_104 : decode cX12_goes 104 = .ok (.getfield 25, 3) := dk_180 0 25 (dk_at dksX12_goes_4 12 rfl rfl)
theorem dX12_goes_107 : decode cX12_goes 107 = .ok (.aload_n 1, 1) := dk_43 (dk_at dksX12_goes_4 15 rfl rfl)
theorem dX12_goes_108 : decode cX12_goes 108 = .ok (.getfield 46, 3) := dk_180 0 46 (dk_at dksX12_goes_4 16 rfl rfl)
theorem dX12_goes_111 : decode cX12_goes 111 = .ok (.invokevirtual 49, 3) := dk_182 0 49 (dk_at dksX12_goes_4 19 rfl rfl)
theorem dX12_goes_114 : decode cX12_goes 114 = .ok (.istore 5, 2) := dk_54 5 (dk_at dksX12_goes_4 22 rfl rfl)
theorem dX12_goes_116 : decode cX12_goes 116 = .ok (.aload_n 0, 1) := dk_42 (dk_at dksX12_goes_5 0 rfl rfl)
theorem dX12_goes_117 : decode cX12_goes 117 = .ok (.getfield 3, 3) := dk_180 0 3 (dk_at dksX12_goes_5 1 rfl rfl)
theorem dX12_goes_120 : decode cX12_goes 120 = .ok (.aload_n 1, 1) := dk_43 (dk_at dksX12_goes_5 4 rfl rfl)
theorem dX12_goes_121 : decode cX12_goes 121 = .ok (.invokevirtual 53, 3) := dk_182 0 53 (dk_at dksX12_goes_5 5 rfl rfl)
theorem dX12_goes_124 : decode cX12_goes 124 = .ok (.aload_n 0, 1) := dk_42 (dk_at dksX12_goes_5 8 rfl rfl)
theorem dX12_goes_125 : decode cX12_goes 125 = .ok (.aload_n 1, 1) := dk_43 (dk_at dksX12_goes_5 9 rfl rfl)
theorem dX12_goes_126 : decode cX12_goes 126 = .ok (.iload 5, 2) := dk_21 5 (dk_at dksX12_goes_5 10 rfl rfl)
theorem dX12_goes_128 : decode cX12_goes 128 = .ok (.invokevirtual 57, 3) := dk_182 0 57 (dk_at dksX12_goes_5 12 rfl rfl)
theorem dX12_goes_131 : decode cX12_goes 131 = .ok (.istore_n 3, 1) := dk_62 (dk_at dksX12_goes_5 15 rfl rfl)
theorem dX12_goes_132 : decode cX12_goes 132 = .ok (.aload_n 0, 1) := dk_42 (dk_at dksX12_goes_5 16 rfl rfl)
theorem dX12_goes_133 : decode cX12_goes 133 = .ok (.dup, 1) := dk_89 (dk_at dksX12_goes_5 17 rfl rfl)
theorem dX12_goes_134 : decode cX12_goes 134 = .ok (.getfield 21, 3) := dk_180 0 21 (dk_at dksX12_goes_5 18 rfl rfl)
theorem dX12_goes_137 : decode cX12_goes 137 = .ok (.iconst 1, 1) := dk_4 (dk_at dksX12_goes_5 21 rfl rfl)
theorem dX12_goes_138 : decode cX12_goes 138 = .ok (.iadd, 1) := dk_96 (dk_at dksX12_goes_5 22 rfl rfl)
theorem dX12_goes_139 : decode cX12_goes 139 = .ok (.putfield 21, 3) := dk_181 0 21 (dk_at dksX12_goes_6 0 rfl rfl)
theorem dX12_goes_142 : decode cX12_goes 142 = .ok (.goto (-130), 3) := dk_167 255 126 (dk_at dksX12_goes_6 3 rfl rfl)
theorem dX12_goes_145 : decode cX12_goes 145 = .ok (.iload_n 3, 1) := dk_29 (dk_at dksX12_goes_6 6 rfl rfl)
theorem dX12_goes_146 : decode cX12_goes 146 = .ok (.ireturn, 1) := dk_172 (dk_at dksX12_goes_6 7 rfl rfl)
theorem q98 : (Jvm.Cond.initialized "ColdBox$Lying") ∈ lw_all := lw_g (lw_at lw_m1 16 rfl) rfl
theorem q164 : (Jvm.Cond.fieldLinkNest "ColdBox$Lying" (46 : Nat) "ColdBox$Body" "place" "I" "ColdBox") ∈ lw_tbl := lw_at lw_m1 82 rfl
theorem q167 : (Jvm.Cond.fieldLinkNest "ColdBox$Lying" (25 : Nat) "ColdBox$Body" "week" "I" "ColdBox") ∈ lw_tbl := lw_at lw_m1 85 rfl
theorem q203 : (Jvm.Cond.fieldLinkNest "ColdBox$Lying" (40 : Nat) "ColdBox$Winter" "to" "[I" "ColdBox") ∈ lw_tbl := lw_at lw_m1 121 rfl
theorem q441 : (Jvm.Cond.instanceMethod ({ cls := "ColdBox$Lying", name := "<init>", desc := "(LColdBox;)V" } : Jvm.MethodName)) ∈ lw_all := lw_g (lw_at lw_m2 119 rfl) rfl
theorem q442 : (Jvm.Cond.code ({ cls := "ColdBox$Lying", name := "<init>", desc := "(LColdBox;)V" } : Jvm.MethodName) prog_18_method_1_code (2 : Nat) (Option.none : Option Jvm.ClassFile.FieldType)) ∈ lw_all := lw_g (lw_at lw_m2 120 rfl) rfl
theorem q443 : (Jvm.Cond.methodLink "ColdBox$Lying" (9 : Nat) ({ cls := "java/lang/Object", name := "<init>", desc := "()V" } : Jvm.MethodName)) ∈ lw_all := lw_g (lw_at lw_m2 121 rfl) rfl
theorem q449 : (Jvm.Cond.fieldLink "ColdBox$Lying" (21 : Nat) "ColdBox$Lying" "many" "I") ∈ lw_all := lw_g (lw_at lw_m2 127 rfl) rfl
theorem q454 : (Jvm.Cond.fieldLink "ColdBox$Lying" (3 : Nat) "ColdBox$Lying" "this$0" "LColdBox;") ∈ lw_all := lw_g (lw_at lw_m2 132 rfl) rfl
theorem q458 : (Jvm.Cond.soleField "ColdBox$Lying" "many") ∈ lw_all := lw_g (lw_at lw_m2 136 rfl) rfl
theorem q460 : (Jvm.Cond.soleField "ColdBox$Lying" "this$0") ∈ lw_all := lw_g (lw_at lw_m2 138 rfl) rfl
theorem q564 : (Jvm.Cond.fieldLinkNest "ColdBox$Lying" (36 : Nat) "ColdBox" "d" "LColdBox$Winter;" "ColdBox") ∈ lw_tbl := lw_at lw_m3 2 rfl
theorem q1059 : (Jvm.Cond.declares ({ cls := "ColdBox$Lying", name := "goes", desc := "(LColdBox$Body;)Z" } : Jvm.MethodName)) ∈ lw_tbl := lw_at lw_m5 17 rfl
theorem q1061 : (Jvm.Cond.instanceMethod ({ cls := "ColdBox$Lying", name := "goes", desc := "(LColdBox$Body;)Z" } : Jvm.MethodName)) ∈ lw_all := lw_g (lw_at lw_m5 19 rfl) rfl
theorem q1062 : (Jvm.Cond.code ({ cls := "ColdBox$Lying", name := "goes", desc := "(LColdBox$Body;)Z" } : Jvm.MethodName) prog_18_method_3_code (6 : Nat) (Option.some Jvm.ClassFile.FieldType.boolean)) ∈ lw_all := lw_g (lw_at lw_m5 20 rfl) rfl
theorem q1063 : (Jvm.Cond.methodLink "ColdBox$Lying" (15 : Nat) ({ cls := "ColdBox$Body", name := "weight", desc := "()I" } : Jvm.MethodName)) ∈ lw_all := lw_g (lw_at lw_m5 21 rfl) rfl
theorem q1064 : (Jvm.Cond.methodLink "ColdBox$Lying" (28 : Nat) ({ cls := "ColdBox$Body", name := "isAlive", desc := "()Z" } : Jvm.MethodName)) ∈ lw_all := lw_g (lw_at lw_m5 22 rfl) rfl
theorem q1065 : (Jvm.Cond.methodLinkNest "ColdBox$Lying" (32 : Nat) ({ cls := "ColdBox", name := "clauseOf", desc := "(LColdBox$Body;I)I" } : Jvm.MethodName) "ColdBox") ∈ lw_tbl := lw_at lw_m5 23 rfl
theorem q1066 : (Jvm.Cond.methodLink "ColdBox$Lying" (49 : Nat) ({ cls := "ColdBox$Winter", name := "kindOf", desc := "(II)I" } : Jvm.MethodName)) ∈ lw_all := lw_g (lw_at lw_m5 24 rfl) rfl
theorem q1067 : (Jvm.Cond.methodLinkNest "ColdBox$Lying" (53 : Nat) ({ cls := "ColdBox", name := "passes", desc := "(LColdBox$Body;)V" } : Jvm.MethodName) "ColdBox") ∈ lw_tbl := lw_at lw_m5 25 rfl
theorem q1068 : (Jvm.Cond.methodLink "ColdBox$Lying" (57 : Nat) ({ cls := "ColdBox$Lying", name := "meets", desc := "(LColdBox$Body;I)Z" } : Jvm.MethodName)) ∈ lw_all := lw_g (lw_at lw_m5 26 rfl) rfl
theorem q1069 : (Jvm.Cond.declares ({ cls := "ColdBox$Lying", name := "meets", desc := "(LColdBox$Body;I)Z" } : Jvm.MethodName)) ∈ lw_tbl := lw_at lw_m5 27 rfl
theorem q1070 : (Jvm.Cond.sameMethod "ColdBox$Lying" "ColdBox$Lying" "meets" "(LColdBox$Body;I)Z") ∈ lw_all := lw_g (lw_at lw_m5 28 rfl) rfl

/-! ColdBox$Plainly -/
set_option maxRecDepth 100000
def RX13 : String := "ColdBox$Plainly"
def TX13 : u_T := fun k => match k with
  | 0 => ("ColdBox$Lying", "many", "I", false)
  | 1 => ("ColdBox$Lying", "this$0", "LColdBox;", true)
  | _ => ("ColdBox$Plainly", "this$0", "LColdBox;", true)
def tyX13 : Nat → FieldType := fun k => match k with
  | 0 => .int
  | 1 => .object "ColdBox"
  | _ => .object "ColdBox"
abbrev wsX130 : List Cond := u_ws RX13 TX13 3
-- two fields of one name: no nmX13
theorem tyX13_ok : ∀ k, k < 3 → parseFieldDescriptor (TX13 k).2.2.1 = some (tyX13 k) := by decide +kernel
abbrev cX13_init : ByteArray := prog_25_method_1_code
def yX13_init : MethodName := ⟨RX13, "<init>", "(LColdBox;)V"⟩
def dkwX13_init_0 : List UInt8 := [42, 43, 181, 0, 1, 42, 43, 183, 0, 7, 177]
abbrev dktX13_init_0 : List UInt8 := dkwX13_init_0 ++ []
theorem dksX13_init_0 : cX13_init.data.toList.drop 0 = dktX13_init_0 := by decide +kernel
theorem dX13_init_0 : decode cX13_init 0 = .ok (.aload_n 0, 1) := dk_42 (dk_at dksX13_init_0 0 rfl rfl)
theorem dX13_init_1 : decode cX13_init 1 = .ok (.aload_n 1, 1) := dk_43 (dk_at dksX13_init_0 1 rfl rfl)
theorem dX13_init_2 : decode cX13_init 2 = .ok (.putfield 1, 3) := dk_181 0 1 (dk_at dksX13_init_0 2 rfl rfl)
theorem dX13_init_5 : decode cX13_init 5 = .ok (.aload_n 0, 1) := dk_42 (dk_at dksX13_init_0 5 rfl rfl)
theorem dX13_init_6 : decode cX13_init 6 = .ok (.aload_n 1, 1) := dk_43 (dk_at dksX13_init_0 6 rfl rfl)
theorem dX13_init_7 : decode cX13_init 7 = .ok (.invokespecial 7, 3) := dk_183 0 7 (dk_at dksX13_init_0 7 rfl rfl)
theorem dX13_init_10 : decode cX13_init 10 = .ok (.return_, 1) := dk_177 (dk_at dksX13_init_0 10 rfl rfl)
abbrev cX13_meets : ByteArray := prog_25_method_2_code
def yX13_meets : MethodName := ⟨RX13, "meets", "(LColdBox$Body;I)Z"⟩
theorem dX13_meets_0 : decode cX13_meets 0 = .ok (.iconst 1, 1) := by decide +kernel
theorem dX13_meets_1 : decode cX13_meets 1 = .ok (.ireturn, 1) := by decide +kernel
theorem q99 : (Jvm.Cond.initialized "ColdBox$Plainly") ∈ lw_all := lw_g (lw_at lw_m1 17 rfl) rfl
theorem q436 : (Jvm.Cond.instantiable "ColdBox$Plainly" (3 : Nat)) ∈ lw_all := lw_g (lw_at lw_m2 114 rfl) rfl
theorem q438 : (Jvm.Cond.instanceMethod ({ cls := "ColdBox$Plainly", name := "<init>", desc := "(LColdBox;)V" } : Jvm.MethodName)) ∈ lw_all := lw_g (lw_at lw_m2 116 rfl) rfl
theorem q439 : (Jvm.Cond.code ({ cls := "ColdBox$Plainly", name := "<init>", desc := "(LColdBox;)V" } : Jvm.MethodName) prog_25_method_1_code (2 : Nat) (Option.none : Option Jvm.ClassFile.FieldType)) ∈ lw_all := lw_g (lw_at lw_m2 117 rfl) rfl
theorem q440 : (Jvm.Cond.methodLinkNest "ColdBox$Plainly" (7 : Nat) ({ cls := "ColdBox$Lying", name := "<init>", desc := "(LColdBox;)V" } : Jvm.MethodName) "ColdBox") ∈ lw_tbl := lw_at lw_m2 118 rfl
theorem q444 : (Jvm.Cond.fieldLink "ColdBox$Plainly" (1 : Nat) "ColdBox$Plainly" "this$0" "LColdBox;") ∈ lw_all := lw_g (lw_at lw_m2 122 rfl) rfl
theorem q451 : (Jvm.Cond.sameField "ColdBox$Plainly" "ColdBox$Lying" "many" "I") ∈ lw_all := lw_g (lw_at lw_m2 129 rfl) rfl
theorem q455 : (Jvm.Cond.laysFinal "ColdBox$Plainly" "ColdBox$Plainly" "this$0" "LColdBox;") ∈ lw_all := lw_g (lw_at lw_m2 133 rfl) rfl
theorem q456 : (Jvm.Cond.soleField "ColdBox$Plainly" "this$0") ∈ lw_all := lw_g (lw_at lw_m2 134 rfl) rfl
theorem q457 : (Jvm.Cond.lays "ColdBox$Plainly" "ColdBox$Lying" "many" "I") ∈ lw_all := lw_g (lw_at lw_m2 135 rfl) rfl
theorem q459 : (Jvm.Cond.laysFinal "ColdBox$Plainly" "ColdBox$Lying" "this$0" "LColdBox;") ∈ lw_all := lw_g (lw_at lw_m2 137 rfl) rfl
theorem q461 : (Jvm.Cond.superclass "ColdBox$Plainly" "ColdBox$Lying") ∈ lw_all := lw_g (lw_at lw_m2 139 rfl) rfl
theorem q1058 : (Jvm.Cond.sameMethod "ColdBox$Plainly" "ColdBox$Lying" "goes" "(LColdBox$Body;)Z") ∈ lw_all := lw_g (lw_at lw_m5 16 rfl) rfl
theorem q1060 : (Jvm.Cond.selects "ColdBox$Plainly" ({ cls := "ColdBox$Plainly", name := "goes", desc := "(LColdBox$Body;)Z" } : Jvm.MethodName) ({ cls := "ColdBox$Lying", name := "goes", desc := "(LColdBox$Body;)Z" } : Jvm.MethodName)) ∈ lw_all := lw_g (lw_at lw_m5 18 rfl) rfl
theorem q1075 : (Jvm.Cond.selects "ColdBox$Plainly" ({ cls := "ColdBox$Lying", name := "meets", desc := "(LColdBox$Body;I)Z" } : Jvm.MethodName) ({ cls := "ColdBox$Plainly", name := "meets", desc := "(LColdBox$Body;I)Z" } : Jvm.MethodName)) ∈ lw_all := lw_g (lw_at lw_m5 33 rfl) rfl
theorem q1076 : (Jvm.Cond.instanceMethod ({ cls := "ColdBox$Plainly", name := "meets", desc := "(LColdBox$Body;I)Z" } : Jvm.MethodName)) ∈ lw_all := lw_g (lw_at lw_m5 34 rfl) rfl
theorem q1077 : (Jvm.Cond.code ({ cls := "ColdBox$Plainly", name := "meets", desc := "(LColdBox$Body;I)Z" } : Jvm.MethodName) prog_25_method_2_code (3 : Nat) (Option.some Jvm.ClassFile.FieldType.boolean)) ∈ lw_all := lw_g (lw_at lw_m5 35 rfl) rfl
theorem in_X13 : ∀ w ∈ wsX130, w ∈ lw_all := lw_in wsX130 [457, 459, 455] (by decide +kernel) (by decide +kernel)

/-! ColdBox$Shows -/
set_option maxRecDepth 100000
def RX14 : String := "ColdBox$Shows"
def TX14 : u_T := fun k => match k with
  | 0 => ("ColdBox$Lying", "many", "I", false)
  | 1 => ("ColdBox$Lying", "this$0", "LColdBox;", true)
  | _ => ("ColdBox$Shows", "this$0", "LColdBox;", true)
def tyX14 : Nat → FieldType := fun k => match k with
  | 0 => .int
  | 1 => .object "ColdBox"
  | _ => .object "ColdBox"
abbrev wsX140 : List Cond := u_ws RX14 TX14 3
-- two fields of one name: no nmX14
theorem tyX14_ok : ∀ k, k < 3 → parseFieldDescriptor (TX14 k).2.2.1 = some (tyX14 k) := by decide +kernel
abbrev cX14_init : ByteArray := prog_31_method_1_code
def yX14_init : MethodName := ⟨RX14, "<init>", "(LColdBox;)V"⟩
def dkwX14_init_0 : List UInt8 := [42, 43, 181, 0, 1, 42, 43, 183, 0, 7, 177]
abbrev dktX14_init_0 : List UInt8 := dkwX14_init_0 ++ []
theorem dksX14_init_0 : cX14_init.data.toList.drop 0 = dktX14_init_0 := by decide +kernel
theorem dX14_init_0 : decode cX14_init 0 = .ok (.aload_n 0, 1) := dk_42 (dk_at dksX14_init_0 0 rfl rfl)
theorem dX14_init_1 : decode cX14_init 1 = .ok (.aload_n 1, 1) := dk_43 (dk_at dksX14_init_0 1 rfl rfl)
theorem dX14_init_2 : decode cX14_init 2 = .ok (.putfield 1, 3) := dk_181 0 1 (dk_at dksX14_init_0 2 rfl rfl)
theorem dX14_init_5 : decode cX14_init 5 = .ok (.aload_n 0, 1) := dk_42 (dk_at dksX14_init_0 5 rfl rfl)
theorem dX14_init_6 : decode cX14_init 6 = .ok (.aload_n 1, 1) := dk_43 (dk_at dksX14_init_0 6 rfl rfl)
theorem dX14_init_7 : decode cX14_init 7 = .ok (.invokespecial 7, 3) := dk_183 0 7 (dk_at dksX14_init_0 7 rfl rfl)
theorem dX14_init_10 : decode cX14_init 10 = .ok (.return_, 1) := dk_177 (dk_at dksX14_init_0 10 rfl rfl)
abbrev cX14_meets : ByteArray := prog_31_method_2_code
def yX14_meets : MethodName := ⟨RX14, "meets", "(LColdBox$Body;I)Z"⟩
def dkwX14_meets_1 : List UInt8 := [43, 182, 0, 34, 79, 45, 5, 28, 79, 4, 172]
abbrev dktX14_meets_1 : List UInt8 := dkwX14_meets_1 ++ []
def dkwX14_meets_0 : List UInt8 := [42, 180, 0, 1, 42, 180, 0, 13, 182, 0, 17, 180, 0, 23, 78, 45, 3, 43, 180, 0, 29, 79, 45, 4]
abbrev dktX14_meets_0 : List UInt8 := dkwX14_meets_0 ++ dktX14_meets_1
theorem dksX14_meets_0 : cX14_meets.data.toList.drop 0 = dktX14_meets_0 := by decide +kernel
theorem dksX14_meets_1 : cX14_meets.data.toList.drop 24 = dktX14_meets_1 := dk_seg dksX14_meets_0 24 rfl rfl
theorem dX14_meets_0 : decode cX14_meets 0 = .ok (.aload_n 0, 1) := dk_42 (dk_at dksX14_meets_0 0 rfl rfl)
theorem dX14_meets_1 : decode cX14_meets 1 = .ok (.getfield 1, 3) := dk_180 0 1 (dk_at dksX14_meets_0 1 rfl rfl)
theorem dX14_meets_4 : decode cX14_meets 4 = .ok (.aload_n 0, 1) := dk_42 (dk_at dksX14_meets_0 4 rfl rfl)
theorem dX14_meets_5 : decode cX14_meets 5 = .ok (.getfield 13, 3) := dk_180 0 13 (dk_at dksX14_meets_0 5 rfl rfl)
theorem dX14_meets_8 : decode cX14_meets 8 = .ok (.invokevirtual 17, 3) := dk_182 0 17 (dk_at dksX14_meets_0 8 rfl rfl)
theorem dX14_meets_11 : decode cX14_meets 11 = .ok (.getfield 23, 3) := dk_180 0 23 (dk_at dksX14_meets_0 11 rfl rfl)
theorem dX14_meets_14 : decode cX14_meets 14 = .ok (.astore_n 3, 1) := dk_78 (dk_at dksX14_meets_0 14 rfl rfl)
theorem dX14_meets_15 : decode cX14_meets 15 = .ok (.aload_n 3, 1) := dk_45 (dk_at dksX14_meets_0 15 rfl rfl)
theorem dX14_meets_16 : decode cX14_meets 16 = .ok (.iconst 0, 1) := dk_3 (dk_at dksX14_meets_0 16 rfl rfl)
theorem dX14_meets_17 : decode cX14_meets 17 = .ok (.aload_n 1, 1) := dk_43 (dk_at dksX14_meets_0 17 rfl rfl)
theorem dX14_meets_18 : decode cX14_meets 18 = .ok (.getfield 29, 3) := dk_180 0 29 (dk_at dksX14_meets_0 18 rfl rfl)
theorem dX14_meets_21 : decode cX14_meets 21 = .ok (.iastore, 1) := dk_79 (dk_at dksX14_meets_0 21 rfl rfl)
theorem dX14_meets_22 : decode cX14_meets 22 = .ok (.aload_n 3, 1) := dk_45 (dk_at dksX14_meets_0 22 rfl rfl)
theorem dX14_meets_23 : decode cX14_meets 23 = .ok (.iconst 1, 1) := dk_4 (dk_at dksX14_meets_0 23 rfl rfl)
theorem dX14_meets_24 : decode cX14_meets 24 = .ok (.aload_n 1, 1) := dk_43 (dk_at dksX14_meets_1 0 rfl rfl)
theorem dX14_meets_25 : decode cX14_meets 25 = .ok (.invokevirtual 34, 3) := dk_182 0 34 (dk_at dksX14_meets_1 1 rfl rfl)
theorem dX14_meets_28 : decode cX14_meets 28 = .ok (.iastore, 1) := dk_79 (dk_at dksX14_meets_1 4 rfl rfl)
theorem dX14_meets_29 : decode cX14_meets 29 = .ok (.aload_n 3, 1) := dk_45 (dk_at dksX14_meets_1 5 rfl rfl)
theorem dX14_meets_30 : decode cX14_meets 30 = .ok (.iconst 2, 1) := dk_5 (dk_at dksX14_meets_1 6 rfl rfl)
theorem dX14_meets_31 : decode cX14_meets 31 = .ok (.iload_n 2, 1) := dk_28 (dk_at dksX14_meets_1 7 rfl rfl)
theorem dX14_meets_32 : decode cX14_meets 32 = .ok (.iastore, 1) := dk_79 (dk_at dksX14_meets_1 8 rfl rfl)
theorem dX14_meets_33 : decode cX14_meets 33 = .ok (.iconst 1, 1) := dk_4 (dk_at dksX14_meets_1 9 rfl rfl)
theorem dX14_meets_34 : decode cX14_meets 34 = .ok (.ireturn, 1) := dk_172 (dk_at dksX14_meets_1 10 rfl rfl)
theorem q100 : (Jvm.Cond.initialized "ColdBox$Shows") ∈ lw_all := lw_g (lw_at lw_m1 18 rfl) rfl
theorem q162 : (Jvm.Cond.fieldLinkNest "ColdBox$Shows" (29 : Nat) "ColdBox$Body" "place" "I" "ColdBox") ∈ lw_tbl := lw_at lw_m1 80 rfl
theorem q447 : (Jvm.Cond.fieldLink "ColdBox$Shows" (13 : Nat) "ColdBox$Shows" "many" "I") ∈ lw_all := lw_g (lw_at lw_m2 125 rfl) rfl
theorem q448 : (Jvm.Cond.sameField "ColdBox$Shows" "ColdBox$Lying" "many" "I") ∈ lw_all := lw_g (lw_at lw_m2 126 rfl) rfl
theorem q465 : (Jvm.Cond.instantiable "ColdBox$Shows" (3 : Nat)) ∈ lw_all := lw_g (lw_at lw_m2 143 rfl) rfl
theorem q467 : (Jvm.Cond.instanceMethod ({ cls := "ColdBox$Shows", name := "<init>", desc := "(LColdBox;)V" } : Jvm.MethodName)) ∈ lw_all := lw_g (lw_at lw_m2 145 rfl) rfl
theorem q468 : (Jvm.Cond.code ({ cls := "ColdBox$Shows", name := "<init>", desc := "(LColdBox;)V" } : Jvm.MethodName) prog_31_method_1_code (2 : Nat) (Option.none : Option Jvm.ClassFile.FieldType)) ∈ lw_all := lw_g (lw_at lw_m2 146 rfl) rfl
theorem q469 : (Jvm.Cond.methodLinkNest "ColdBox$Shows" (7 : Nat) ({ cls := "ColdBox$Lying", name := "<init>", desc := "(LColdBox;)V" } : Jvm.MethodName) "ColdBox") ∈ lw_tbl := lw_at lw_m2 147 rfl
theorem q470 : (Jvm.Cond.fieldLink "ColdBox$Shows" (1 : Nat) "ColdBox$Shows" "this$0" "LColdBox;") ∈ lw_all := lw_g (lw_at lw_m2 148 rfl) rfl
theorem q471 : (Jvm.Cond.laysFinal "ColdBox$Shows" "ColdBox$Shows" "this$0" "LColdBox;") ∈ lw_all := lw_g (lw_at lw_m2 149 rfl) rfl
theorem q472 : (Jvm.Cond.soleField "ColdBox$Shows" "this$0") ∈ lw_all := lw_g (lw_at lw_m2 150 rfl) rfl
theorem q473 : (Jvm.Cond.lays "ColdBox$Shows" "ColdBox$Lying" "many" "I") ∈ lw_all := lw_g (lw_at lw_m2 151 rfl) rfl
theorem q474 : (Jvm.Cond.laysFinal "ColdBox$Shows" "ColdBox$Lying" "this$0" "LColdBox;") ∈ lw_all := lw_g (lw_at lw_m2 152 rfl) rfl
theorem q475 : (Jvm.Cond.superclass "ColdBox$Shows" "ColdBox$Lying") ∈ lw_all := lw_g (lw_at lw_m2 153 rfl) rfl
theorem q1078 : (Jvm.Cond.selects "ColdBox$Shows" ({ cls := "ColdBox$Lying", name := "meets", desc := "(LColdBox$Body;I)Z" } : Jvm.MethodName) ({ cls := "ColdBox$Shows", name := "meets", desc := "(LColdBox$Body;I)Z" } : Jvm.MethodName)) ∈ lw_all := lw_g (lw_at lw_m5 36 rfl) rfl
theorem q1079 : (Jvm.Cond.instanceMethod ({ cls := "ColdBox$Shows", name := "meets", desc := "(LColdBox$Body;I)Z" } : Jvm.MethodName)) ∈ lw_all := lw_g (lw_at lw_m5 37 rfl) rfl
theorem q1080 : (Jvm.Cond.code ({ cls := "ColdBox$Shows", name := "meets", desc := "(LColdBox$Body;I)Z" } : Jvm.MethodName) prog_31_method_2_code (4 : Nat) (Option.some Jvm.ClassFile.FieldType.boolean)) ∈ lw_all := lw_g (lw_at lw_m5 38 rfl) rfl
theorem q1081 : (Jvm.Cond.methodLinkNest "ColdBox$Shows" (17 : Nat) ({ cls := "ColdBox", name := "rowAt", desc := "(I)LColdBox$Row;" } : Jvm.MethodName) "ColdBox") ∈ lw_tbl := lw_at lw_m5 39 rfl
theorem q1091 : (Jvm.Cond.fieldLinkNest "ColdBox$Shows" (23 : Nat) "ColdBox$Row" "told" "[I" "ColdBox") ∈ lw_tbl := lw_at lw_m5 49 rfl
theorem q1097 : (Jvm.Cond.methodLink "ColdBox$Shows" (34 : Nat) ({ cls := "ColdBox$Body", name := "weight", desc := "()I" } : Jvm.MethodName)) ∈ lw_all := lw_g (lw_at lw_m5 55 rfl) rfl
theorem q1164 : (Jvm.Cond.sameMethod "ColdBox$Shows" "ColdBox$Lying" "goes" "(LColdBox$Body;)Z") ∈ lw_all := lw_g (lw_at lw_m5 122 rfl) rfl
theorem q1165 : (Jvm.Cond.selects "ColdBox$Shows" ({ cls := "ColdBox$Shows", name := "goes", desc := "(LColdBox$Body;)Z" } : Jvm.MethodName) ({ cls := "ColdBox$Lying", name := "goes", desc := "(LColdBox$Body;)Z" } : Jvm.MethodName)) ∈ lw_all := lw_g (lw_at lw_m5 123 rfl) rfl
theorem in_X14 : ∀ w ∈ wsX140, w ∈ lw_all := lw_in wsX140 [473, 474, 471] (by decide +kernel) (by decide +kernel)

/-! ColdBox$Judges -/
set_option maxRecDepth 100000
def RX15 : String := "ColdBox$Judges"
def TX15 : u_T := fun k => match k with
  | 0 => ("ColdBox$Lying", "many", "I", false)
  | 1 => ("ColdBox$Lying", "this$0", "LColdBox;", true)
  | 2 => ("ColdBox$Judges", "wrong", "I", false)
  | _ => ("ColdBox$Judges", "this$0", "LColdBox;", true)
def tyX15 : Nat → FieldType := fun k => match k with
  | 0 => .int
  | 1 => .object "ColdBox"
  | 2 => .int
  | _ => .object "ColdBox"
abbrev wsX150 : List Cond := u_ws RX15 TX15 4
-- two fields of one name: no nmX15
theorem tyX15_ok : ∀ k, k < 4 → parseFieldDescriptor (TX15 k).2.2.1 = some (tyX15 k) := by decide +kernel
abbrev cX15_init : ByteArray := prog_17_method_1_code
def yX15_init : MethodName := ⟨RX15, "<init>", "(LColdBox;)V"⟩
def dkwX15_init_0 : List UInt8 := [42, 43, 181, 0, 3, 42, 43, 183, 0, 9, 177]
abbrev dktX15_init_0 : List UInt8 := dkwX15_init_0 ++ []
theorem dksX15_init_0 : cX15_init.data.toList.drop 0 = dktX15_init_0 := by decide +kernel
theorem dX15_init_0 : decode cX15_init 0 = .ok (.aload_n 0, 1) := dk_42 (dk_at dksX15_init_0 0 rfl rfl)
theorem dX15_init_1 : decode cX15_init 1 = .ok (.aload_n 1, 1) := dk_43 (dk_at dksX15_init_0 1 rfl rfl)
theorem dX15_init_2 : decode cX15_init 2 = .ok (.putfield 3, 3) := dk_181 0 3 (dk_at dksX15_init_0 2 rfl rfl)
theorem dX15_init_5 : decode cX15_init 5 = .ok (.aload_n 0, 1) := dk_42 (dk_at dksX15_init_0 5 rfl rfl)
theorem dX15_init_6 : decode cX15_init 6 = .ok (.aload_n 1, 1) := dk_43 (dk_at dksX15_init_0 6 rfl rfl)
theorem dX15_init_7 : decode cX15_init 7 = .ok (.invokespecial 9, 3) := dk_183 0 9 (dk_at dksX15_init_0 7 rfl rfl)
theorem dX15_init_10 : decode cX15_init 10 = .ok (.return_, 1) := dk_177 (dk_at dksX15_init_0 10 rfl rfl)
abbrev cX15_meets : ByteArray := prog_17_method_2_code
def yX15_meets : MethodName := ⟨RX15, "meets", "(LColdBox$Body;I)Z"⟩
def dkwX15_meets_4 : List UInt8 := [42, 180, 0, 15, 4, 96, 181, 0, 41, 42, 180, 0, 41, 154, 0, 7, 4, 167, 0, 4, 3, 172]
abbrev dktX15_meets_4 : List UInt8 := dkwX15_meets_4 ++ []
def dkwX15_meets_3 : List UInt8 := [180, 0, 3, 180, 0, 22, 42, 180, 0, 15, 50, 180, 0, 26, 5, 46, 28, 160, 0, 7, 3, 167, 0, 9]
abbrev dktX15_meets_3 : List UInt8 := dkwX15_meets_3 ++ dktX15_meets_4
def dkwX15_meets_2 : List UInt8 := [180, 0, 3, 180, 0, 22, 42, 180, 0, 15, 50, 180, 0, 26, 4, 46, 43, 182, 0, 37, 160, 0, 28, 42]
abbrev dktX15_meets_2 : List UInt8 := dkwX15_meets_2 ++ dktX15_meets_3
def dkwX15_meets_1 : List UInt8 := [180, 0, 3, 180, 0, 22, 42, 180, 0, 15, 50, 180, 0, 26, 3, 46, 43, 180, 0, 32, 160, 0, 52, 42]
abbrev dktX15_meets_1 : List UInt8 := dkwX15_meets_1 ++ dktX15_meets_2
def dkwX15_meets_0 : List UInt8 := [42, 42, 180, 0, 15, 42, 180, 0, 3, 180, 0, 19, 160, 0, 9, 17, 0, 222, 167, 0, 82, 42]
abbrev dktX15_meets_0 : List UInt8 := dkwX15_meets_0 ++ dktX15_meets_1
theorem dksX15_meets_0 : cX15_meets.data.toList.drop 0 = dktX15_meets_0 := by decide +kernel
theorem dksX15_meets_1 : cX15_meets.data.toList.drop 22 = dktX15_meets_1 := dk_seg dksX15_meets_0 22 rfl rfl
theorem dksX15_meets_2 : cX15_meets.data.toList.drop 46 = dktX15_meets_2 := dk_seg dksX15_meets_1 24 rfl rfl
theorem dksX15_meets_3 : cX15_meets.data.toList.drop 70 = dktX15_meets_3 := dk_seg dksX15_meets_2 24 rfl rfl
theorem dksX15_meets_4 : cX15_meets.data.toList.drop 94 = dktX15_meets_4 := dk_seg dksX15_meets_3 24 rfl rfl
theorem dX15_meets_0 : decode cX15_meets 0 = .ok (.aload_n 0, 1) := dk_42 (dk_at dksX15_meets_0 0 rfl rfl)
theorem dX15_meets_1 : decode cX15_meets 1 = .ok (.aload_n 0, 1) := dk_42 (dk_at dksX15_meets_0 1 rfl rfl)
theorem dX15_meets_2 : decode cX15_meets 2 = .ok (.getfield 15, 3) := dk_180 0 15 (dk_at dksX15_meets_0 2 rfl rfl)
theorem dX15_meets_5 : decode cX15_meets 5 = .ok (.aload_n 0, 1) := dk_42 (dk_at dksX15_meets_0 5 rfl rfl)
theorem dX15_meets_6 : decode cX15_meets 6 = .ok (.getfield 3, 3) := dk_180 0 3 (dk_at dksX15_meets_0 6 rfl rfl)
theorem dX15_meets_9 : decode cX15_meets 9 = .ok (.getfield 19, 3) := dk_180 0 19 (dk_at dksX15_meets_0 9 rfl rfl)
theorem dX15_meets_12 : decode cX15_meets 12 = .ok (.if_icmp .ne 9, 3) := dk_160 0 9 (dk_at dksX15_meets_0 12 rfl rfl)
theorem dX15_meets_15 : decode cX15_meets 15 = .ok (.sipush 222, 3) := dk_17 0 222 (dk_at dksX15_meets_0 15 rfl rfl)
theorem dX15_meets_18 : decode cX15_meets 18 = .ok (.goto 82, 3) := dk_167 0 82 (dk_at dksX15_meets_0 18 rfl rfl)
theorem dX15_meets_21 : decode cX15_meets 21 = .ok (.aload_n 0, 1) := dk_42 (dk_at dksX15_meets_0 21 rfl rfl)
theorem dX15_meets_22 : decode cX15_meets 22 = .ok (.getfield 3, 3) := dk_180 0 3 (dk_at dksX15_meets_1 0 rfl rfl)
theorem dX15_meets_25 : decode cX15_meets 25 = .ok (.getfield 22, 3) := dk_180 0 22 (dk_at dksX15_meets_1 3 rfl rfl)
theorem dX15_meets_28 : decode cX15_meets 28 = .ok (.aload_n 0, 1) := dk_42 (dk_at dksX15_meets_1 6 rfl rfl)
theorem dX15_meets_29 : decode cX15_meets 29 = .ok (.getfield 15, 3) := dk_180 0 15 (dk_at dksX15_meets_1 7 rfl rfl)
theorem dX15_meets_32 : decode cX15_meets 32 = .ok (.aaload, 1) := dk_50 (dk_at dksX15_meets_1 10 rfl rfl)
theorem dX15_meets_33 : decode cX15_meets 33 = .ok (.getfield 26, 3) := dk_180 0 26 (dk_at dksX15_meets_1 11 rfl rfl)
theorem dX15_meets_36 : decode cX15_meets 36 = .ok (.iconst 0, 1) := dk_3 (dk_at dksX15_meets_1 14 rfl rfl)
theorem dX15_meets_37 : decode cX15_meets 37 = .ok (.iaload, 1) := dk_46 (dk_at dksX15_meets_1 15 rfl rfl)
theorem dX15_meets_38 : decode cX15_meets 38 = .ok (.aload_n 1, 1) := dk_43 (dk_at dksX15_meets_1 16 rfl rfl)
theorem dX15_meets_39 : decode cX15_meets 39 = .ok (.getfield 32, 3) := dk_180 0 32 (dk_at dksX15_meets_1 17 rfl rfl)
theorem dX15_meets_42 : decode cX15_meets 42 = .ok (.if_icmp .ne 52, 3) := dk_160 0 52 (dk_at dksX15_meets_1 20 rfl rfl)
theorem dX15_meets_45 : decode cX15_meets 45 = .ok (.aload_n 0, 1) := dk_42 (dk_at dksX15_meets_1 23 rfl rfl)
theorem dX15_meets_46 : decode cX15_meets 46 = .ok (.getfield 3, 3) := dk_180 0 3 (dk_at dksX15_meets_2 0 rfl rfl)
theorem dX15_meets_49 : decode cX15_meets 49 = .ok (.getfield 22, 3) := dk_180 0 22 (dk_at dksX15_meets_2 3 rfl rfl)
theorem dX15_meets_52 : decode cX15_meets 52 = .ok (.aload_n 0, 1) := dk_42 (dk_at dksX15_meets_2 6 rfl rfl)
theorem dX15_meets_53 : decode cX15_meets 53 = .ok (.getfield 15, 3) := dk_180 0 15 (dk_at dksX15_meets_2 7 rfl rfl)
theorem dX15_meets_56 : decode cX15_meets 56 = .ok (.aaload, 1) := dk_50 (dk_at dksX15_meets_2 10 rfl rfl)
theorem dX15_meets_57 : decode cX15_meets 57 = .ok (.getfield 26, 3) := dk_180 0 26 (dk_at dksX15_meets_2 11 rfl rfl)
theorem dX15_meets_60 : decode cX15_meets 60 = .ok (.iconst 1, 1) := dk_4 (dk_at dksX15_meets_2 14 rfl rfl)
theorem dX15_meets_61 : decode cX15_meets 61 = .ok (.iaload, 1) := dk_46 (dk_at dksX15_meets_2 15 rfl rfl)
theorem dX15_meets_62 : decode cX15_meets 62 = .ok (.aload_n 1, 1) := dk_43 (dk_at dksX15_meets_2 16 rfl rfl)
theorem dX15_meets_63 : decode cX15_meets 63 = .ok (.invokevirtual 37, 3) := dk_182 0 37 (dk_at dksX15_meets_2 17 rfl rfl)
theorem dX15_meets_66 : decode cX15_meets 66 = .ok (.if_icmp .ne 28, 3) := dk_160 0 28 (dk_at dksX15_meets_2 20 rfl rfl)
theorem dX15_meets_69 : decode cX15_meets 69 = .ok (.aload_n 0, 1) := dk_42 (dk_at dksX15_meets_2 23 rfl rfl)
theorem dX15_meets_70 : decode cX15_meets 70 = .ok (.getfield 3, 3) := dk_180 0 3 (dk_at dksX15_meets_3 0 rfl rfl)
theorem dX15_meets_73 : decode cX15_meets 73 = .ok (.getfield 22, 3) := dk_180 0 22 (dk_at dksX15_meets_3 3 rfl rfl)
theorem dX15_meets_76 : decode cX15_meets 76 = .ok (.aload_n 0, 1) := dk_42 (dk_at dksX15_meets_3 6 rfl rfl)
theorem dX15_meets_77 : decode cX15_meets 77 = .ok (.getfield 15, 3) := dk_180 0 15 (dk_at dksX15_meets_3 7 rfl rfl)
theorem dX15_meets_80 : decode cX15_meets 80 = .ok (.aaload, 1) := dk_50 (dk_at dksX15_meets_3 10 rfl rfl)
theorem dX15_meets_81 : decode cX15_meets 81 = .ok (.getfield 26, 3) := dk_180 0 26 (dk_at dksX15_meets_3 11 rfl rfl)
theorem dX15_meets_84 : decode cX15_meets 84 = .ok (.iconst 2, 1) := dk_5 (dk_at dksX15_meets_3 14 rfl rfl)
theorem dX15_meets_85 : decode cX15_meets 85 = .ok (.iaload, 1) := dk_46 (dk_at dksX15_meets_3 15 rfl rfl)
theorem dX15_meets_86 : decode cX15_meets 86 = .ok (.iload_n 2, 1) := dk_28 (dk_at dksX15_meets_3 16 rfl rfl)
theorem dX15_meets_87 : decode cX15_meets 87 = .ok (.if_icmp .ne 7, 3) := dk_160 0 7 (dk_at dksX15_meets_3 17 rfl rfl)
theorem dX15_meets_90 : decode cX15_meets 90 = .ok (.iconst 0, 1) := dk_3 (dk_at dksX15_meets_3 20 rfl rfl)
theorem dX15_meets_91 : decode cX15_meets 91 = .ok (.goto 9, 3) := dk_167 0 9 (dk_at dksX15_meets_3 21 rfl rfl)
theorem dX15_meets_94 : decode cX15_meets 94 = .ok (.aload_n 0, 1) := dk_42 (dk_at dksX15_meets_4 0 rfl rfl)
theorem dX15_meets_95 : decode cX15_meets 95 = .ok (.getfield 15, 3) := dk_180 0 15 (dk_at dksX15_meets_4 1 rfl rfl)
theorem dX15_meets_98 : decode cX15_meets 98 = .ok (.iconst 1, 1) := dk_4 (dk_at dksX15_meets_4 4 rfl rfl)
theorem dX15_meets_99 : decode cX15_meets 99 = .ok (.iadd, 1) := dk_96 (dk_at dksX15_meets_4 5 rfl rfl)
theorem dX15_meets_100 : decode cX15_meets 100 = .ok (.putfield 41, 3) := dk_181 0 41 (dk_at dksX15_meets_4 6 rfl rfl)
theorem dX15_meets_103 : decode cX15_meets 103 = .ok (.aload_n 0, 1) := dk_42 (dk_at dksX15_meets_4 9 rfl rfl)
theorem dX15_meets_104 : decode cX15_meets 104 = .ok (.getfield 41, 3) := dk_180 0 41 (dk_at dksX15_meets_4 10 rfl rfl)
theorem dX15_meets_107 : decode cX15_meets 107 = .ok (.ifCond .ne 7, 3) := dk_154 0 7 (dk_at dksX15_meets_4 13 rfl rfl)
theorem dX15_meets_110 : decode cX15_meets 110 = .ok (.iconst 1, 1) := dk_4 (dk_at dksX15_meets_4 16 rfl rfl)
theorem dX15_meets_111 : decode cX15_meets 111 = .ok (.goto 4, 3) := dk_167 0 4 (dk_at dksX15_meets_4 17 rfl rfl)
theorem dX15_meets_114 : decode cX15_meets 114 = .ok (.iconst 0, 1) := dk_3 (dk_at dksX15_meets_4 20 rfl rfl)
theorem dX15_meets_115 : decode cX15_meets 115 = .ok (.ireturn, 1) := dk_172 (dk_at dksX15_meets_4 21 rfl rfl)
theorem q101 : (Jvm.Cond.initialized "ColdBox$Judges") ∈ lw_all := lw_g (lw_at lw_m1 19 rfl) rfl
theorem q163 : (Jvm.Cond.fieldLinkNest "ColdBox$Judges" (32 : Nat) "ColdBox$Body" "place" "I" "ColdBox") ∈ lw_tbl := lw_at lw_m1 81 rfl
theorem q445 : (Jvm.Cond.fieldLink "ColdBox$Judges" (15 : Nat) "ColdBox$Judges" "many" "I") ∈ lw_all := lw_g (lw_at lw_m2 123 rfl) rfl
theorem q446 : (Jvm.Cond.sameField "ColdBox$Judges" "ColdBox$Lying" "many" "I") ∈ lw_all := lw_g (lw_at lw_m2 124 rfl) rfl
theorem q477 : (Jvm.Cond.instantiable "ColdBox$Judges" (4 : Nat)) ∈ lw_all := lw_g (lw_at lw_m2 155 rfl) rfl
theorem q479 : (Jvm.Cond.instanceMethod ({ cls := "ColdBox$Judges", name := "<init>", desc := "(LColdBox;)V" } : Jvm.MethodName)) ∈ lw_all := lw_g (lw_at lw_m2 157 rfl) rfl
theorem q480 : (Jvm.Cond.code ({ cls := "ColdBox$Judges", name := "<init>", desc := "(LColdBox;)V" } : Jvm.MethodName) prog_17_method_1_code (2 : Nat) (Option.none : Option Jvm.ClassFile.FieldType)) ∈ lw_all := lw_g (lw_at lw_m2 158 rfl) rfl
theorem q481 : (Jvm.Cond.methodLinkNest "ColdBox$Judges" (9 : Nat) ({ cls := "ColdBox$Lying", name := "<init>", desc := "(LColdBox;)V" } : Jvm.MethodName) "ColdBox") ∈ lw_tbl := lw_at lw_m2 159 rfl
theorem q482 : (Jvm.Cond.fieldLink "ColdBox$Judges" (41 : Nat) "ColdBox$Judges" "wrong" "I") ∈ lw_all := lw_g (lw_at lw_m2 160 rfl) rfl
theorem q484 : (Jvm.Cond.fieldLink "ColdBox$Judges" (3 : Nat) "ColdBox$Judges" "this$0" "LColdBox;") ∈ lw_all := lw_g (lw_at lw_m2 162 rfl) rfl
theorem q485 : (Jvm.Cond.lays "ColdBox$Judges" "ColdBox$Judges" "wrong" "I") ∈ lw_all := lw_g (lw_at lw_m2 163 rfl) rfl
theorem q486 : (Jvm.Cond.soleField "ColdBox$Judges" "wrong") ∈ lw_all := lw_g (lw_at lw_m2 164 rfl) rfl
theorem q487 : (Jvm.Cond.laysFinal "ColdBox$Judges" "ColdBox$Judges" "this$0" "LColdBox;") ∈ lw_all := lw_g (lw_at lw_m2 165 rfl) rfl
theorem q488 : (Jvm.Cond.soleField "ColdBox$Judges" "this$0") ∈ lw_all := lw_g (lw_at lw_m2 166 rfl) rfl
theorem q489 : (Jvm.Cond.lays "ColdBox$Judges" "ColdBox$Lying" "many" "I") ∈ lw_all := lw_g (lw_at lw_m2 167 rfl) rfl
theorem q490 : (Jvm.Cond.laysFinal "ColdBox$Judges" "ColdBox$Lying" "this$0" "LColdBox;") ∈ lw_all := lw_g (lw_at lw_m2 168 rfl) rfl
theorem q491 : (Jvm.Cond.superclass "ColdBox$Judges" "ColdBox$Lying") ∈ lw_all := lw_g (lw_at lw_m2 169 rfl) rfl
theorem q580 : (Jvm.Cond.fieldLinkNest "ColdBox$Judges" (22 : Nat) "ColdBox" "rows" "[LColdBox$Row;" "ColdBox") ∈ lw_tbl := lw_at lw_m3 18 rfl
theorem q582 : (Jvm.Cond.fieldLinkNest "ColdBox$Judges" (19 : Nat) "ColdBox" "rowMany" "I" "ColdBox") ∈ lw_tbl := lw_at lw_m3 20 rfl
theorem q1071 : (Jvm.Cond.selects "ColdBox$Judges" ({ cls := "ColdBox$Lying", name := "meets", desc := "(LColdBox$Body;I)Z" } : Jvm.MethodName) ({ cls := "ColdBox$Judges", name := "meets", desc := "(LColdBox$Body;I)Z" } : Jvm.MethodName)) ∈ lw_all := lw_g (lw_at lw_m5 29 rfl) rfl
theorem q1072 : (Jvm.Cond.instanceMethod ({ cls := "ColdBox$Judges", name := "meets", desc := "(LColdBox$Body;I)Z" } : Jvm.MethodName)) ∈ lw_all := lw_g (lw_at lw_m5 30 rfl) rfl
theorem q1073 : (Jvm.Cond.code ({ cls := "ColdBox$Judges", name := "meets", desc := "(LColdBox$Body;I)Z" } : Jvm.MethodName) prog_17_method_2_code (3 : Nat) (Option.some Jvm.ClassFile.FieldType.boolean)) ∈ lw_all := lw_g (lw_at lw_m5 31 rfl) rfl
theorem q1074 : (Jvm.Cond.methodLink "ColdBox$Judges" (37 : Nat) ({ cls := "ColdBox$Body", name := "weight", desc := "()I" } : Jvm.MethodName)) ∈ lw_all := lw_g (lw_at lw_m5 32 rfl) rfl
theorem q1092 : (Jvm.Cond.fieldLinkNest "ColdBox$Judges" (26 : Nat) "ColdBox$Row" "told" "[I" "ColdBox") ∈ lw_tbl := lw_at lw_m5 50 rfl
theorem q1171 : (Jvm.Cond.sameMethod "ColdBox$Judges" "ColdBox$Lying" "goes" "(LColdBox$Body;)Z") ∈ lw_all := lw_g (lw_at lw_m5 129 rfl) rfl
theorem q1172 : (Jvm.Cond.selects "ColdBox$Judges" ({ cls := "ColdBox$Judges", name := "goes", desc := "(LColdBox$Body;)Z" } : Jvm.MethodName) ({ cls := "ColdBox$Lying", name := "goes", desc := "(LColdBox$Body;)Z" } : Jvm.MethodName)) ∈ lw_all := lw_g (lw_at lw_m5 130 rfl) rfl
theorem in_X15 : ∀ w ∈ wsX150, w ∈ lw_all := lw_in wsX150 [489, 490, 485, 487] (by decide +kernel) (by decide +kernel)

/-! ColdBox$Sheet -/
set_option maxRecDepth 100000
def RX16 : String := "ColdBox$Sheet"
def TX16 : u_T := fun k => match k with
  | 0 => ("ColdBox$Sheet", "bytes", "[B", false)
  | 1 => ("ColdBox$Sheet", "shorts", "[S", false)
  | 2 => ("ColdBox$Sheet", "ints", "[I", false)
  | 3 => ("ColdBox$Sheet", "longs", "[J", false)
  | _ => ("ColdBox$Sheet", "sort", "I", false)
def tyX16 : Nat → FieldType := fun k => match k with
  | 0 => .array .byte
  | 1 => .array .short
  | 2 => .array .int
  | 3 => .array .long
  | _ => .int
abbrev wsX160 : List Cond := u_ws RX16 TX16 5
theorem nmX16 : ∀ a, a < 5 → ∀ b, b < 5 → a ≠ b → (TX16 a).2.1 ≠ (TX16 b).2.1 := by decide +kernel
theorem tyX16_ok : ∀ k, k < 5 → parseFieldDescriptor (TX16 k).2.2.1 = some (tyX16 k) := by decide +kernel
abbrev cX16_init : ByteArray := prog_29_method_1_code
def yX16_init : MethodName := ⟨RX16, "<init>", "()V"⟩
def dkwX16_init_0 : List UInt8 := [42, 183, 0, 1, 42, 2, 181, 0, 7, 177]
abbrev dktX16_init_0 : List UInt8 := dkwX16_init_0 ++ []
theorem dksX16_init_0 : cX16_init.data.toList.drop 0 = dktX16_init_0 := by decide +kernel
theorem dX16_init_0 : decode cX16_init 0 = .ok (.aload_n 0, 1) := dk_42 (dk_at dksX16_init_0 0 rfl rfl)
theorem dX16_init_1 : decode cX16_init 1 = .ok (.invokespecial 1, 3) := dk_183 0 1 (dk_at dksX16_init_0 1 rfl rfl)
theorem dX16_init_4 : decode cX16_init 4 = .ok (.aload_n 0, 1) := dk_42 (dk_at dksX16_init_0 4 rfl rfl)
theorem dX16_init_5 : decode cX16_init 5 = .ok (.iconst (-1), 1) := dk_2 (dk_at dksX16_init_0 5 rfl rfl)
theorem dX16_init_6 : decode cX16_init 6 = .ok (.putfield 7, 3) := dk_181 0 7 (dk_at dksX16_init_0 6 rfl rfl)
theorem dX16_init_9 : decode cX16_init 9 = .ok (.return_, 1) := dk_177 (dk_at dksX16_init_0 9 rfl rfl)
abbrev cX16_row : ByteArray := prog_29_method_2_code
def yX16_row : MethodName := ⟨RX16, "row", "()Ljava/lang/Object;"⟩
def dkwX16_row_2 : List UInt8 := [42, 180, 0, 13, 176, 42, 180, 0, 17, 176, 42, 180, 0, 21, 176, 42, 180, 0, 25, 176, 1, 176]
abbrev dktX16_row_2 : List UInt8 := dkwX16_row_2 ++ []
def dkwX16_row_1 : List UInt8 := [170, 0, 0, 0, 0, 0, 0, 52, 0, 0, 0, 0, 0, 0, 0, 3, 0, 0, 0, 32, 0, 0, 0, 37, 0, 0, 0, 42, 0, 0, 0, 47]
abbrev dktX16_row_1 : List UInt8 := dkwX16_row_1 ++ dktX16_row_2
def dkwX16_row_0 : List UInt8 := [42, 180, 0, 7]
abbrev dktX16_row_0 : List UInt8 := dkwX16_row_0 ++ dktX16_row_1
theorem dksX16_row_0 : cX16_row.data.toList.drop 0 = dktX16_row_0 := by decide +kernel
theorem dksX16_row_1 : cX16_row.data.toList.drop 4 = dktX16_row_1 := dk_seg dksX16_row_0 4 rfl rfl
theorem dksX16_row_2 : cX16_row.data.toList.drop 36 = dktX16_row_2 := dk_seg dksX16_row_1 32 rfl rfl
theorem dX16_row_0 : decode cX16_row 0 = .ok (.aload_n 0, 1) := dk_42 (dk_at dksX16_row_0 0 rfl rfl)
theorem dX16_row_1 : decode cX16_row 1 = .ok (.getfield 7, 3) := dk_180 0 7 (dk_at dksX16_row_0 1 rfl rfl)
theorem dX16_row_4 : decode cX16_row 4 = .ok (.tableswitch 52 0 3 #[32, 37, 42, 47], 32) := by decide +kernel
theorem dX16_row_36 : decode cX16_row 36 = .ok (.aload_n 0, 1) := dk_42 (dk_at dksX16_row_2 0 rfl rfl)
theorem dX16_row_37 : decode cX16_row 37 = .ok (.getfield 13, 3) := dk_180 0 13 (dk_at dksX16_row_2 1 rfl rfl)
theorem dX16_row_40 : decode cX16_row 40 = .ok (.areturn, 1) := dk_176 (dk_at dksX16_row_2 4 rfl rfl)
theorem dX16_row_41 : decode cX16_row 41 = .ok (.aload_n 0, 1) := dk_42 (dk_at dksX16_row_2 5 rfl rfl)
theorem dX16_row_42 : decode cX16_row 42 = .ok (.getfield 17, 3) := dk_180 0 17 (dk_at dksX16_row_2 6 rfl rfl)
theorem dX16_row_45 : decode cX16_row 45 = .ok (.areturn, 1) := dk_176 (dk_at dksX16_row_2 9 rfl rfl)
theorem dX16_row_46 : decode cX16_row 46 = .ok (.aload_n 0, 1) := dk_42 (dk_at dksX16_row_2 10 rfl rfl)
theorem dX16_row_47 : decode cX16_row 47 = .ok (.getfield 21, 3) := dk_180 0 21 (dk_at dksX16_row_2 11 rfl rfl)
theorem dX16_row_50 : decode cX16_row 50 = .ok (.areturn, 1) := dk_176 (dk_at dksX16_row_2 14 rfl rfl)
theorem dX16_row_51 : decode cX16_row 51 = .ok (.aload_n 0, 1) := dk_42 (dk_at dksX16_row_2 15 rfl rfl)
theorem dX16_row_52 : decode cX16_row 52 = .ok (.getfield 25, 3) := dk_180 0 25 (dk_at dksX16_row_2 16 rfl rfl)
theorem dX16_row_55 : decode cX16_row 55 = .ok (.areturn, 1) := dk_176 (dk_at dksX16_row_2 19 rfl rfl)
theorem dX16_row_56 : decode cX16_row 56 = .ok (.aconst_null, 1) := dk_1 (dk_at dksX16_row_2 20 rfl rfl)
theorem dX16_row_57 : decode cX16_row 57 = .ok (.areturn, 1) := dk_176 (dk_at dksX16_row_2 21 rfl rfl)
abbrev cX16_becomes : ByteArray := prog_29_method_3_code
def yX16_becomes : MethodName := ⟨RX16, "becomes", "(II)V"⟩
def dkwX16_becomes_3 : List UInt8 := [181, 0, 21, 167, 0, 13, 42, 28, 188, 11, 181, 0, 25, 167, 0, 3, 42, 27, 181, 0, 7, 177]
abbrev dktX16_becomes_3 : List UInt8 := dkwX16_becomes_3 ++ []
def dkwX16_becomes_2 : List UInt8 := [42, 28, 188, 8, 181, 0, 13, 167, 0, 33, 42, 28, 188, 9, 181, 0, 17, 167, 0, 23, 42, 28, 188, 10]
abbrev dktX16_becomes_2 : List UInt8 := dkwX16_becomes_2 ++ dktX16_becomes_3
def dkwX16_becomes_1 : List UInt8 := [170, 0, 0, 0, 0, 0, 71, 0, 0, 0, 0, 0, 0, 0, 3, 0, 0, 0, 31, 0, 0, 0, 41, 0, 0, 0, 51, 0, 0, 0, 61]
abbrev dktX16_becomes_1 : List UInt8 := dkwX16_becomes_1 ++ dktX16_becomes_2
def dkwX16_becomes_0 : List UInt8 := [27]
abbrev dktX16_becomes_0 : List UInt8 := dkwX16_becomes_0 ++ dktX16_becomes_1
theorem dksX16_becomes_0 : cX16_becomes.data.toList.drop 0 = dktX16_becomes_0 := by decide +kernel
theorem dksX16_becomes_1 : cX16_becomes.data.toList.drop 1 = dktX16_becomes_1 := dk_seg dksX16_becomes_0 1 rfl rfl
theorem dksX16_becomes_2 : cX16_becomes.data.toList.drop 32 = dktX16_becomes_2 := dk_seg dksX16_becomes_1 31 rfl rfl
theorem dksX16_becomes_3 : cX16_becomes.data.toList.drop 56 = dktX16_becomes_3 := dk_seg dksX16_becomes_2 24 rfl rfl
theorem dX16_becomes_0 : decode cX16_becomes 0 = .ok (.iload_n 1, 1) := dk_27 (dk_at dksX16_becomes_0 0 rfl rfl)
theorem dX16_becomes_1 : decode cX16_becomes 1 = .ok (.tableswitch 71 0 3 #[31, 41, 51, 61], 31) := by decide +kernel
theorem dX16_becomes_32 : decode cX16_becomes 32 = .ok (.aload_n 0, 1) := dk_42 (dk_at dksX16_becomes_2 0 rfl rfl)
theorem dX16_becomes_33 : decode cX16_becomes 33 = .ok (.iload_n 2, 1) := dk_28 (dk_at dksX16_becomes_2 1 rfl rfl)
theorem dX16_becomes_34 : decode cX16_becomes 34 = .ok (.newarray .byte, 2) := dk_188_8 (dk_at dksX16_becomes_2 2 rfl rfl)
theorem dX16_becomes_36 : decode cX16_becomes 36 = .ok (.putfield 13, 3) := dk_181 0 13 (dk_at dksX16_becomes_2 4 rfl rfl)
theorem dX16_becomes_39 : decode cX16_becomes 39 = .ok (.goto 33, 3) := dk_167 0 33 (dk_at dksX16_becomes_2 7 rfl rfl)
theorem dX16_becomes_42 : decode cX16_becomes 42 = .ok (.aload_n 0, 1) := dk_42 (dk_at dksX16_becomes_2 10 rfl rfl)
theorem dX16_becomes_43 : decode cX16_becomes 43 = .ok (.iload_n 2, 1) := dk_28 (dk_at dksX16_becomes_2 11 rfl rfl)
theorem dX16_becomes_44 : decode cX16_becomes 44 = .ok (.newarray .short, 2) := dk_188_9 (dk_at dksX16_becomes_2 12 rfl rfl)
theorem dX16_becomes_46 : decode cX16_becomes 46 = .ok (.putfield 17, 3) := dk_181 0 17 (dk_at dksX16_becomes_2 14 rfl rfl)
theorem dX16_becomes_49 : decode cX16_becomes 49 = .ok (.goto 23, 3) := dk_167 0 23 (dk_at dksX16_becomes_2 17 rfl rfl)
theorem dX16_becomes_52 : decode cX16_becomes 52 = .ok (.aload_n 0, 1) := dk_42 (dk_at dksX16_becomes_2 20 rfl rfl)
theorem dX16_becomes_53 : decode cX16_becomes 53 = .ok (.iload_n 2, 1) := dk_28 (dk_at dksX16_becomes_2 21 rfl rfl)
theorem dX16_becomes_54 : decode cX16_becomes 54 = .ok (.newarray .int, 2) := dk_188_10 (dk_at dksX16_becomes_2 22 rfl rfl)
theorem dX16_becomes_56 : decode cX16_becomes 56 = .ok (.putfield 21, 3) := dk_181 0 21 (dk_at dksX16_becomes_3 0 rfl rfl)
theorem dX16_becomes_59 : decode cX16_becomes 59 = .ok (.goto 13, 3) := dk_167 0 13 (dk_at dksX16_becomes_3 3 rfl rfl)
theorem dX16_becomes_62 : decode cX16_becomes 62 = .ok (.aload_n 0, 1) := dk_42 (dk_at dksX16_becomes_3 6 rfl rfl)
theorem dX16_becomes_63 : decode cX16_becomes 63 = .ok (.iload_n 2, 1) := dk_28 (dk_at dksX16_becomes_3 7 rfl rfl)
theorem dX16_becomes_64 : decode cX16_becomes 64 = .ok (.newarray .long, 2) := dk_188_11 (dk_at dksX16_becomes_3 8 rfl rfl)
theorem dX16_becomes_66 : decode cX16_becomes 66 = .ok (.putfield 25, 3) := dk_181 0 25 (dk_at dksX16_becomes_3 10 rfl rfl)
theorem dX16_becomes_69 : decode cX16_becomes 69 = .ok (.goto 3, 3) := dk_167 0 3 (dk_at dksX16_becomes_3 13 rfl rfl)
theorem dX16_becomes_72 : decode cX16_becomes 72 = .ok (.aload_n 0, 1) := dk_42 (dk_at dksX16_becomes_3 16 rfl rfl)
theorem dX16_becomes_73 : decode cX16_becomes 73 = .ok (.iload_n 1, 1) := dk_27 (dk_at dksX16_becomes_3 17 rfl rfl)
theorem dX16_becomes_74 : decode cX16_becomes 74 = .ok (.putfield 7, 3) := dk_181 0 7 (dk_at dksX16_becomes_3 18 rfl rfl)
theorem dX16_becomes_77 : decode cX16_becomes 77 = .ok (.return_, 1) := dk_177 (dk_at dksX16_becomes_3 21 rfl rfl)
theorem q102 : (Jvm.Cond.initialized "ColdBox$Sheet") ∈ lw_all := lw_g (lw_at lw_m1 20 rfl) rfl
theorem q494 : (Jvm.Cond.instantiable "ColdBox$Sheet" (5 : Nat)) ∈ lw_all := lw_g (lw_at lw_m2 172 rfl) rfl
theorem q496 : (Jvm.Cond.instanceMethod ({ cls := "ColdBox$Sheet", name := "<init>", desc := "()V" } : Jvm.MethodName)) ∈ lw_all := lw_g (lw_at lw_m2 174 rfl) rfl
theorem q497 : (Jvm.Cond.code ({ cls := "ColdBox$Sheet", name := "<init>", desc := "()V" } : Jvm.MethodName) prog_29_method_1_code (1 : Nat) (Option.none : Option Jvm.ClassFile.FieldType)) ∈ lw_all := lw_g (lw_at lw_m2 175 rfl) rfl
theorem q498 : (Jvm.Cond.methodLink "ColdBox$Sheet" (1 : Nat) ({ cls := "java/lang/Object", name := "<init>", desc := "()V" } : Jvm.MethodName)) ∈ lw_all := lw_g (lw_at lw_m2 176 rfl) rfl
theorem q499 : (Jvm.Cond.fieldLink "ColdBox$Sheet" (13 : Nat) "ColdBox$Sheet" "bytes" "[B") ∈ lw_all := lw_g (lw_at lw_m2 177 rfl) rfl
theorem q500 : (Jvm.Cond.fieldLink "ColdBox$Sheet" (17 : Nat) "ColdBox$Sheet" "shorts" "[S") ∈ lw_all := lw_g (lw_at lw_m2 178 rfl) rfl
theorem q501 : (Jvm.Cond.fieldLink "ColdBox$Sheet" (21 : Nat) "ColdBox$Sheet" "ints" "[I") ∈ lw_all := lw_g (lw_at lw_m2 179 rfl) rfl
theorem q502 : (Jvm.Cond.fieldLink "ColdBox$Sheet" (25 : Nat) "ColdBox$Sheet" "longs" "[J") ∈ lw_all := lw_g (lw_at lw_m2 180 rfl) rfl
theorem q503 : (Jvm.Cond.fieldLink "ColdBox$Sheet" (7 : Nat) "ColdBox$Sheet" "sort" "I") ∈ lw_all := lw_g (lw_at lw_m2 181 rfl) rfl
theorem q504 : (Jvm.Cond.lays "ColdBox$Sheet" "ColdBox$Sheet" "bytes" "[B") ∈ lw_all := lw_g (lw_at lw_m2 182 rfl) rfl
theorem q505 : (Jvm.Cond.soleField "ColdBox$Sheet" "bytes") ∈ lw_all := lw_g (lw_at lw_m2 183 rfl) rfl
theorem q506 : (Jvm.Cond.lays "ColdBox$Sheet" "ColdBox$Sheet" "shorts" "[S") ∈ lw_all := lw_g (lw_at lw_m2 184 rfl) rfl
theorem q507 : (Jvm.Cond.soleField "ColdBox$Sheet" "shorts") ∈ lw_all := lw_g (lw_at lw_m2 185 rfl) rfl
theorem q508 : (Jvm.Cond.lays "ColdBox$Sheet" "ColdBox$Sheet" "ints" "[I") ∈ lw_all := lw_g (lw_at lw_m2 186 rfl) rfl
theorem q509 : (Jvm.Cond.soleField "ColdBox$Sheet" "ints") ∈ lw_all := lw_g (lw_at lw_m2 187 rfl) rfl
theorem q510 : (Jvm.Cond.lays "ColdBox$Sheet" "ColdBox$Sheet" "longs" "[J") ∈ lw_all := lw_g (lw_at lw_m2 188 rfl) rfl
theorem q511 : (Jvm.Cond.soleField "ColdBox$Sheet" "longs") ∈ lw_all := lw_g (lw_at lw_m2 189 rfl) rfl
theorem q512 : (Jvm.Cond.lays "ColdBox$Sheet" "ColdBox$Sheet" "sort" "I") ∈ lw_all := lw_g (lw_at lw_m2 190 rfl) rfl
theorem q513 : (Jvm.Cond.soleField "ColdBox$Sheet" "sort") ∈ lw_all := lw_g (lw_at lw_m2 191 rfl) rfl
theorem q514 : (Jvm.Cond.superclass "ColdBox$Sheet" "java/lang/Object") ∈ lw_all := lw_g (lw_at lw_m2 192 rfl) rfl
theorem q1208 : (Jvm.Cond.instanceMethod ({ cls := "ColdBox$Sheet", name := "row", desc := "()Ljava/lang/Object;" } : Jvm.MethodName)) ∈ lw_all := lw_g (lw_at lw_m5 166 rfl) rfl
theorem q1209 : (Jvm.Cond.selects "ColdBox$Sheet" ({ cls := "ColdBox$Sheet", name := "row", desc := "()Ljava/lang/Object;" } : Jvm.MethodName) ({ cls := "ColdBox$Sheet", name := "row", desc := "()Ljava/lang/Object;" } : Jvm.MethodName)) ∈ lw_all := lw_g (lw_at lw_m5 167 rfl) rfl
theorem q1210 : (Jvm.Cond.code ({ cls := "ColdBox$Sheet", name := "row", desc := "()Ljava/lang/Object;" } : Jvm.MethodName) prog_29_method_2_code (1 : Nat) (Option.some (Jvm.ClassFile.FieldType.object "java/lang/Object"))) ∈ lw_all := lw_g (lw_at lw_m5 168 rfl) rfl
theorem q1246 : (Jvm.Cond.instanceMethod ({ cls := "ColdBox$Sheet", name := "becomes", desc := "(II)V" } : Jvm.MethodName)) ∈ lw_all := lw_g (lw_at lw_m5 204 rfl) rfl
theorem q1247 : (Jvm.Cond.selects "ColdBox$Sheet" ({ cls := "ColdBox$Sheet", name := "becomes", desc := "(II)V" } : Jvm.MethodName) ({ cls := "ColdBox$Sheet", name := "becomes", desc := "(II)V" } : Jvm.MethodName)) ∈ lw_all := lw_g (lw_at lw_m5 205 rfl) rfl
theorem q1248 : (Jvm.Cond.code ({ cls := "ColdBox$Sheet", name := "becomes", desc := "(II)V" } : Jvm.MethodName) prog_29_method_3_code (3 : Nat) (Option.none : Option Jvm.ClassFile.FieldType)) ∈ lw_all := lw_g (lw_at lw_m5 206 rfl) rfl
theorem in_X16 : ∀ w ∈ wsX160, w ∈ lw_all := lw_in wsX160 [504, 506, 508, 510, 512] (by decide +kernel) (by decide +kernel)

/-! ColdBox$Beyond -/
set_option maxRecDepth 100000
def RX17 : String := "ColdBox$Beyond"
def TX17 : u_T := fun k => match k with
  | 0 => ("java/lang/Throwable", "cause", "Ljava/lang/Throwable;", false)
  | 1 => ("java/lang/Throwable", "stackTrace", "[Ljava/lang/StackTraceElement;", false)
  | 2 => ("java/lang/Throwable", "suppressedExceptions", "Ljava/util/List;", false)
  | 3 => ("java/lang/Throwable", "detailMessage", "Ljava/lang/String;", false)
  | 4 => ("java/lang/Throwable", "backtrace", "Ljava/lang/Object;", false)
  | _ => ("java/lang/Throwable", "depth", "I", false)
def tyX17 : Nat → FieldType := fun k => match k with
  | 0 => .object "java/lang/Throwable"
  | 1 => .array (.object "java/lang/StackTraceElement")
  | 2 => .object "java/util/List"
  | 3 => .object "java/lang/String"
  | 4 => .object "java/lang/Object"
  | _ => .int
abbrev wsX170 : List Cond := u_ws RX17 TX17 6
theorem nmX17 : ∀ a, a < 6 → ∀ b, b < 6 → a ≠ b → (TX17 a).2.1 ≠ (TX17 b).2.1 := by decide +kernel
theorem tyX17_ok : ∀ k, k < 6 → parseFieldDescriptor (TX17 k).2.2.1 = some (tyX17 k) := by decide +kernel
abbrev cX17_init : ByteArray := prog_5_method_1_code
def yX17_init : MethodName := ⟨RX17, "<init>", "()V"⟩
def dkwX17_init_0 : List UInt8 := [42, 1, 1, 3, 3, 183, 0, 1, 177]
abbrev dktX17_init_0 : List UInt8 := dkwX17_init_0 ++ []
theorem dksX17_init_0 : cX17_init.data.toList.drop 0 = dktX17_init_0 := by decide +kernel
theorem dX17_init_0 : decode cX17_init 0 = .ok (.aload_n 0, 1) := dk_42 (dk_at dksX17_init_0 0 rfl rfl)
theorem dX17_init_1 : decode cX17_init 1 = .ok (.aconst_null, 1) := dk_1 (dk_at dksX17_init_0 1 rfl rfl)
theorem dX17_init_2 : decode cX17_init 2 = .ok (.aconst_null, 1) := dk_1 (dk_at dksX17_init_0 2 rfl rfl)
theorem dX17_init_3 : decode cX17_init 3 = .ok (.iconst 0, 1) := dk_3 (dk_at dksX17_init_0 3 rfl rfl)
theorem dX17_init_4 : decode cX17_init 4 = .ok (.iconst 0, 1) := dk_3 (dk_at dksX17_init_0 4 rfl rfl)
theorem dX17_init_5 : decode cX17_init 5 = .ok (.invokespecial 1, 3) := dk_183 0 1 (dk_at dksX17_init_0 5 rfl rfl)
theorem dX17_init_8 : decode cX17_init 8 = .ok (.return_, 1) := dk_177 (dk_at dksX17_init_0 8 rfl rfl)
theorem q103 : (Jvm.Cond.initialized "ColdBox$Beyond") ∈ lw_all := lw_g (lw_at lw_m1 21 rfl) rfl
theorem q366 : (Jvm.Cond.selects "ColdBox$Beyond" ({ cls := "java/lang/Throwable", name := "fillInStackTrace", desc := "()Ljava/lang/Throwable;" } : Jvm.MethodName) ({ cls := "java/lang/Throwable", name := "fillInStackTrace", desc := "()Ljava/lang/Throwable;" } : Jvm.MethodName)) ∈ lw_all := lw_g (lw_at lw_m2 44 rfl) rfl
theorem q516 : (Jvm.Cond.instantiable "ColdBox$Beyond" (6 : Nat)) ∈ lw_all := lw_g (lw_at lw_m2 194 rfl) rfl
theorem q517 : (Jvm.Cond.castable "ColdBox$Beyond" "ColdBox$Beyond") ∈ lw_tbl := lw_at lw_m2 195 rfl
theorem q518 : (Jvm.Cond.selects "ColdBox$Beyond" ({ cls := "java/lang/Throwable", name := "fillInStackTrace", desc := "(I)Ljava/lang/Throwable;" } : Jvm.MethodName) ({ cls := "java/lang/Throwable", name := "fillInStackTrace", desc := "(I)Ljava/lang/Throwable;" } : Jvm.MethodName)) ∈ lw_all := lw_g (lw_at lw_m2 196 rfl) rfl
theorem q519 : (Jvm.Cond.lays "ColdBox$Beyond" "java/lang/Throwable" "cause" "Ljava/lang/Throwable;") ∈ lw_all := lw_g (lw_at lw_m2 197 rfl) rfl
theorem q520 : (Jvm.Cond.lays "ColdBox$Beyond" "java/lang/Throwable" "stackTrace" "[Ljava/lang/StackTraceElement;") ∈ lw_all := lw_g (lw_at lw_m2 198 rfl) rfl
theorem q521 : (Jvm.Cond.lays "ColdBox$Beyond" "java/lang/Throwable" "suppressedExceptions" "Ljava/util/List;") ∈ lw_all := lw_g (lw_at lw_m2 199 rfl) rfl
theorem q522 : (Jvm.Cond.lays "ColdBox$Beyond" "java/lang/Throwable" "detailMessage" "Ljava/lang/String;") ∈ lw_all := lw_g (lw_at lw_m2 200 rfl) rfl
theorem q523 : (Jvm.Cond.lays "ColdBox$Beyond" "java/lang/Throwable" "backtrace" "Ljava/lang/Object;") ∈ lw_all := lw_g (lw_at lw_m2 201 rfl) rfl
theorem q525 : (Jvm.Cond.instanceMethod ({ cls := "ColdBox$Beyond", name := "<init>", desc := "()V" } : Jvm.MethodName)) ∈ lw_all := lw_g (lw_at lw_m2 203 rfl) rfl
theorem q526 : (Jvm.Cond.code ({ cls := "ColdBox$Beyond", name := "<init>", desc := "()V" } : Jvm.MethodName) prog_5_method_1_code (1 : Nat) (Option.none : Option Jvm.ClassFile.FieldType)) ∈ lw_all := lw_g (lw_at lw_m2 204 rfl) rfl
theorem q527 : (Jvm.Cond.methodLink "ColdBox$Beyond" (1 : Nat) ({ cls := "java/lang/RuntimeException", name := "<init>", desc := "(Ljava/lang/String;Ljava/lang/Throwable;ZZ)V" } : Jvm.MethodName)) ∈ lw_all := lw_g (lw_at lw_m2 205 rfl) rfl
theorem q528 : (Jvm.Cond.lays "ColdBox$Beyond" "java/lang/Throwable" "depth" "I") ∈ lw_all := lw_g (lw_at lw_m2 206 rfl) rfl
theorem q529 : (Jvm.Cond.superclass "ColdBox$Beyond" "java/lang/RuntimeException") ∈ lw_all := lw_g (lw_at lw_m2 207 rfl) rfl
theorem in_X17 : ∀ w ∈ wsX170, w ∈ lw_all := lw_in wsX170 [519, 520, 521, 522, 523, 528] (by decide +kernel) (by decide +kernel)

/-! ColdBox$Nothing -/
set_option maxRecDepth 100000
def RX18 : String := "ColdBox$Nothing"
def TX18 : u_T := fun k => match k with
  | 0 => ("java/lang/Throwable", "cause", "Ljava/lang/Throwable;", false)
  | 1 => ("java/lang/Throwable", "stackTrace", "[Ljava/lang/StackTraceElement;", false)
  | 2 => ("java/lang/Throwable", "suppressedExceptions", "Ljava/util/List;", false)
  | 3 => ("java/lang/Throwable", "detailMessage", "Ljava/lang/String;", false)
  | 4 => ("java/lang/Throwable", "backtrace", "Ljava/lang/Object;", false)
  | _ => ("java/lang/Throwable", "depth", "I", false)
def tyX18 : Nat → FieldType := fun k => match k with
  | 0 => .object "java/lang/Throwable"
  | 1 => .array (.object "java/lang/StackTraceElement")
  | 2 => .object "java/util/List"
  | 3 => .object "java/lang/String"
  | 4 => .object "java/lang/Object"
  | _ => .int
abbrev wsX180 : List Cond := u_ws RX18 TX18 6
theorem nmX18 : ∀ a, a < 6 → ∀ b, b < 6 → a ≠ b → (TX18 a).2.1 ≠ (TX18 b).2.1 := by decide +kernel
theorem tyX18_ok : ∀ k, k < 6 → parseFieldDescriptor (TX18 k).2.2.1 = some (tyX18 k) := by decide +kernel
abbrev cX18_init : ByteArray := prog_23_method_1_code
def yX18_init : MethodName := ⟨RX18, "<init>", "()V"⟩
def dkwX18_init_0 : List UInt8 := [42, 1, 1, 3, 3, 183, 0, 1, 177]
abbrev dktX18_init_0 : List UInt8 := dkwX18_init_0 ++ []
theorem dksX18_init_0 : cX18_init.data.toList.drop 0 = dktX18_init_0 := by decide +kernel
theorem dX18_init_0 : decode cX18_init 0 = .ok (.aload_n 0, 1) := dk_42 (dk_at dksX18_init_0 0 rfl rfl)
theorem dX18_init_1 : decode cX18_init 1 = .ok (.aconst_null, 1) := dk_1 (dk_at dksX18_init_0 1 rfl rfl)
theorem dX18_init_2 : decode cX18_init 2 = .ok (.aconst_null, 1) := dk_1 (dk_at dksX18_init_0 2 rfl rfl)
theorem dX18_init_3 : decode cX18_init 3 = .ok (.iconst 0, 1) := dk_3 (dk_at dksX18_init_0 3 rfl rfl)
theorem dX18_init_4 : decode cX18_init 4 = .ok (.iconst 0, 1) := dk_3 (dk_at dksX18_init_0 4 rfl rfl)
theorem dX18_init_5 : decode cX18_init 5 = .ok (.invokespecial 1, 3) := dk_183 0 1 (dk_at dksX18_init_0 5 rfl rfl)
theorem dX18_init_8 : decode cX18_init 8 = .ok (.return_, 1) := dk_177 (dk_at dksX18_init_0 8 rfl rfl)
theorem q104 : (Jvm.Cond.initialized "ColdBox$Nothing") ∈ lw_all := lw_g (lw_at lw_m1 22 rfl) rfl
theorem q367 : (Jvm.Cond.selects "ColdBox$Nothing" ({ cls := "java/lang/Throwable", name := "fillInStackTrace", desc := "()Ljava/lang/Throwable;" } : Jvm.MethodName) ({ cls := "java/lang/Throwable", name := "fillInStackTrace", desc := "()Ljava/lang/Throwable;" } : Jvm.MethodName)) ∈ lw_all := lw_g (lw_at lw_m2 45 rfl) rfl
theorem q531 : (Jvm.Cond.instantiable "ColdBox$Nothing" (6 : Nat)) ∈ lw_all := lw_g (lw_at lw_m2 209 rfl) rfl
theorem q532 : (Jvm.Cond.castable "ColdBox$Nothing" "ColdBox$Nothing") ∈ lw_tbl := lw_at lw_m2 210 rfl
theorem q533 : (Jvm.Cond.selects "ColdBox$Nothing" ({ cls := "java/lang/Throwable", name := "fillInStackTrace", desc := "(I)Ljava/lang/Throwable;" } : Jvm.MethodName) ({ cls := "java/lang/Throwable", name := "fillInStackTrace", desc := "(I)Ljava/lang/Throwable;" } : Jvm.MethodName)) ∈ lw_all := lw_g (lw_at lw_m2 211 rfl) rfl
theorem q534 : (Jvm.Cond.lays "ColdBox$Nothing" "java/lang/Throwable" "cause" "Ljava/lang/Throwable;") ∈ lw_all := lw_g (lw_at lw_m2 212 rfl) rfl
theorem q535 : (Jvm.Cond.lays "ColdBox$Nothing" "java/lang/Throwable" "stackTrace" "[Ljava/lang/StackTraceElement;") ∈ lw_all := lw_g (lw_at lw_m2 213 rfl) rfl
theorem q536 : (Jvm.Cond.lays "ColdBox$Nothing" "java/lang/Throwable" "suppressedExceptions" "Ljava/util/List;") ∈ lw_all := lw_g (lw_at lw_m2 214 rfl) rfl
theorem q537 : (Jvm.Cond.lays "ColdBox$Nothing" "java/lang/Throwable" "detailMessage" "Ljava/lang/String;") ∈ lw_all := lw_g (lw_at lw_m2 215 rfl) rfl
theorem q538 : (Jvm.Cond.lays "ColdBox$Nothing" "java/lang/Throwable" "backtrace" "Ljava/lang/Object;") ∈ lw_all := lw_g (lw_at lw_m2 216 rfl) rfl
theorem q540 : (Jvm.Cond.instanceMethod ({ cls := "ColdBox$Nothing", name := "<init>", desc := "()V" } : Jvm.MethodName)) ∈ lw_all := lw_g (lw_at lw_m2 218 rfl) rfl
theorem q541 : (Jvm.Cond.code ({ cls := "ColdBox$Nothing", name := "<init>", desc := "()V" } : Jvm.MethodName) prog_23_method_1_code (1 : Nat) (Option.none : Option Jvm.ClassFile.FieldType)) ∈ lw_all := lw_g (lw_at lw_m2 219 rfl) rfl
theorem q542 : (Jvm.Cond.methodLink "ColdBox$Nothing" (1 : Nat) ({ cls := "java/lang/RuntimeException", name := "<init>", desc := "(Ljava/lang/String;Ljava/lang/Throwable;ZZ)V" } : Jvm.MethodName)) ∈ lw_all := lw_g (lw_at lw_m2 220 rfl) rfl
theorem q543 : (Jvm.Cond.lays "ColdBox$Nothing" "java/lang/Throwable" "depth" "I") ∈ lw_all := lw_g (lw_at lw_m2 221 rfl) rfl
theorem q544 : (Jvm.Cond.superclass "ColdBox$Nothing" "java/lang/RuntimeException") ∈ lw_all := lw_g (lw_at lw_m2 222 rfl) rfl
theorem in_X18 : ∀ w ∈ wsX180, w ∈ lw_all := lw_in wsX180 [534, 535, 536, 537, 538, 543] (by decide +kernel) (by decide +kernel)

/-! ColdBox$Shelf -/
set_option maxRecDepth 100000
def RX19 : String := "ColdBox$Shelf"
def TX19 : u_T := fun k => match k with
  | 0 => ("ColdBox$Shelf", "what", "I", false)
  | 1 => ("ColdBox$Shelf", "number", "I", false)
  | _ => ("ColdBox$Shelf", "row", "Ljava/lang/Object;", false)
def tyX19 : Nat → FieldType := fun k => match k with
  | 0 => .int
  | 1 => .int
  | _ => .object "java/lang/Object"
abbrev wsX190 : List Cond := u_ws RX19 TX19 3
theorem nmX19 : ∀ a, a < 3 → ∀ b, b < 3 → a ≠ b → (TX19 a).2.1 ≠ (TX19 b).2.1 := by decide +kernel
theorem tyX19_ok : ∀ k, k < 3 → parseFieldDescriptor (TX19 k).2.2.1 = some (tyX19 k) := by decide +kernel
abbrev cX19_init : ByteArray := prog_30_method_1_code
def yX19_init : MethodName := ⟨RX19, "<init>", "()V"⟩
def dkwX19_init_0 : List UInt8 := [42, 183, 0, 1, 42, 5, 181, 0, 7, 177]
abbrev dktX19_init_0 : List UInt8 := dkwX19_init_0 ++ []
theorem dksX19_init_0 : cX19_init.data.toList.drop 0 = dktX19_init_0 := by decide +kernel
theorem dX19_init_0 : decode cX19_init 0 = .ok (.aload_n 0, 1) := dk_42 (dk_at dksX19_init_0 0 rfl rfl)
theorem dX19_init_1 : decode cX19_init 1 = .ok (.invokespecial 1, 3) := dk_183 0 1 (dk_at dksX19_init_0 1 rfl rfl)
theorem dX19_init_4 : decode cX19_init 4 = .ok (.aload_n 0, 1) := dk_42 (dk_at dksX19_init_0 4 rfl rfl)
theorem dX19_init_5 : decode cX19_init 5 = .ok (.iconst 2, 1) := dk_5 (dk_at dksX19_init_0 5 rfl rfl)
theorem dX19_init_6 : decode cX19_init 6 = .ok (.putfield 7, 3) := dk_181 0 7 (dk_at dksX19_init_0 6 rfl rfl)
theorem dX19_init_9 : decode cX19_init 9 = .ok (.return_, 1) := dk_177 (dk_at dksX19_init_0 9 rfl rfl)
theorem q105 : (Jvm.Cond.initialized "ColdBox$Shelf") ∈ lw_all := lw_g (lw_at lw_m1 23 rfl) rfl
theorem q547 : (Jvm.Cond.instantiable "ColdBox$Shelf" (3 : Nat)) ∈ lw_all := lw_g (lw_at lw_m2 225 rfl) rfl
theorem q549 : (Jvm.Cond.instanceMethod ({ cls := "ColdBox$Shelf", name := "<init>", desc := "()V" } : Jvm.MethodName)) ∈ lw_all := lw_g (lw_at lw_m2 227 rfl) rfl
theorem q550 : (Jvm.Cond.code ({ cls := "ColdBox$Shelf", name := "<init>", desc := "()V" } : Jvm.MethodName) prog_30_method_1_code (1 : Nat) (Option.none : Option Jvm.ClassFile.FieldType)) ∈ lw_all := lw_g (lw_at lw_m2 228 rfl) rfl
theorem q551 : (Jvm.Cond.methodLink "ColdBox$Shelf" (1 : Nat) ({ cls := "java/lang/Object", name := "<init>", desc := "()V" } : Jvm.MethodName)) ∈ lw_all := lw_g (lw_at lw_m2 229 rfl) rfl
theorem q552 : (Jvm.Cond.fieldLink "ColdBox$Shelf" (7 : Nat) "ColdBox$Shelf" "what" "I") ∈ lw_all := lw_g (lw_at lw_m2 230 rfl) rfl
theorem q556 : (Jvm.Cond.lays "ColdBox$Shelf" "ColdBox$Shelf" "what" "I") ∈ lw_all := lw_g (lw_at lw_m2 234 rfl) rfl
theorem q557 : (Jvm.Cond.soleField "ColdBox$Shelf" "what") ∈ lw_all := lw_g (lw_at lw_m2 235 rfl) rfl
theorem q558 : (Jvm.Cond.lays "ColdBox$Shelf" "ColdBox$Shelf" "number" "I") ∈ lw_all := lw_g (lw_at lw_m2 236 rfl) rfl
theorem q559 : (Jvm.Cond.soleField "ColdBox$Shelf" "number") ∈ lw_all := lw_g (lw_at lw_m2 237 rfl) rfl
theorem q560 : (Jvm.Cond.lays "ColdBox$Shelf" "ColdBox$Shelf" "row" "Ljava/lang/Object;") ∈ lw_all := lw_g (lw_at lw_m2 238 rfl) rfl
theorem q561 : (Jvm.Cond.soleField "ColdBox$Shelf" "row") ∈ lw_all := lw_g (lw_at lw_m2 239 rfl) rfl
theorem q562 : (Jvm.Cond.superclass "ColdBox$Shelf" "java/lang/Object") ∈ lw_all := lw_g (lw_at lw_m3 0 rfl) rfl
theorem in_X19 : ∀ w ∈ wsX190, w ∈ lw_all := lw_in wsX190 [556, 558, 560] (by decide +kernel) (by decide +kernel)

/-! ColdBox$Body -/
set_option maxRecDepth 100000
def RX2 : String := "ColdBox$Body"
def TX2 : u_T := fun k => match k with
  | 0 => ("ColdBox$Body", "length", "I", false)
  | 1 => ("ColdBox$Body", "fat", "I", false)
  | 2 => ("ColdBox$Body", "water", "I", false)
  | 3 => ("ColdBox$Body", "rest", "I", false)
  | 4 => ("ColdBox$Body", "eyes", "I", false)
  | 5 => ("ColdBox$Body", "place", "I", false)
  | _ => ("ColdBox$Body", "week", "I", false)
def tyX2 : Nat → FieldType := fun k => match k with
  | 0 => .int
  | 1 => .int
  | 2 => .int
  | 3 => .int
  | 4 => .int
  | 5 => .int
  | _ => .int
abbrev wsX20 : List Cond := u_ws RX2 TX2 7
theorem nmX2 : ∀ a, a < 7 → ∀ b, b < 7 → a ≠ b → (TX2 a).2.1 ≠ (TX2 b).2.1 := by decide +kernel
theorem tyX2_ok : ∀ k, k < 7 → parseFieldDescriptor (TX2 k).2.2.1 = some (tyX2 k) := by decide +kernel
abbrev cX2_init : ByteArray := prog_6_method_1_code
def yX2_init : MethodName := ⟨RX2, "<init>", "()V"⟩
def dkwX2_init_1 : List UInt8 := [181, 0, 18, 42, 17, 1, 244, 181, 0, 21, 42, 4, 181, 0, 24, 177]
abbrev dktX2_init_1 : List UInt8 := dkwX2_init_1 ++ []
def dkwX2_init_0 : List UInt8 := [42, 183, 0, 3, 42, 17, 0, 240, 181, 0, 9, 42, 17, 1, 44, 181, 0, 15, 42, 17, 1, 144]
abbrev dktX2_init_0 : List UInt8 := dkwX2_init_0 ++ dktX2_init_1
theorem dksX2_init_0 : cX2_init.data.toList.drop 0 = dktX2_init_0 := by decide +kernel
theorem dksX2_init_1 : cX2_init.data.toList.drop 22 = dktX2_init_1 := dk_seg dksX2_init_0 22 rfl rfl
theorem dX2_init_0 : decode cX2_init 0 = .ok (.aload_n 0, 1) := dk_42 (dk_at dksX2_init_0 0 rfl rfl)
theorem dX2_init_1 : decode cX2_init 1 = .ok (.invokespecial 3, 3) := dk_183 0 3 (dk_at dksX2_init_0 1 rfl rfl)
theorem dX2_init_4 : decode cX2_init 4 = .ok (.aload_n 0, 1) := dk_42 (dk_at dksX2_init_0 4 rfl rfl)
theorem dX2_init_5 : decode cX2_init 5 = .ok (.sipush 240, 3) := dk_17 0 240 (dk_at dksX2_init_0 5 rfl rfl)
theorem dX2_init_8 : decode cX2_init 8 = .ok (.putfield 9, 3) := dk_181 0 9 (dk_at dksX2_init_0 8 rfl rfl)
theorem dX2_init_11 : decode cX2_init 11 = .ok (.aload_n 0, 1) := dk_42 (dk_at dksX2_init_0 11 rfl rfl)
theorem dX2_init_12 : decode cX2_init 12 = .ok (.sipush 300, 3) := dk_17 1 44 (dk_at dksX2_init_0 12 rfl rfl)
theorem dX2_init_15 : decode cX2_init 15 = .ok (.putfield 15, 3) := dk_181 0 15 (dk_at dksX2_init_0 15 rfl rfl)
theorem dX2_init_18 : decode cX2_init 18 = .ok (.aload_n 0, 1) := dk_42 (dk_at dksX2_init_0 18 rfl rfl)
theorem dX2_init_19 : decode cX2_init 19 = .ok (.sipush 400, 3) := dk_17 1 144 (dk_at dksX2_init_0 19 rfl rfl)
theorem dX2_init_22 : decode cX2_init 22 = .ok (.putfield 18, 3) := dk_181 0 18 (dk_at dksX2_init_1 0 rfl rfl)
theorem dX2_init_25 : decode cX2_init 25 = .ok (.aload_n 0, 1) := dk_42 (dk_at dksX2_init_1 3 rfl rfl)
theorem dX2_init_26 : decode cX2_init 26 = .ok (.sipush 500, 3) := dk_17 1 244 (dk_at dksX2_init_1 4 rfl rfl)
theorem dX2_init_29 : decode cX2_init 29 = .ok (.putfield 21, 3) := dk_181 0 21 (dk_at dksX2_init_1 7 rfl rfl)
theorem dX2_init_32 : decode cX2_init 32 = .ok (.aload_n 0, 1) := dk_42 (dk_at dksX2_init_1 10 rfl rfl)
theorem dX2_init_33 : decode cX2_init 33 = .ok (.iconst 1, 1) := dk_4 (dk_at dksX2_init_1 11 rfl rfl)
theorem dX2_init_34 : decode cX2_init 34 = .ok (.putfield 24, 3) := dk_181 0 24 (dk_at dksX2_init_1 12 rfl rfl)
theorem dX2_init_37 : decode cX2_init 37 = .ok (.return_, 1) := dk_177 (dk_at dksX2_init_1 15 rfl rfl)
abbrev cX2_weight : ByteArray := prog_6_method_3_code
def yX2_weight : MethodName := ⟨RX2, "weight", "()I"⟩
def dkwX2_weight_0 : List UInt8 := [42, 180, 0, 15, 42, 180, 0, 18, 96, 42, 180, 0, 21, 96, 172]
abbrev dktX2_weight_0 : List UInt8 := dkwX2_weight_0 ++ []
theorem dksX2_weight_0 : cX2_weight.data.toList.drop 0 = dktX2_weight_0 := by decide +kernel
theorem dX2_weight_0 : decode cX2_weight 0 = .ok (.aload_n 0, 1) := dk_42 (dk_at dksX2_weight_0 0 rfl rfl)
theorem dX2_weight_1 : decode cX2_weight 1 = .ok (.getfield 15, 3) := dk_180 0 15 (dk_at dksX2_weight_0 1 rfl rfl)
theorem dX2_weight_4 : decode cX2_weight 4 = .ok (.aload_n 0, 1) := dk_42 (dk_at dksX2_weight_0 4 rfl rfl)
theorem dX2_weight_5 : decode cX2_weight 5 = .ok (.getfield 18, 3) := dk_180 0 18 (dk_at dksX2_weight_0 5 rfl rfl)
theorem dX2_weight_8 : decode cX2_weight 8 = .ok (.iadd, 1) := dk_96 (dk_at dksX2_weight_0 8 rfl rfl)
theorem dX2_weight_9 : decode cX2_weight 9 = .ok (.aload_n 0, 1) := dk_42 (dk_at dksX2_weight_0 9 rfl rfl)
theorem dX2_weight_10 : decode cX2_weight 10 = .ok (.getfield 21, 3) := dk_180 0 21 (dk_at dksX2_weight_0 10 rfl rfl)
theorem dX2_weight_13 : decode cX2_weight 13 = .ok (.iadd, 1) := dk_96 (dk_at dksX2_weight_0 13 rfl rfl)
theorem dX2_weight_14 : decode cX2_weight 14 = .ok (.ireturn, 1) := dk_172 (dk_at dksX2_weight_0 14 rfl rfl)
abbrev cX2_isAlive : ByteArray := prog_6_method_4_code
def yX2_isAlive : MethodName := ⟨RX2, "isAlive", "()Z"⟩
def dkwX2_isAlive_0 : List UInt8 := [42, 180, 0, 15, 158, 0, 14, 42, 180, 0, 18, 158, 0, 7, 4, 167, 0, 4, 3, 172]
abbrev dktX2_isAlive_0 : List UInt8 := dkwX2_isAlive_0 ++ []
theorem dksX2_isAlive_0 : cX2_isAlive.data.toList.drop 0 = dktX2_isAlive_0 := by decide +kernel
theorem dX2_isAlive_0 : decode cX2_isAlive 0 = .ok (.aload_n 0, 1) := dk_42 (dk_at dksX2_isAlive_0 0 rfl rfl)
theorem dX2_isAlive_1 : decode cX2_isAlive 1 = .ok (.getfield 15, 3) := dk_180 0 15 (dk_at dksX2_isAlive_0 1 rfl rfl)
theorem dX2_isAlive_4 : decode cX2_isAlive 4 = .ok (.ifCond .le 14, 3) := dk_158 0 14 (dk_at dksX2_isAlive_0 4 rfl rfl)
theorem dX2_isAlive_7 : decode cX2_isAlive 7 = .ok (.aload_n 0, 1) := dk_42 (dk_at dksX2_isAlive_0 7 rfl rfl)
theorem dX2_isAlive_8 : decode cX2_isAlive 8 = .ok (.getfield 18, 3) := dk_180 0 18 (dk_at dksX2_isAlive_0 8 rfl rfl)
theorem dX2_isAlive_11 : decode cX2_isAlive 11 = .ok (.ifCond .le 7, 3) := dk_158 0 7 (dk_at dksX2_isAlive_0 11 rfl rfl)
theorem dX2_isAlive_14 : decode cX2_isAlive 14 = .ok (.iconst 1, 1) := dk_4 (dk_at dksX2_isAlive_0 14 rfl rfl)
theorem dX2_isAlive_15 : decode cX2_isAlive 15 = .ok (.goto 4, 3) := dk_167 0 4 (dk_at dksX2_isAlive_0 15 rfl rfl)
theorem dX2_isAlive_18 : decode cX2_isAlive 18 = .ok (.iconst 0, 1) := dk_3 (dk_at dksX2_isAlive_0 18 rfl rfl)
theorem dX2_isAlive_19 : decode cX2_isAlive 19 = .ok (.ireturn, 1) := dk_172 (dk_at dksX2_isAlive_0 19 rfl rfl)
abbrev cX2_become : ByteArray := prog_6_method_2_code
def yX2_become : MethodName := ⟨RX2, "become", "(LColdBox$Body;)V"⟩
def dkwX2_become_2 : List UInt8 := [42, 43, 180, 0, 30, 181, 0, 30, 177]
abbrev dktX2_become_2 : List UInt8 := dkwX2_become_2 ++ []
def dkwX2_become_1 : List UInt8 := [42, 43, 180, 0, 21, 181, 0, 21, 42, 43, 180, 0, 27, 181, 0, 27, 42, 43, 180, 0, 24, 181, 0, 24]
abbrev dktX2_become_1 : List UInt8 := dkwX2_become_1 ++ dktX2_become_2
def dkwX2_become_0 : List UInt8 := [42, 43, 180, 0, 9, 181, 0, 9, 42, 43, 180, 0, 15, 181, 0, 15, 42, 43, 180, 0, 18, 181, 0, 18]
abbrev dktX2_become_0 : List UInt8 := dkwX2_become_0 ++ dktX2_become_1
theorem dksX2_become_0 : cX2_become.data.toList.drop 0 = dktX2_become_0 := by decide +kernel
theorem dksX2_become_1 : cX2_become.data.toList.drop 24 = dktX2_become_1 := dk_seg dksX2_become_0 24 rfl rfl
theorem dksX2_become_2 : cX2_become.data.toList.drop 48 = dktX2_become_2 := dk_seg dksX2_become_1 24 rfl rfl
theorem dX2_become_0 : decode cX2_become 0 = .ok (.aload_n 0, 1) := dk_42 (dk_at dksX2_become_0 0 rfl rfl)
theorem dX2_become_1 : decode cX2_become 1 = .ok (.aload_n 1, 1) := dk_43 (dk_at dksX2_become_0 1 rfl rfl)
theorem dX2_become_2 : decode cX2_become 2 = .ok (.getfield 9, 3) := dk_180 0 9 (dk_at dksX2_become_0 2 rfl rfl)
theorem dX2_become_5 : decode cX2_become 5 = .ok (.putfield 9, 3) := dk_181 0 9 (dk_at dksX2_become_0 5 rfl rfl)
theorem dX2_become_8 : decode cX2_become 8 = .ok (.aload_n 0, 1) := dk_42 (dk_at dksX2_become_0 8 rfl rfl)
theorem dX2_become_9 : decode cX2_become 9 = .ok (.aload_n 1, 1) := dk_43 (dk_at dksX2_become_0 9 rfl rfl)
theorem dX2_become_10 : decode cX2_become 10 = .ok (.getfield 15, 3) := dk_180 0 15 (dk_at dksX2_become_0 10 rfl rfl)
theorem dX2_become_13 : decode cX2_become 13 = .ok (.putfield 15, 3) := dk_181 0 15 (dk_at dksX2_become_0 13 rfl rfl)
theorem dX2_become_16 : decode cX2_become 16 = .ok (.aload_n 0, 1) := dk_42 (dk_at dksX2_become_0 16 rfl rfl)
theorem dX2_become_17 : decode cX2_become 17 = .ok (.aload_n 1, 1) := dk_43 (dk_at dksX2_become_0 17 rfl rfl)
theorem dX2_become_18 : decode cX2_become 18 = .ok (.getfield 18, 3) := dk_180 0 18 (dk_at dksX2_become_0 18 rfl rfl)
theorem dX2_become_21 : decode cX2_become 21 = .ok (.putfield 18, 3) := dk_181 0 18 (dk_at dksX2_become_0 21 rfl rfl)
theorem dX2_become_24 : decode cX2_become 24 = .ok (.aload_n 0, 1) := dk_42 (dk_at dksX2_become_1 0 rfl rfl)
theorem dX2_become_25 : decode cX2_become 25 = .ok (.aload_n 1, 1) := dk_43 (dk_at dksX2_become_1 1 rfl rfl)
theorem dX2_become_26 : decode cX2_become 26 = .ok (.getfield 21, 3) := dk_180 0 21 (dk_at dksX2_become_1 2 rfl rfl)
theorem dX2_become_29 : decode cX2_become 29 = .ok (.putfield 21, 3) := dk_181 0 21 (dk_at dksX2_become_1 5 rfl rfl)
theorem dX2_become_32 : decode cX2_become 32 = .ok (.aload_n 0, 1) := dk_42 (dk_at dksX2_become_1 8 rfl rfl)
theorem dX2_become_33 : decode cX2_become 33 = .ok (.aload_n 1, 1) := dk_43 (dk_at dksX2_become_1 9 rfl rfl)
theorem dX2_become_34 : decode cX2_become 34 = .ok (.getfield 27, 3) := dk_180 0 27 (dk_at dksX2_become_1 10 rfl rfl)
theorem dX2_become_37 : decode cX2_become 37 = .ok (.putfield 27, 3) := dk_181 0 27 (dk_at dksX2_become_1 13 rfl rfl)
theorem dX2_become_40 : decode cX2_become 40 = .ok (.aload_n 0, 1) := dk_42 (dk_at dksX2_become_1 16 rfl rfl)
theorem dX2_become_41 : decode cX2_become 41 = .ok (.aload_n 1, 1) := dk_43 (dk_at dksX2_become_1 17 rfl rfl)
theorem dX2_become_42 : decode cX2_become 42 = .ok (.getfield 24, 3) := dk_180 0 24 (dk_at dksX2_become_1 18 rfl rfl)
theorem dX2_become_45 : decode cX2_become 45 = .ok (.putfield 24, 3) := dk_181 0 24 (dk_at dksX2_become_1 21 rfl rfl)
theorem dX2_become_48 : decode cX2_become 48 = .ok (.aload_n 0, 1) := dk_42 (dk_at dksX2_become_2 0 rfl rfl)
theorem dX2_become_49 : decode cX2_become 49 = .ok (.aload_n 1, 1) := dk_43 (dk_at dksX2_become_2 1 rfl rfl)
theorem dX2_become_50 : decode cX2_become 50 = .ok (.getfield 30, 3) := dk_180 0 30 (dk_at dksX2_become_2 2 rfl rfl)
theorem dX2_become_53 : decode cX2_become 53 = .ok (.putfield 30, 3) := dk_181 0 30 (dk_at dksX2_become_2 5 rfl rfl)
theorem dX2_become_56 : decode cX2_become 56 = .ok (.return_, 1) := dk_177 (dk_at dksX2_become_2 8 rfl rfl)
theorem q85 : (Jvm.Cond.initialized "ColdBox$Body") ∈ lw_all := lw_g (lw_at lw_m1 3 rfl) rfl
theorem q146 : (Jvm.Cond.instantiable "ColdBox$Body" (7 : Nat)) ∈ lw_all := lw_g (lw_at lw_m1 64 rfl) rfl
theorem q148 : (Jvm.Cond.instanceMethod ({ cls := "ColdBox$Body", name := "<init>", desc := "()V" } : Jvm.MethodName)) ∈ lw_all := lw_g (lw_at lw_m1 66 rfl) rfl
theorem q149 : (Jvm.Cond.code ({ cls := "ColdBox$Body", name := "<init>", desc := "()V" } : Jvm.MethodName) prog_6_method_1_code (1 : Nat) (Option.none : Option Jvm.ClassFile.FieldType)) ∈ lw_all := lw_g (lw_at lw_m1 67 rfl) rfl
theorem q150 : (Jvm.Cond.methodLink "ColdBox$Body" (3 : Nat) ({ cls := "java/lang/Object", name := "<init>", desc := "()V" } : Jvm.MethodName)) ∈ lw_all := lw_g (lw_at lw_m1 68 rfl) rfl
theorem q151 : (Jvm.Cond.fieldLink "ColdBox$Body" (9 : Nat) "ColdBox$Body" "length" "I") ∈ lw_all := lw_g (lw_at lw_m1 69 rfl) rfl
theorem q153 : (Jvm.Cond.fieldLink "ColdBox$Body" (15 : Nat) "ColdBox$Body" "fat" "I") ∈ lw_all := lw_g (lw_at lw_m1 71 rfl) rfl
theorem q155 : (Jvm.Cond.fieldLink "ColdBox$Body" (18 : Nat) "ColdBox$Body" "water" "I") ∈ lw_all := lw_g (lw_at lw_m1 73 rfl) rfl
theorem q157 : (Jvm.Cond.fieldLink "ColdBox$Body" (21 : Nat) "ColdBox$Body" "rest" "I") ∈ lw_all := lw_g (lw_at lw_m1 75 rfl) rfl
theorem q159 : (Jvm.Cond.fieldLink "ColdBox$Body" (27 : Nat) "ColdBox$Body" "eyes" "I") ∈ lw_all := lw_g (lw_at lw_m1 77 rfl) rfl
theorem q161 : (Jvm.Cond.fieldLink "ColdBox$Body" (24 : Nat) "ColdBox$Body" "place" "I") ∈ lw_all := lw_g (lw_at lw_m1 79 rfl) rfl
theorem q166 : (Jvm.Cond.fieldLink "ColdBox$Body" (30 : Nat) "ColdBox$Body" "week" "I") ∈ lw_all := lw_g (lw_at lw_m1 84 rfl) rfl
theorem q169 : (Jvm.Cond.lays "ColdBox$Body" "ColdBox$Body" "length" "I") ∈ lw_all := lw_g (lw_at lw_m1 87 rfl) rfl
theorem q170 : (Jvm.Cond.soleField "ColdBox$Body" "length") ∈ lw_all := lw_g (lw_at lw_m1 88 rfl) rfl
theorem q171 : (Jvm.Cond.lays "ColdBox$Body" "ColdBox$Body" "fat" "I") ∈ lw_all := lw_g (lw_at lw_m1 89 rfl) rfl
theorem q172 : (Jvm.Cond.soleField "ColdBox$Body" "fat") ∈ lw_all := lw_g (lw_at lw_m1 90 rfl) rfl
theorem q173 : (Jvm.Cond.lays "ColdBox$Body" "ColdBox$Body" "water" "I") ∈ lw_all := lw_g (lw_at lw_m1 91 rfl) rfl
theorem q174 : (Jvm.Cond.soleField "ColdBox$Body" "water") ∈ lw_all := lw_g (lw_at lw_m1 92 rfl) rfl
theorem q175 : (Jvm.Cond.lays "ColdBox$Body" "ColdBox$Body" "rest" "I") ∈ lw_all := lw_g (lw_at lw_m1 93 rfl) rfl
theorem q176 : (Jvm.Cond.soleField "ColdBox$Body" "rest") ∈ lw_all := lw_g (lw_at lw_m1 94 rfl) rfl
theorem q177 : (Jvm.Cond.lays "ColdBox$Body" "ColdBox$Body" "eyes" "I") ∈ lw_all := lw_g (lw_at lw_m1 95 rfl) rfl
theorem q178 : (Jvm.Cond.soleField "ColdBox$Body" "eyes") ∈ lw_all := lw_g (lw_at lw_m1 96 rfl) rfl
theorem q179 : (Jvm.Cond.lays "ColdBox$Body" "ColdBox$Body" "place" "I") ∈ lw_all := lw_g (lw_at lw_m1 97 rfl) rfl
theorem q180 : (Jvm.Cond.soleField "ColdBox$Body" "place") ∈ lw_all := lw_g (lw_at lw_m1 98 rfl) rfl
theorem q181 : (Jvm.Cond.lays "ColdBox$Body" "ColdBox$Body" "week" "I") ∈ lw_all := lw_g (lw_at lw_m1 99 rfl) rfl
theorem q182 : (Jvm.Cond.soleField "ColdBox$Body" "week") ∈ lw_all := lw_g (lw_at lw_m1 100 rfl) rfl
theorem q183 : (Jvm.Cond.superclass "ColdBox$Body" "java/lang/Object") ∈ lw_all := lw_g (lw_at lw_m1 101 rfl) rfl
theorem q917 : (Jvm.Cond.instanceMethod ({ cls := "ColdBox$Body", name := "weight", desc := "()I" } : Jvm.MethodName)) ∈ lw_all := lw_g (lw_at lw_m4 115 rfl) rfl
theorem q918 : (Jvm.Cond.selects "ColdBox$Body" ({ cls := "ColdBox$Body", name := "weight", desc := "()I" } : Jvm.MethodName) ({ cls := "ColdBox$Body", name := "weight", desc := "()I" } : Jvm.MethodName)) ∈ lw_all := lw_g (lw_at lw_m4 116 rfl) rfl
theorem q919 : (Jvm.Cond.code ({ cls := "ColdBox$Body", name := "weight", desc := "()I" } : Jvm.MethodName) prog_6_method_3_code (1 : Nat) (Option.some Jvm.ClassFile.FieldType.int)) ∈ lw_all := lw_g (lw_at lw_m4 117 rfl) rfl
theorem q921 : (Jvm.Cond.instanceMethod ({ cls := "ColdBox$Body", name := "isAlive", desc := "()Z" } : Jvm.MethodName)) ∈ lw_all := lw_g (lw_at lw_m4 119 rfl) rfl
theorem q922 : (Jvm.Cond.selects "ColdBox$Body" ({ cls := "ColdBox$Body", name := "isAlive", desc := "()Z" } : Jvm.MethodName) ({ cls := "ColdBox$Body", name := "isAlive", desc := "()Z" } : Jvm.MethodName)) ∈ lw_all := lw_g (lw_at lw_m4 120 rfl) rfl
theorem q923 : (Jvm.Cond.code ({ cls := "ColdBox$Body", name := "isAlive", desc := "()Z" } : Jvm.MethodName) prog_6_method_4_code (1 : Nat) (Option.some Jvm.ClassFile.FieldType.boolean)) ∈ lw_all := lw_g (lw_at lw_m4 121 rfl) rfl
theorem q1103 : (Jvm.Cond.instanceMethod ({ cls := "ColdBox$Body", name := "become", desc := "(LColdBox$Body;)V" } : Jvm.MethodName)) ∈ lw_all := lw_g (lw_at lw_m5 61 rfl) rfl
theorem q1104 : (Jvm.Cond.selects "ColdBox$Body" ({ cls := "ColdBox$Body", name := "become", desc := "(LColdBox$Body;)V" } : Jvm.MethodName) ({ cls := "ColdBox$Body", name := "become", desc := "(LColdBox$Body;)V" } : Jvm.MethodName)) ∈ lw_all := lw_g (lw_at lw_m5 62 rfl) rfl
theorem q1105 : (Jvm.Cond.code ({ cls := "ColdBox$Body", name := "become", desc := "(LColdBox$Body;)V" } : Jvm.MethodName) prog_6_method_2_code (2 : Nat) (Option.none : Option Jvm.ClassFile.FieldType)) ∈ lw_all := lw_g (lw_at lw_m5 63 rfl) rfl
theorem in_X2 : ∀ w ∈ wsX20, w ∈ lw_all := lw_in wsX20 [169, 171, 173, 175, 177, 179, 181] (by decide +kernel) (by decide +kernel)

/-! ColdBox$Cond -/
set_option maxRecDepth 100000
def RX21 : String := "ColdBox$Cond"
abbrev cX21_init : ByteArray := prog_8_method_1_code
def yX21_init : MethodName := ⟨RX21, "<init>", "()V"⟩
theorem dX21_init_0 : decode cX21_init 0 = .ok (.aload_n 0, 1) := by decide +kernel
theorem dX21_init_1 : decode cX21_init 1 = .ok (.invokespecial 1, 3) := by decide +kernel
theorem dX21_init_4 : decode cX21_init 4 = .ok (.return_, 1) := by decide +kernel
theorem q111 : (Jvm.Cond.initialized "ColdBox$Cond") ∈ lw_all := lw_g (lw_at lw_m1 29 rfl) rfl
theorem q785 : (Jvm.Cond.instanceMethod ({ cls := "ColdBox$Cond", name := "<init>", desc := "()V" } : Jvm.MethodName)) ∈ lw_all := lw_g (lw_at lw_m3 223 rfl) rfl
theorem q786 : (Jvm.Cond.code ({ cls := "ColdBox$Cond", name := "<init>", desc := "()V" } : Jvm.MethodName) prog_8_method_1_code (1 : Nat) (Option.none : Option Jvm.ClassFile.FieldType)) ∈ lw_all := lw_g (lw_at lw_m3 224 rfl) rfl
theorem q787 : (Jvm.Cond.methodLink "ColdBox$Cond" (1 : Nat) ({ cls := "java/lang/Object", name := "<init>", desc := "()V" } : Jvm.MethodName)) ∈ lw_all := lw_g (lw_at lw_m3 225 rfl) rfl
theorem q1033 : (Jvm.Cond.declares ({ cls := "ColdBox$Cond", name := "holds", desc := "([I)Z" } : Jvm.MethodName)) ∈ lw_tbl := lw_at lw_m4 231 rfl
theorem q1034 : (Jvm.Cond.sameMethod "ColdBox$Cond" "ColdBox$Cond" "holds" "([I)Z") ∈ lw_all := lw_g (lw_at lw_m4 232 rfl) rfl

/-! ColdBox$Test -/
set_option maxRecDepth 100000
def RX22 : String := "ColdBox$Test"
def TX22 : u_T := fun k => match k with
  | 0 => ("ColdBox$Test", "a", "I", true)
  | 1 => ("ColdBox$Test", "sign", "I", true)
  | _ => ("ColdBox$Test", "b", "I", true)
def tyX22 : Nat → FieldType := fun k => match k with
  | 0 => .int
  | 1 => .int
  | _ => .int
abbrev wsX220 : List Cond := u_ws RX22 TX22 3
theorem nmX22 : ∀ a, a < 3 → ∀ b, b < 3 → a ≠ b → (TX22 a).2.1 ≠ (TX22 b).2.1 := by decide +kernel
theorem tyX22_ok : ∀ k, k < 3 → parseFieldDescriptor (TX22 k).2.2.1 = some (tyX22 k) := by decide +kernel
abbrev cX22_init : ByteArray := prog_34_method_1_code
def yX22_init : MethodName := ⟨RX22, "<init>", "(III)V"⟩
def dkwX22_init_0 : List UInt8 := [42, 183, 0, 1, 42, 27, 181, 0, 7, 42, 28, 181, 0, 13, 42, 29, 181, 0, 16, 177]
abbrev dktX22_init_0 : List UInt8 := dkwX22_init_0 ++ []
theorem dksX22_init_0 : cX22_init.data.toList.drop 0 = dktX22_init_0 := by decide +kernel
theorem dX22_init_0 : decode cX22_init 0 = .ok (.aload_n 0, 1) := dk_42 (dk_at dksX22_init_0 0 rfl rfl)
theorem dX22_init_1 : decode cX22_init 1 = .ok (.invokespecial 1, 3) := dk_183 0 1 (dk_at dksX22_init_0 1 rfl rfl)
theorem dX22_init_4 : decode cX22_init 4 = .ok (.aload_n 0, 1) := dk_42 (dk_at dksX22_init_0 4 rfl rfl)
theorem dX22_init_5 : decode cX22_init 5 = .ok (.iload_n 1, 1) := dk_27 (dk_at dksX22_init_0 5 rfl rfl)
theorem dX22_init_6 : decode cX22_init 6 = .ok (.putfield 7, 3) := dk_181 0 7 (dk_at dksX22_init_0 6 rfl rfl)
theorem dX22_init_9 : decode cX22_init 9 = .ok (.aload_n 0, 1) := dk_42 (dk_at dksX22_init_0 9 rfl rfl)
theorem dX22_init_10 : decode cX22_init 10 = .ok (.iload_n 2, 1) := dk_28 (dk_at dksX22_init_0 10 rfl rfl)
theorem dX22_init_11 : decode cX22_init 11 = .ok (.putfield 13, 3) := dk_181 0 13 (dk_at dksX22_init_0 11 rfl rfl)
theorem dX22_init_14 : decode cX22_init 14 = .ok (.aload_n 0, 1) := dk_42 (dk_at dksX22_init_0 14 rfl rfl)
theorem dX22_init_15 : decode cX22_init 15 = .ok (.iload_n 3, 1) := dk_29 (dk_at dksX22_init_0 15 rfl rfl)
theorem dX22_init_16 : decode cX22_init 16 = .ok (.putfield 16, 3) := dk_181 0 16 (dk_at dksX22_init_0 16 rfl rfl)
theorem dX22_init_19 : decode cX22_init 19 = .ok (.return_, 1) := dk_177 (dk_at dksX22_init_0 19 rfl rfl)
abbrev cX22_holds : ByteArray := prog_34_method_3_code
def yX22_holds : MethodName := ⟨RX22, "holds", "([I)Z"⟩
def dkwX22_holds_3 : List UInt8 := [167, 0, 4, 3, 172]
abbrev dktX22_holds_3 : List UInt8 := dkwX22_holds_3 ++ []
def dkwX22_holds_2 : List UInt8 := [160, 0, 16, 28, 29, 164, 0, 7, 4, 167, 0, 17, 3, 167, 0, 13, 28, 29, 160, 0, 7, 4]
abbrev dktX22_holds_2 : List UInt8 := dkwX22_holds_2 ++ dktX22_holds_3
def dkwX22_holds_1 : List UInt8 := [160, 0, 16, 28, 29, 162, 0, 7, 4, 167, 0, 39, 3, 167, 0, 35, 42, 180, 0, 13, 16, 62]
abbrev dktX22_holds_1 : List UInt8 := dkwX22_holds_1 ++ dktX22_holds_2
def dkwX22_holds_0 : List UInt8 := [42, 180, 0, 7, 43, 184, 0, 19, 61, 42, 180, 0, 16, 43, 184, 0, 19, 62, 42, 180, 0, 13, 16, 60]
abbrev dktX22_holds_0 : List UInt8 := dkwX22_holds_0 ++ dktX22_holds_1
theorem dksX22_holds_0 : cX22_holds.data.toList.drop 0 = dktX22_holds_0 := by decide +kernel
theorem dksX22_holds_1 : cX22_holds.data.toList.drop 24 = dktX22_holds_1 := dk_seg dksX22_holds_0 24 rfl rfl
theorem dksX22_holds_2 : cX22_holds.data.toList.drop 46 = dktX22_holds_2 := dk_seg dksX22_holds_1 22 rfl rfl
theorem dksX22_holds_3 : cX22_holds.data.toList.drop 68 = dktX22_holds_3 := dk_seg dksX22_holds_2 22 rfl rfl
theorem dX22_holds_0 : decode cX22_holds 0 = .ok (.aload_n 0, 1) := dk_42 (dk_at dksX22_holds_0 0 rfl rfl)
theorem dX22_holds_1 : decode cX22_holds 1 = .ok (.getfield 7, 3) := dk_180 0 7 (dk_at dksX22_holds_0 1 rfl rfl)
theorem dX22_holds_4 : decode cX22_holds 4 = .ok (.aload_n 1, 1) := dk_43 (dk_at dksX22_holds_0 4 rfl rfl)
theorem dX22_holds_5 : decode cX22_holds 5 = .ok (.invokestatic 19, 3) := dk_184 0 19 (dk_at dksX22_holds_0 5 rfl rfl)
theorem dX22_holds_8 : decode cX22_holds 8 = .ok (.istore_n 2, 1) := dk_61 (dk_at dksX22_holds_0 8 rfl rfl)
theorem dX22_holds_9 : decode cX22_holds 9 = .ok (.aload_n 0, 1) := dk_42 (dk_at dksX22_holds_0 9 rfl rfl)
theorem dX22_holds_10 : decode cX22_holds 10 = .ok (.getfield 16, 3) := dk_180 0 16 (dk_at dksX22_holds_0 10 rfl rfl)
theorem dX22_holds_13 : decode cX22_holds 13 = .ok (.aload_n 1, 1) := dk_43 (dk_at dksX22_holds_0 13 rfl rfl)
theorem dX22_holds_14 : decode cX22_holds 14 = .ok (.invokestatic 19, 3) := dk_184 0 19 (dk_at dksX22_holds_0 14 rfl rfl)
theorem dX22_holds_17 : decode cX22_holds 17 = .ok (.istore_n 3, 1) := dk_62 (dk_at dksX22_holds_0 17 rfl rfl)
theorem dX22_holds_18 : decode cX22_holds 18 = .ok (.aload_n 0, 1) := dk_42 (dk_at dksX22_holds_0 18 rfl rfl)
theorem dX22_holds_19 : decode cX22_holds 19 = .ok (.getfield 13, 3) := dk_180 0 13 (dk_at dksX22_holds_0 19 rfl rfl)
theorem dX22_holds_22 : decode cX22_holds 22 = .ok (.bipush 60, 2) := dk_16 60 (dk_at dksX22_holds_0 22 rfl rfl)
theorem dX22_holds_24 : decode cX22_holds 24 = .ok (.if_icmp .ne 16, 3) := dk_160 0 16 (dk_at dksX22_holds_1 0 rfl rfl)
theorem dX22_holds_27 : decode cX22_holds 27 = .ok (.iload_n 2, 1) := dk_28 (dk_at dksX22_holds_1 3 rfl rfl)
theorem dX22_holds_28 : decode cX22_holds 28 = .ok (.iload_n 3, 1) := dk_29 (dk_at dksX22_holds_1 4 rfl rfl)
theorem dX22_holds_29 : decode cX22_holds 29 = .ok (.if_icmp .ge 7, 3) := dk_162 0 7 (dk_at dksX22_holds_1 5 rfl rfl)
theorem dX22_holds_32 : decode cX22_holds 32 = .ok (.iconst 1, 1) := dk_4 (dk_at dksX22_holds_1 8 rfl rfl)
theorem dX22_holds_33 : decode cX22_holds 33 = .ok (.goto 39, 3) := dk_167 0 39 (dk_at dksX22_holds_1 9 rfl rfl)
theorem dX22_holds_36 : decode cX22_holds 36 = .ok (.iconst 0, 1) := dk_3 (dk_at dksX22_holds_1 12 rfl rfl)
theorem dX22_holds_37 : decode cX22_holds 37 = .ok (.goto 35, 3) := dk_167 0 35 (dk_at dksX22_holds_1 13 rfl rfl)
theorem dX22_holds_40 : decode cX22_holds 40 = .ok (.aload_n 0, 1) := dk_42 (dk_at dksX22_holds_1 16 rfl rfl)
theorem dX22_holds_41 : decode cX22_holds 41 = .ok (.getfield 13, 3) := dk_180 0 13 (dk_at dksX22_holds_1 17 rfl rfl)
theorem dX22_holds_44 : decode cX22_holds 44 = .ok (.bipush 62, 2) := dk_16 62 (dk_at dksX22_holds_1 20 rfl rfl)
theorem dX22_holds_46 : decode cX22_holds 46 = .ok (.if_icmp .ne 16, 3) := dk_160 0 16 (dk_at dksX22_holds_2 0 rfl rfl)
theorem dX22_holds_49 : decode cX22_holds 49 = .ok (.iload_n 2, 1) := dk_28 (dk_at dksX22_holds_2 3 rfl rfl)
theorem dX22_holds_50 : decode cX22_holds 50 = .ok (.iload_n 3, 1) := dk_29 (dk_at dksX22_holds_2 4 rfl rfl)
theorem dX22_holds_51 : decode cX22_holds 51 = .ok (.if_icmp .le 7, 3) := dk_164 0 7 (dk_at dksX22_holds_2 5 rfl rfl)
theorem dX22_holds_54 : decode cX22_holds 54 = .ok (.iconst 1, 1) := dk_4 (dk_at dksX22_holds_2 8 rfl rfl)
theorem dX22_holds_55 : decode cX22_holds 55 = .ok (.goto 17, 3) := dk_167 0 17 (dk_at dksX22_holds_2 9 rfl rfl)
theorem dX22_holds_58 : decode cX22_holds 58 = .ok (.iconst 0, 1) := dk_3 (dk_at dksX22_holds_2 12 rfl rfl)
theorem dX22_holds_59 : decode cX22_holds 59 = .ok (.goto 13, 3) := dk_167 0 13 (dk_at dksX22_holds_2 13 rfl rfl)
theorem dX22_holds_62 : decode cX22_holds 62 = .ok (.iload_n 2, 1) := dk_28 (dk_at dksX22_holds_2 16 rfl rfl)
theorem dX22_holds_63 : decode cX22_holds 63 = .ok (.iload_n 3, 1) := dk_29 (dk_at dksX22_holds_2 17 rfl rfl)
theorem dX22_holds_64 : decode cX22_holds 64 = .ok (.if_icmp .ne 7, 3) := dk_160 0 7 (dk_at dksX22_holds_2 18 rfl rfl)
theorem dX22_holds_67 : decode cX22_holds 67 = .ok (.iconst 1, 1) := dk_4 (dk_at dksX22_holds_2 21 rfl rfl)
theorem dX22_holds_68 : decode cX22_holds 68 = .ok (.goto 4, 3) := dk_167 0 4 (dk_at dksX22_holds_3 0 rfl rfl)
theorem dX22_holds_71 : decode cX22_holds 71 = .ok (.iconst 0, 1) := dk_3 (dk_at dksX22_holds_3 3 rfl rfl)
theorem dX22_holds_72 : decode cX22_holds 72 = .ok (.ireturn, 1) := dk_172 (dk_at dksX22_holds_3 4 rfl rfl)
abbrev cX22_worth : ByteArray := prog_34_method_2_code
def yX22_worth : MethodName := ⟨RX22, "worth", "(I[I)I"⟩
def dkwX22_worth_0 : List UInt8 := [26, 156, 0, 11, 43, 2, 26, 100, 46, 167, 0, 4, 26, 172]
abbrev dktX22_worth_0 : List UInt8 := dkwX22_worth_0 ++ []
theorem dksX22_worth_0 : cX22_worth.data.toList.drop 0 = dktX22_worth_0 := by decide +kernel
theorem dX22_worth_0 : decode cX22_worth 0 = .ok (.iload_n 0, 1) := dk_26 (dk_at dksX22_worth_0 0 rfl rfl)
theorem dX22_worth_1 : decode cX22_worth 1 = .ok (.ifCond .ge 11, 3) := dk_156 0 11 (dk_at dksX22_worth_0 1 rfl rfl)
theorem dX22_worth_4 : decode cX22_worth 4 = .ok (.aload_n 1, 1) := dk_43 (dk_at dksX22_worth_0 4 rfl rfl)
theorem dX22_worth_5 : decode cX22_worth 5 = .ok (.iconst (-1), 1) := dk_2 (dk_at dksX22_worth_0 5 rfl rfl)
theorem dX22_worth_6 : decode cX22_worth 6 = .ok (.iload_n 0, 1) := dk_26 (dk_at dksX22_worth_0 6 rfl rfl)
theorem dX22_worth_7 : decode cX22_worth 7 = .ok (.isub, 1) := dk_100 (dk_at dksX22_worth_0 7 rfl rfl)
theorem dX22_worth_8 : decode cX22_worth 8 = .ok (.iaload, 1) := dk_46 (dk_at dksX22_worth_0 8 rfl rfl)
theorem dX22_worth_9 : decode cX22_worth 9 = .ok (.goto 4, 3) := dk_167 0 4 (dk_at dksX22_worth_0 9 rfl rfl)
theorem dX22_worth_12 : decode cX22_worth 12 = .ok (.iload_n 0, 1) := dk_26 (dk_at dksX22_worth_0 12 rfl rfl)
theorem dX22_worth_13 : decode cX22_worth 13 = .ok (.ireturn, 1) := dk_172 (dk_at dksX22_worth_0 13 rfl rfl)
theorem q112 : (Jvm.Cond.initialized "ColdBox$Test") ∈ lw_all := lw_g (lw_at lw_m1 30 rfl) rfl
theorem q780 : (Jvm.Cond.instantiable "ColdBox$Test" (3 : Nat)) ∈ lw_all := lw_g (lw_at lw_m3 218 rfl) rfl
theorem q782 : (Jvm.Cond.instanceMethod ({ cls := "ColdBox$Test", name := "<init>", desc := "(III)V" } : Jvm.MethodName)) ∈ lw_all := lw_g (lw_at lw_m3 220 rfl) rfl
theorem q783 : (Jvm.Cond.code ({ cls := "ColdBox$Test", name := "<init>", desc := "(III)V" } : Jvm.MethodName) prog_34_method_1_code (4 : Nat) (Option.none : Option Jvm.ClassFile.FieldType)) ∈ lw_all := lw_g (lw_at lw_m3 221 rfl) rfl
theorem q784 : (Jvm.Cond.methodLinkNest "ColdBox$Test" (1 : Nat) ({ cls := "ColdBox$Cond", name := "<init>", desc := "()V" } : Jvm.MethodName) "ColdBox") ∈ lw_tbl := lw_at lw_m3 222 rfl
theorem q788 : (Jvm.Cond.fieldLink "ColdBox$Test" (7 : Nat) "ColdBox$Test" "a" "I") ∈ lw_all := lw_g (lw_at lw_m3 226 rfl) rfl
theorem q789 : (Jvm.Cond.fieldLink "ColdBox$Test" (13 : Nat) "ColdBox$Test" "sign" "I") ∈ lw_all := lw_g (lw_at lw_m3 227 rfl) rfl
theorem q790 : (Jvm.Cond.fieldLink "ColdBox$Test" (16 : Nat) "ColdBox$Test" "b" "I") ∈ lw_all := lw_g (lw_at lw_m3 228 rfl) rfl
theorem q791 : (Jvm.Cond.laysFinal "ColdBox$Test" "ColdBox$Test" "a" "I") ∈ lw_all := lw_g (lw_at lw_m3 229 rfl) rfl
theorem q792 : (Jvm.Cond.soleField "ColdBox$Test" "a") ∈ lw_all := lw_g (lw_at lw_m3 230 rfl) rfl
theorem q793 : (Jvm.Cond.laysFinal "ColdBox$Test" "ColdBox$Test" "sign" "I") ∈ lw_all := lw_g (lw_at lw_m3 231 rfl) rfl
theorem q794 : (Jvm.Cond.soleField "ColdBox$Test" "sign") ∈ lw_all := lw_g (lw_at lw_m3 232 rfl) rfl
theorem q795 : (Jvm.Cond.laysFinal "ColdBox$Test" "ColdBox$Test" "b" "I") ∈ lw_all := lw_g (lw_at lw_m3 233 rfl) rfl
theorem q796 : (Jvm.Cond.soleField "ColdBox$Test" "b") ∈ lw_all := lw_g (lw_at lw_m3 234 rfl) rfl
theorem q797 : (Jvm.Cond.superclass "ColdBox$Test" "ColdBox$Cond") ∈ lw_all := lw_g (lw_at lw_m3 235 rfl) rfl
theorem q1045 : (Jvm.Cond.instanceMethod ({ cls := "ColdBox$Test", name := "holds", desc := "([I)Z" } : Jvm.MethodName)) ∈ lw_all := lw_g (lw_at lw_m5 3 rfl) rfl
theorem q1046 : (Jvm.Cond.code ({ cls := "ColdBox$Test", name := "holds", desc := "([I)Z" } : Jvm.MethodName) prog_34_method_3_code (4 : Nat) (Option.some Jvm.ClassFile.FieldType.boolean)) ∈ lw_all := lw_g (lw_at lw_m5 4 rfl) rfl
theorem q1047 : (Jvm.Cond.methodLink "ColdBox$Test" (19 : Nat) ({ cls := "ColdBox$Test", name := "worth", desc := "(I[I)I" } : Jvm.MethodName)) ∈ lw_all := lw_g (lw_at lw_m5 5 rfl) rfl
theorem q1048 : (Jvm.Cond.static ({ cls := "ColdBox$Test", name := "worth", desc := "(I[I)I" } : Jvm.MethodName)) ∈ lw_all := lw_g (lw_at lw_m5 6 rfl) rfl
theorem q1049 : (Jvm.Cond.code ({ cls := "ColdBox$Test", name := "worth", desc := "(I[I)I" } : Jvm.MethodName) prog_34_method_2_code (2 : Nat) (Option.some Jvm.ClassFile.FieldType.int)) ∈ lw_all := lw_g (lw_at lw_m5 7 rfl) rfl
theorem q1052 : (Jvm.Cond.selects "ColdBox$Test" ({ cls := "ColdBox$Cond", name := "holds", desc := "([I)Z" } : Jvm.MethodName) ({ cls := "ColdBox$Test", name := "holds", desc := "([I)Z" } : Jvm.MethodName)) ∈ lw_all := lw_g (lw_at lw_m5 10 rfl) rfl
theorem q2247 : (Jvm.Cond.castable "ColdBox$Test" "ColdBox$Cond") ∈ lw_tbl := lw_at lw_m10 5 rfl
theorem in_X22 : ∀ w ∈ wsX220, w ∈ lw_all := lw_in wsX220 [791, 793, 795] (by decide +kernel) (by decide +kernel)

/-! ColdBox$Not -/
set_option maxRecDepth 100000
def RX23 : String := "ColdBox$Not"
def TX23 : u_T := fun k => match k with
  | _ => ("ColdBox$Not", "one", "LColdBox$Cond;", true)
def tyX23 : Nat → FieldType := fun k => match k with
  | _ => .object "ColdBox$Cond"
abbrev wsX230 : List Cond := u_ws RX23 TX23 1
theorem nmX23 : ∀ a, a < 1 → ∀ b, b < 1 → a ≠ b → (TX23 a).2.1 ≠ (TX23 b).2.1 := by decide +kernel
theorem tyX23_ok : ∀ k, k < 1 → parseFieldDescriptor (TX23 k).2.2.1 = some (tyX23 k) := by decide +kernel
abbrev cX23_init : ByteArray := prog_22_method_1_code
def yX23_init : MethodName := ⟨RX23, "<init>", "(LColdBox$Cond;)V"⟩
def dkwX23_init_0 : List UInt8 := [42, 183, 0, 1, 42, 43, 181, 0, 7, 177]
abbrev dktX23_init_0 : List UInt8 := dkwX23_init_0 ++ []
theorem dksX23_init_0 : cX23_init.data.toList.drop 0 = dktX23_init_0 := by decide +kernel
theorem dX23_init_0 : decode cX23_init 0 = .ok (.aload_n 0, 1) := dk_42 (dk_at dksX23_init_0 0 rfl rfl)
theorem dX23_init_1 : decode cX23_init 1 = .ok (.invokespecial 1, 3) := dk_183 0 1 (dk_at dksX23_init_0 1 rfl rfl)
theorem dX23_init_4 : decode cX23_init 4 = .ok (.aload_n 0, 1) := dk_42 (dk_at dksX23_init_0 4 rfl rfl)
theorem dX23_init_5 : decode cX23_init 5 = .ok (.aload_n 1, 1) := dk_43 (dk_at dksX23_init_0 5 rfl rfl)
theorem dX23_init_6 : decode cX23_init 6 = .ok (.putfield 7, 3) := dk_181 0 7 (dk_at dksX23_init_0 6 rfl rfl)
theorem dX23_init_9 : decode cX23_init 9 = .ok (.return_, 1) := dk_177 (dk_at dksX23_init_0 9 rfl rfl)
abbrev cX23_holds : ByteArray := prog_22_method_2_code
def yX23_holds : MethodName := ⟨RX23, "holds", "([I)Z"⟩
def dkwX23_holds_0 : List UInt8 := [42, 180, 0, 7, 43, 182, 0, 13, 154, 0, 7, 4, 167, 0, 4, 3, 172]
abbrev dktX23_holds_0 : List UInt8 := dkwX23_holds_0 ++ []
theorem dksX23_holds_0 : cX23_holds.data.toList.drop 0 = dktX23_holds_0 := by decide +kernel
theorem dX23_holds_0 : decode cX23_holds 0 = .ok (.aload_n 0, 1) := dk_42 (dk_at dksX23_holds_0 0 rfl rfl)
theorem dX23_holds_1 : decode cX23_holds 1 = .ok (.getfield 7, 3) := dk_180 0 7 (dk_at dksX23_holds_0 1 rfl rfl)
theorem dX23_holds_4 : decode cX23_holds 4 = .ok (.aload_n 1, 1) := dk_43 (dk_at dksX23_holds_0 4 rfl rfl)
theorem dX23_holds_5 : decode cX23_holds 5 = .ok (.invokevirtual 13, 3) := dk_182 0 13 (dk_at dksX23_holds_0 5 rfl rfl)
theorem dX23_holds_8 : decode cX23_holds 8 = .ok (.ifCond .ne 7, 3) := dk_154 0 7 (dk_at dksX23_holds_0 8 rfl rfl)
theorem dX23_holds_11 : decode cX23_holds 11 = .ok (.iconst 1, 1) := dk_4 (dk_at dksX23_holds_0 11 rfl rfl)
theorem dX23_holds_12 : decode cX23_holds 12 = .ok (.goto 4, 3) := dk_167 0 4 (dk_at dksX23_holds_0 12 rfl rfl)
theorem dX23_holds_15 : decode cX23_holds 15 = .ok (.iconst 0, 1) := dk_3 (dk_at dksX23_holds_0 15 rfl rfl)
theorem dX23_holds_16 : decode cX23_holds 16 = .ok (.ireturn, 1) := dk_172 (dk_at dksX23_holds_0 16 rfl rfl)
theorem q113 : (Jvm.Cond.initialized "ColdBox$Not") ∈ lw_all := lw_g (lw_at lw_m1 31 rfl) rfl
theorem q799 : (Jvm.Cond.instantiable "ColdBox$Not" (1 : Nat)) ∈ lw_all := lw_g (lw_at lw_m3 237 rfl) rfl
theorem q801 : (Jvm.Cond.instanceMethod ({ cls := "ColdBox$Not", name := "<init>", desc := "(LColdBox$Cond;)V" } : Jvm.MethodName)) ∈ lw_all := lw_g (lw_at lw_m3 239 rfl) rfl
theorem q802 : (Jvm.Cond.code ({ cls := "ColdBox$Not", name := "<init>", desc := "(LColdBox$Cond;)V" } : Jvm.MethodName) prog_22_method_1_code (2 : Nat) (Option.none : Option Jvm.ClassFile.FieldType)) ∈ lw_all := lw_g (lw_at lw_m4 0 rfl) rfl
theorem q803 : (Jvm.Cond.methodLinkNest "ColdBox$Not" (1 : Nat) ({ cls := "ColdBox$Cond", name := "<init>", desc := "()V" } : Jvm.MethodName) "ColdBox") ∈ lw_tbl := lw_at lw_m4 1 rfl
theorem q804 : (Jvm.Cond.fieldLink "ColdBox$Not" (7 : Nat) "ColdBox$Not" "one" "LColdBox$Cond;") ∈ lw_all := lw_g (lw_at lw_m4 2 rfl) rfl
theorem q805 : (Jvm.Cond.laysFinal "ColdBox$Not" "ColdBox$Not" "one" "LColdBox$Cond;") ∈ lw_all := lw_g (lw_at lw_m4 3 rfl) rfl
theorem q806 : (Jvm.Cond.soleField "ColdBox$Not" "one") ∈ lw_all := lw_g (lw_at lw_m4 4 rfl) rfl
theorem q807 : (Jvm.Cond.superclass "ColdBox$Not" "ColdBox$Cond") ∈ lw_all := lw_g (lw_at lw_m4 5 rfl) rfl
theorem q1042 : (Jvm.Cond.instanceMethod ({ cls := "ColdBox$Not", name := "holds", desc := "([I)Z" } : Jvm.MethodName)) ∈ lw_all := lw_g (lw_at lw_m5 0 rfl) rfl
theorem q1043 : (Jvm.Cond.code ({ cls := "ColdBox$Not", name := "holds", desc := "([I)Z" } : Jvm.MethodName) prog_22_method_2_code (2 : Nat) (Option.some Jvm.ClassFile.FieldType.boolean)) ∈ lw_all := lw_g (lw_at lw_m5 1 rfl) rfl
theorem q1044 : (Jvm.Cond.methodLink "ColdBox$Not" (13 : Nat) ({ cls := "ColdBox$Cond", name := "holds", desc := "([I)Z" } : Jvm.MethodName)) ∈ lw_all := lw_g (lw_at lw_m5 2 rfl) rfl
theorem q1051 : (Jvm.Cond.selects "ColdBox$Not" ({ cls := "ColdBox$Cond", name := "holds", desc := "([I)Z" } : Jvm.MethodName) ({ cls := "ColdBox$Not", name := "holds", desc := "([I)Z" } : Jvm.MethodName)) ∈ lw_all := lw_g (lw_at lw_m5 9 rfl) rfl
theorem q2248 : (Jvm.Cond.castable "ColdBox$Not" "ColdBox$Cond") ∈ lw_tbl := lw_at lw_m10 6 rfl
theorem in_X23 : ∀ w ∈ wsX230, w ∈ lw_all := lw_in wsX230 [805] (by decide +kernel) (by decide +kernel)

/-! ColdBox$Two -/
set_option maxRecDepth 100000
def RX24 : String := "ColdBox$Two"
abbrev cX24_init : ByteArray := prog_35_method_1_code
def yX24_init : MethodName := ⟨RX24, "<init>", "(LColdBox$Cond;LColdBox$Cond;)V"⟩
def dkwX24_init_0 : List UInt8 := [42, 183, 0, 1, 42, 43, 181, 0, 7, 42, 44, 181, 0, 13, 177]
abbrev dktX24_init_0 : List UInt8 := dkwX24_init_0 ++ []
theorem dksX24_init_0 : cX24_init.data.toList.drop 0 = dktX24_init_0 := by decide +kernel
theorem dX24_init_0 : decode cX24_init 0 = .ok (.aload_n 0, 1) := dk_42 (dk_at dksX24_init_0 0 rfl rfl)
theorem dX24_init_1 : decode cX24_init 1 = .ok (.invokespecial 1, 3) := dk_183 0 1 (dk_at dksX24_init_0 1 rfl rfl)
theorem dX24_init_4 : decode cX24_init 4 = .ok (.aload_n 0, 1) := dk_42 (dk_at dksX24_init_0 4 rfl rfl)
theorem dX24_init_5 : decode cX24_init 5 = .ok (.aload_n 1, 1) := dk_43 (dk_at dksX24_init_0 5 rfl rfl)
theorem dX24_init_6 : decode cX24_init 6 = .ok (.putfield 7, 3) := dk_181 0 7 (dk_at dksX24_init_0 6 rfl rfl)
theorem dX24_init_9 : decode cX24_init 9 = .ok (.aload_n 0, 1) := dk_42 (dk_at dksX24_init_0 9 rfl rfl)
theorem dX24_init_10 : decode cX24_init 10 = .ok (.aload_n 2, 1) := dk_44 (dk_at dksX24_init_0 10 rfl rfl)
theorem dX24_init_11 : decode cX24_init 11 = .ok (.putfield 13, 3) := dk_181 0 13 (dk_at dksX24_init_0 11 rfl rfl)
theorem dX24_init_14 : decode cX24_init 14 = .ok (.return_, 1) := dk_177 (dk_at dksX24_init_0 14 rfl rfl)
theorem q114 : (Jvm.Cond.initialized "ColdBox$Two") ∈ lw_all := lw_g (lw_at lw_m1 32 rfl) rfl
theorem q815 : (Jvm.Cond.instanceMethod ({ cls := "ColdBox$Two", name := "<init>", desc := "(LColdBox$Cond;LColdBox$Cond;)V" } : Jvm.MethodName)) ∈ lw_all := lw_g (lw_at lw_m4 13 rfl) rfl
theorem q816 : (Jvm.Cond.code ({ cls := "ColdBox$Two", name := "<init>", desc := "(LColdBox$Cond;LColdBox$Cond;)V" } : Jvm.MethodName) prog_35_method_1_code (3 : Nat) (Option.none : Option Jvm.ClassFile.FieldType)) ∈ lw_all := lw_g (lw_at lw_m4 14 rfl) rfl
theorem q817 : (Jvm.Cond.methodLinkNest "ColdBox$Two" (1 : Nat) ({ cls := "ColdBox$Cond", name := "<init>", desc := "()V" } : Jvm.MethodName) "ColdBox") ∈ lw_tbl := lw_at lw_m4 15 rfl
theorem q818 : (Jvm.Cond.fieldLink "ColdBox$Two" (7 : Nat) "ColdBox$Two" "one" "LColdBox$Cond;") ∈ lw_all := lw_g (lw_at lw_m4 16 rfl) rfl
theorem q823 : (Jvm.Cond.fieldLink "ColdBox$Two" (13 : Nat) "ColdBox$Two" "other" "LColdBox$Cond;") ∈ lw_all := lw_g (lw_at lw_m4 21 rfl) rfl
theorem q829 : (Jvm.Cond.soleField "ColdBox$Two" "one") ∈ lw_all := lw_g (lw_at lw_m4 27 rfl) rfl
theorem q831 : (Jvm.Cond.soleField "ColdBox$Two" "other") ∈ lw_all := lw_g (lw_at lw_m4 29 rfl) rfl

/-! ColdBox$Both -/
set_option maxRecDepth 100000
def RX25 : String := "ColdBox$Both"
def TX25 : u_T := fun k => match k with
  | 0 => ("ColdBox$Two", "one", "LColdBox$Cond;", true)
  | _ => ("ColdBox$Two", "other", "LColdBox$Cond;", true)
def tyX25 : Nat → FieldType := fun k => match k with
  | 0 => .object "ColdBox$Cond"
  | _ => .object "ColdBox$Cond"
abbrev wsX250 : List Cond := u_ws RX25 TX25 2
theorem nmX25 : ∀ a, a < 2 → ∀ b, b < 2 → a ≠ b → (TX25 a).2.1 ≠ (TX25 b).2.1 := by decide +kernel
theorem tyX25_ok : ∀ k, k < 2 → parseFieldDescriptor (TX25 k).2.2.1 = some (tyX25 k) := by decide +kernel
abbrev cX25_init : ByteArray := prog_7_method_1_code
def yX25_init : MethodName := ⟨RX25, "<init>", "(LColdBox$Cond;LColdBox$Cond;)V"⟩
def dkwX25_init_0 : List UInt8 := [42, 43, 44, 183, 0, 1, 177]
abbrev dktX25_init_0 : List UInt8 := dkwX25_init_0 ++ []
theorem dksX25_init_0 : cX25_init.data.toList.drop 0 = dktX25_init_0 := by decide +kernel
theorem dX25_init_0 : decode cX25_init 0 = .ok (.aload_n 0, 1) := dk_42 (dk_at dksX25_init_0 0 rfl rfl)
theorem dX25_init_1 : decode cX25_init 1 = .ok (.aload_n 1, 1) := dk_43 (dk_at dksX25_init_0 1 rfl rfl)
theorem dX25_init_2 : decode cX25_init 2 = .ok (.aload_n 2, 1) := dk_44 (dk_at dksX25_init_0 2 rfl rfl)
theorem dX25_init_3 : decode cX25_init 3 = .ok (.invokespecial 1, 3) := dk_183 0 1 (dk_at dksX25_init_0 3 rfl rfl)
theorem dX25_init_6 : decode cX25_init 6 = .ok (.return_, 1) := dk_177 (dk_at dksX25_init_0 6 rfl rfl)
abbrev cX25_holds : ByteArray := prog_7_method_2_code
def yX25_holds : MethodName := ⟨RX25, "holds", "([I)Z"⟩
def dkwX25_holds_1 : List UInt8 := [167, 0, 4, 3, 172]
abbrev dktX25_holds_1 : List UInt8 := dkwX25_holds_1 ++ []
def dkwX25_holds_0 : List UInt8 := [42, 180, 0, 7, 43, 182, 0, 13, 153, 0, 18, 42, 180, 0, 19, 43, 182, 0, 13, 153, 0, 7, 4]
abbrev dktX25_holds_0 : List UInt8 := dkwX25_holds_0 ++ dktX25_holds_1
theorem dksX25_holds_0 : cX25_holds.data.toList.drop 0 = dktX25_holds_0 := by decide +kernel
theorem dksX25_holds_1 : cX25_holds.data.toList.drop 23 = dktX25_holds_1 := dk_seg dksX25_holds_0 23 rfl rfl
theorem dX25_holds_0 : decode cX25_holds 0 = .ok (.aload_n 0, 1) := dk_42 (dk_at dksX25_holds_0 0 rfl rfl)
theorem dX25_holds_1 : decode cX25_holds 1 = .ok (.getfield 7, 3) := dk_180 0 7 (dk_at dksX25_holds_0 1 rfl rfl)
theorem dX25_holds_4 : decode cX25_holds 4 = .ok (.aload_n 1, 1) := dk_43 (dk_at dksX25_holds_0 4 rfl rfl)
theorem dX25_holds_5 : decode cX25_holds 5 = .ok (.invokevirtual 13, 3) := dk_182 0 13 (dk_at dksX25_holds_0 5 rfl rfl)
theorem dX25_holds_8 : decode cX25_holds 8 = .ok (.ifCond .eq 18, 3) := dk_153 0 18 (dk_at dksX25_holds_0 8 rfl rfl)
theorem dX25_holds_11 : decode cX25_holds 11 = .ok (.aload_n 0, 1) := dk_42 (dk_at dksX25_holds_0 11 rfl rfl)
theorem dX25_holds_12 : decode cX25_holds 12 = .ok (.getfield 19, 3) := dk_180 0 19 (dk_at dksX25_holds_0 12 rfl rfl)
theorem dX25_holds_15 : decode cX25_holds 15 = .ok (.aload_n 1, 1) := dk_43 (dk_at dksX25_holds_0 15 rfl rfl)
theorem dX25_holds_16 : decode cX25_holds 16 = .ok (.invokevirtual 13, 3) := dk_182 0 13 (dk_at dksX25_holds_0 16 rfl rfl)
theorem dX25_holds_19 : decode cX25_holds 19 = .ok (.ifCond .eq 7, 3) := dk_153 0 7 (dk_at dksX25_holds_0 19 rfl rfl)
theorem dX25_holds_22 : decode cX25_holds 22 = .ok (.iconst 1, 1) := dk_4 (dk_at dksX25_holds_0 22 rfl rfl)
theorem dX25_holds_23 : decode cX25_holds 23 = .ok (.goto 4, 3) := dk_167 0 4 (dk_at dksX25_holds_1 0 rfl rfl)
theorem dX25_holds_26 : decode cX25_holds 26 = .ok (.iconst 0, 1) := dk_3 (dk_at dksX25_holds_1 3 rfl rfl)
theorem dX25_holds_27 : decode cX25_holds 27 = .ok (.ireturn, 1) := dk_172 (dk_at dksX25_holds_1 4 rfl rfl)
theorem q115 : (Jvm.Cond.initialized "ColdBox$Both") ∈ lw_all := lw_g (lw_at lw_m1 33 rfl) rfl
theorem q810 : (Jvm.Cond.instantiable "ColdBox$Both" (2 : Nat)) ∈ lw_all := lw_g (lw_at lw_m4 8 rfl) rfl
theorem q812 : (Jvm.Cond.instanceMethod ({ cls := "ColdBox$Both", name := "<init>", desc := "(LColdBox$Cond;LColdBox$Cond;)V" } : Jvm.MethodName)) ∈ lw_all := lw_g (lw_at lw_m4 10 rfl) rfl
theorem q813 : (Jvm.Cond.code ({ cls := "ColdBox$Both", name := "<init>", desc := "(LColdBox$Cond;LColdBox$Cond;)V" } : Jvm.MethodName) prog_7_method_1_code (3 : Nat) (Option.none : Option Jvm.ClassFile.FieldType)) ∈ lw_all := lw_g (lw_at lw_m4 11 rfl) rfl
theorem q814 : (Jvm.Cond.methodLink "ColdBox$Both" (1 : Nat) ({ cls := "ColdBox$Two", name := "<init>", desc := "(LColdBox$Cond;LColdBox$Cond;)V" } : Jvm.MethodName)) ∈ lw_all := lw_g (lw_at lw_m4 12 rfl) rfl
theorem q819 : (Jvm.Cond.fieldLink "ColdBox$Both" (7 : Nat) "ColdBox$Both" "one" "LColdBox$Cond;") ∈ lw_all := lw_g (lw_at lw_m4 17 rfl) rfl
theorem q820 : (Jvm.Cond.sameField "ColdBox$Both" "ColdBox$Two" "one" "LColdBox$Cond;") ∈ lw_all := lw_g (lw_at lw_m4 18 rfl) rfl
theorem q826 : (Jvm.Cond.fieldLink "ColdBox$Both" (19 : Nat) "ColdBox$Both" "other" "LColdBox$Cond;") ∈ lw_all := lw_g (lw_at lw_m4 24 rfl) rfl
theorem q827 : (Jvm.Cond.sameField "ColdBox$Both" "ColdBox$Two" "other" "LColdBox$Cond;") ∈ lw_all := lw_g (lw_at lw_m4 25 rfl) rfl
theorem q828 : (Jvm.Cond.laysFinal "ColdBox$Both" "ColdBox$Two" "one" "LColdBox$Cond;") ∈ lw_all := lw_g (lw_at lw_m4 26 rfl) rfl
theorem q830 : (Jvm.Cond.laysFinal "ColdBox$Both" "ColdBox$Two" "other" "LColdBox$Cond;") ∈ lw_all := lw_g (lw_at lw_m4 28 rfl) rfl
theorem q832 : (Jvm.Cond.superclass "ColdBox$Both" "ColdBox$Two") ∈ lw_all := lw_g (lw_at lw_m4 30 rfl) rfl
theorem q1035 : (Jvm.Cond.selects "ColdBox$Both" ({ cls := "ColdBox$Cond", name := "holds", desc := "([I)Z" } : Jvm.MethodName) ({ cls := "ColdBox$Both", name := "holds", desc := "([I)Z" } : Jvm.MethodName)) ∈ lw_all := lw_g (lw_at lw_m4 233 rfl) rfl
theorem q1036 : (Jvm.Cond.instanceMethod ({ cls := "ColdBox$Both", name := "holds", desc := "([I)Z" } : Jvm.MethodName)) ∈ lw_all := lw_g (lw_at lw_m4 234 rfl) rfl
theorem q1037 : (Jvm.Cond.code ({ cls := "ColdBox$Both", name := "holds", desc := "([I)Z" } : Jvm.MethodName) prog_7_method_2_code (2 : Nat) (Option.some Jvm.ClassFile.FieldType.boolean)) ∈ lw_all := lw_g (lw_at lw_m4 235 rfl) rfl
theorem q1038 : (Jvm.Cond.methodLink "ColdBox$Both" (13 : Nat) ({ cls := "ColdBox$Cond", name := "holds", desc := "([I)Z" } : Jvm.MethodName)) ∈ lw_all := lw_g (lw_at lw_m4 236 rfl) rfl
theorem q2249 : (Jvm.Cond.castable "ColdBox$Both" "ColdBox$Cond") ∈ lw_tbl := lw_at lw_m10 7 rfl
theorem in_X25 : ∀ w ∈ wsX250, w ∈ lw_all := lw_in wsX250 [828, 830] (by decide +kernel) (by decide +kernel)

/-! ColdBox$Either -/
set_option maxRecDepth 100000
def RX26 : String := "ColdBox$Either"
def TX26 : u_T := fun k => match k with
  | 0 => ("ColdBox$Two", "one", "LColdBox$Cond;", true)
  | _ => ("ColdBox$Two", "other", "LColdBox$Cond;", true)
def tyX26 : Nat → FieldType := fun k => match k with
  | 0 => .object "ColdBox$Cond"
  | _ => .object "ColdBox$Cond"
abbrev wsX260 : List Cond := u_ws RX26 TX26 2
theorem nmX26 : ∀ a, a < 2 → ∀ b, b < 2 → a ≠ b → (TX26 a).2.1 ≠ (TX26 b).2.1 := by decide +kernel
theorem tyX26_ok : ∀ k, k < 2 → parseFieldDescriptor (TX26 k).2.2.1 = some (tyX26 k) := by decide +kernel
abbrev cX26_init : ByteArray := prog_13_method_1_code
def yX26_init : MethodName := ⟨RX26, "<init>", "(LColdBox$Cond;LColdBox$Cond;)V"⟩
def dkwX26_init_0 : List UInt8 := [42, 43, 44, 183, 0, 1, 177]
abbrev dktX26_init_0 : List UInt8 := dkwX26_init_0 ++ []
theorem dksX26_init_0 : cX26_init.data.toList.drop 0 = dktX26_init_0 := by decide +kernel
theorem dX26_init_0 : decode cX26_init 0 = .ok (.aload_n 0, 1) := dk_42 (dk_at dksX26_init_0 0 rfl rfl)
theorem dX26_init_1 : decode cX26_init 1 = .ok (.aload_n 1, 1) := dk_43 (dk_at dksX26_init_0 1 rfl rfl)
theorem dX26_init_2 : decode cX26_init 2 = .ok (.aload_n 2, 1) := dk_44 (dk_at dksX26_init_0 2 rfl rfl)
theorem dX26_init_3 : decode cX26_init 3 = .ok (.invokespecial 1, 3) := dk_183 0 1 (dk_at dksX26_init_0 3 rfl rfl)
theorem dX26_init_6 : decode cX26_init 6 = .ok (.return_, 1) := dk_177 (dk_at dksX26_init_0 6 rfl rfl)
abbrev cX26_holds : ByteArray := prog_13_method_2_code
def yX26_holds : MethodName := ⟨RX26, "holds", "([I)Z"⟩
def dkwX26_holds_1 : List UInt8 := [167, 0, 4, 3, 172]
abbrev dktX26_holds_1 : List UInt8 := dkwX26_holds_1 ++ []
def dkwX26_holds_0 : List UInt8 := [42, 180, 0, 7, 43, 182, 0, 13, 154, 0, 14, 42, 180, 0, 19, 43, 182, 0, 13, 153, 0, 7, 4]
abbrev dktX26_holds_0 : List UInt8 := dkwX26_holds_0 ++ dktX26_holds_1
theorem dksX26_holds_0 : cX26_holds.data.toList.drop 0 = dktX26_holds_0 := by decide +kernel
theorem dksX26_holds_1 : cX26_holds.data.toList.drop 23 = dktX26_holds_1 := dk_seg dksX26_holds_0 23 rfl rfl
theorem dX26_holds_0 : decode cX26_holds 0 = .ok (.aload_n 0, 1) := dk_42 (dk_at dksX26_holds_0 0 rfl rfl)
theorem dX26_holds_1 : decode cX26_holds 1 = .ok (.getfield 7, 3) := dk_180 0 7 (dk_at dksX26_holds_0 1 rfl rfl)
theorem dX26_holds_4 : decode cX26_holds 4 = .ok (.aload_n 1, 1) := dk_43 (dk_at dksX26_holds_0 4 rfl rfl)
theorem dX26_holds_5 : decode cX26_holds 5 = .ok (.invokevirtual 13, 3) := dk_182 0 13 (dk_at dksX26_holds_0 5 rfl rfl)
theorem dX26_holds_8 : decode cX26_holds 8 = .ok (.ifCond .ne 14, 3) := dk_154 0 14 (dk_at dksX26_holds_0 8 rfl rfl)
theorem dX26_holds_11 : decode cX26_holds 11 = .ok (.aload_n 0, 1) := dk_42 (dk_at dksX26_holds_0 11 rfl rfl)
theorem dX26_holds_12 : decode cX26_holds 12 = .ok (.getfield 19, 3) := dk_180 0 19 (dk_at dksX26_holds_0 12 rfl rfl)
theorem dX26_holds_15 : decode cX26_holds 15 = .ok (.aload_n 1, 1) := dk_43 (dk_at dksX26_holds_0 15 rfl rfl)
theorem dX26_holds_16 : decode cX26_holds 16 = .ok (.invokevirtual 13, 3) := dk_182 0 13 (dk_at dksX26_holds_0 16 rfl rfl)
theorem dX26_holds_19 : decode cX26_holds 19 = .ok (.ifCond .eq 7, 3) := dk_153 0 7 (dk_at dksX26_holds_0 19 rfl rfl)
theorem dX26_holds_22 : decode cX26_holds 22 = .ok (.iconst 1, 1) := dk_4 (dk_at dksX26_holds_0 22 rfl rfl)
theorem dX26_holds_23 : decode cX26_holds 23 = .ok (.goto 4, 3) := dk_167 0 4 (dk_at dksX26_holds_1 0 rfl rfl)
theorem dX26_holds_26 : decode cX26_holds 26 = .ok (.iconst 0, 1) := dk_3 (dk_at dksX26_holds_1 3 rfl rfl)
theorem dX26_holds_27 : decode cX26_holds 27 = .ok (.ireturn, 1) := dk_172 (dk_at dksX26_holds_1 4 rfl rfl)
theorem q116 : (Jvm.Cond.initialized "ColdBox$Either") ∈ lw_all := lw_g (lw_at lw_m1 34 rfl) rfl
theorem q821 : (Jvm.Cond.fieldLink "ColdBox$Either" (7 : Nat) "ColdBox$Either" "one" "LColdBox$Cond;") ∈ lw_all := lw_g (lw_at lw_m4 19 rfl) rfl
theorem q822 : (Jvm.Cond.sameField "ColdBox$Either" "ColdBox$Two" "one" "LColdBox$Cond;") ∈ lw_all := lw_g (lw_at lw_m4 20 rfl) rfl
theorem q824 : (Jvm.Cond.fieldLink "ColdBox$Either" (19 : Nat) "ColdBox$Either" "other" "LColdBox$Cond;") ∈ lw_all := lw_g (lw_at lw_m4 22 rfl) rfl
theorem q825 : (Jvm.Cond.sameField "ColdBox$Either" "ColdBox$Two" "other" "LColdBox$Cond;") ∈ lw_all := lw_g (lw_at lw_m4 23 rfl) rfl
theorem q835 : (Jvm.Cond.instantiable "ColdBox$Either" (2 : Nat)) ∈ lw_all := lw_g (lw_at lw_m4 33 rfl) rfl
theorem q837 : (Jvm.Cond.instanceMethod ({ cls := "ColdBox$Either", name := "<init>", desc := "(LColdBox$Cond;LColdBox$Cond;)V" } : Jvm.MethodName)) ∈ lw_all := lw_g (lw_at lw_m4 35 rfl) rfl
theorem q838 : (Jvm.Cond.code ({ cls := "ColdBox$Either", name := "<init>", desc := "(LColdBox$Cond;LColdBox$Cond;)V" } : Jvm.MethodName) prog_13_method_1_code (3 : Nat) (Option.none : Option Jvm.ClassFile.FieldType)) ∈ lw_all := lw_g (lw_at lw_m4 36 rfl) rfl
theorem q839 : (Jvm.Cond.methodLink "ColdBox$Either" (1 : Nat) ({ cls := "ColdBox$Two", name := "<init>", desc := "(LColdBox$Cond;LColdBox$Cond;)V" } : Jvm.MethodName)) ∈ lw_all := lw_g (lw_at lw_m4 37 rfl) rfl
theorem q840 : (Jvm.Cond.laysFinal "ColdBox$Either" "ColdBox$Two" "one" "LColdBox$Cond;") ∈ lw_all := lw_g (lw_at lw_m4 38 rfl) rfl
theorem q841 : (Jvm.Cond.laysFinal "ColdBox$Either" "ColdBox$Two" "other" "LColdBox$Cond;") ∈ lw_all := lw_g (lw_at lw_m4 39 rfl) rfl
theorem q842 : (Jvm.Cond.superclass "ColdBox$Either" "ColdBox$Two") ∈ lw_all := lw_g (lw_at lw_m4 40 rfl) rfl
theorem q1039 : (Jvm.Cond.instanceMethod ({ cls := "ColdBox$Either", name := "holds", desc := "([I)Z" } : Jvm.MethodName)) ∈ lw_all := lw_g (lw_at lw_m4 237 rfl) rfl
theorem q1040 : (Jvm.Cond.code ({ cls := "ColdBox$Either", name := "holds", desc := "([I)Z" } : Jvm.MethodName) prog_13_method_2_code (2 : Nat) (Option.some Jvm.ClassFile.FieldType.boolean)) ∈ lw_all := lw_g (lw_at lw_m4 238 rfl) rfl
theorem q1041 : (Jvm.Cond.methodLink "ColdBox$Either" (13 : Nat) ({ cls := "ColdBox$Cond", name := "holds", desc := "([I)Z" } : Jvm.MethodName)) ∈ lw_all := lw_g (lw_at lw_m4 239 rfl) rfl
theorem q1050 : (Jvm.Cond.selects "ColdBox$Either" ({ cls := "ColdBox$Cond", name := "holds", desc := "([I)Z" } : Jvm.MethodName) ({ cls := "ColdBox$Either", name := "holds", desc := "([I)Z" } : Jvm.MethodName)) ∈ lw_all := lw_g (lw_at lw_m5 8 rfl) rfl
theorem q2250 : (Jvm.Cond.castable "ColdBox$Either" "ColdBox$Cond") ∈ lw_tbl := lw_at lw_m10 8 rfl
theorem in_X26 : ∀ w ∈ wsX260, w ∈ lw_all := lw_in wsX260 [840, 841] (by decide +kernel) (by decide +kernel)

/-! ColdBox$Row -/
set_option maxRecDepth 100000
def RX27 : String := "ColdBox$Row"
def TX27 : u_T := fun k => match k with
  | _ => ("ColdBox$Row", "told", "[I", true)
def tyX27 : Nat → FieldType := fun k => match k with
  | _ => .array .int
abbrev wsX270 : List Cond := u_ws RX27 TX27 1
theorem nmX27 : ∀ a, a < 1 → ∀ b, b < 1 → a ≠ b → (TX27 a).2.1 ≠ (TX27 b).2.1 := by decide +kernel
theorem tyX27_ok : ∀ k, k < 1 → parseFieldDescriptor (TX27 k).2.2.1 = some (tyX27 k) := by decide +kernel
abbrev cX27_init : ByteArray := prog_27_method_1_code
def yX27_init : MethodName := ⟨RX27, "<init>", "()V"⟩
def dkwX27_init_0 : List UInt8 := [42, 183, 0, 1, 42, 6, 188, 10, 181, 0, 7, 177]
abbrev dktX27_init_0 : List UInt8 := dkwX27_init_0 ++ []
theorem dksX27_init_0 : cX27_init.data.toList.drop 0 = dktX27_init_0 := by decide +kernel
theorem dX27_init_0 : decode cX27_init 0 = .ok (.aload_n 0, 1) := dk_42 (dk_at dksX27_init_0 0 rfl rfl)
theorem dX27_init_1 : decode cX27_init 1 = .ok (.invokespecial 1, 3) := dk_183 0 1 (dk_at dksX27_init_0 1 rfl rfl)
theorem dX27_init_4 : decode cX27_init 4 = .ok (.aload_n 0, 1) := dk_42 (dk_at dksX27_init_0 4 rfl rfl)
theorem dX27_init_5 : decode cX27_init 5 = .ok (.iconst 3, 1) := dk_6 (dk_at dksX27_init_0 5 rfl rfl)
theorem dX27_init_6 : decode cX27_init 6 = .ok (.newarray .int, 2) := dk_188_10 (dk_at dksX27_init_0 6 rfl rfl)
theorem dX27_init_8 : decode cX27_init 8 = .ok (.putfield 7, 3) := dk_181 0 7 (dk_at dksX27_init_0 8 rfl rfl)
theorem dX27_init_11 : decode cX27_init 11 = .ok (.return_, 1) := dk_177 (dk_at dksX27_init_0 11 rfl rfl)
theorem q119 : (Jvm.Cond.initialized "ColdBox$Row") ∈ lw_all := lw_g (lw_at lw_m1 37 rfl) rfl
theorem q1085 : (Jvm.Cond.instantiable "ColdBox$Row" (1 : Nat)) ∈ lw_all := lw_g (lw_at lw_m5 43 rfl) rfl
theorem q1087 : (Jvm.Cond.instanceMethod ({ cls := "ColdBox$Row", name := "<init>", desc := "()V" } : Jvm.MethodName)) ∈ lw_all := lw_g (lw_at lw_m5 45 rfl) rfl
theorem q1088 : (Jvm.Cond.code ({ cls := "ColdBox$Row", name := "<init>", desc := "()V" } : Jvm.MethodName) prog_27_method_1_code (1 : Nat) (Option.none : Option Jvm.ClassFile.FieldType)) ∈ lw_all := lw_g (lw_at lw_m5 46 rfl) rfl
theorem q1089 : (Jvm.Cond.methodLink "ColdBox$Row" (1 : Nat) ({ cls := "java/lang/Object", name := "<init>", desc := "()V" } : Jvm.MethodName)) ∈ lw_all := lw_g (lw_at lw_m5 47 rfl) rfl
theorem q1090 : (Jvm.Cond.fieldLink "ColdBox$Row" (7 : Nat) "ColdBox$Row" "told" "[I") ∈ lw_all := lw_g (lw_at lw_m5 48 rfl) rfl
theorem q1094 : (Jvm.Cond.laysFinal "ColdBox$Row" "ColdBox$Row" "told" "[I") ∈ lw_all := lw_g (lw_at lw_m5 52 rfl) rfl
theorem q1095 : (Jvm.Cond.soleField "ColdBox$Row" "told") ∈ lw_all := lw_g (lw_at lw_m5 53 rfl) rfl
theorem q1096 : (Jvm.Cond.superclass "ColdBox$Row" "java/lang/Object") ∈ lw_all := lw_g (lw_at lw_m5 54 rfl) rfl
theorem in_X27 : ∀ w ∈ wsX270, w ∈ lw_all := lw_in wsX270 [1094] (by decide +kernel) (by decide +kernel)

/-! ColdBox$AnyWeek -/
set_option maxRecDepth 100000
def RX28 : String := "ColdBox$AnyWeek"
def TX28 : u_T := fun k => match k with
  | 0 => ("ColdBox$AnyWeek", "number", "I", true)
  | 1 => ("ColdBox$AnyWeek", "about", "I", true)
  | _ => ("ColdBox$AnyWeek", "this$0", "LColdBox;", true)
def tyX28 : Nat → FieldType := fun k => match k with
  | 0 => .int
  | 1 => .int
  | _ => .object "ColdBox"
abbrev wsX280 : List Cond := u_ws RX28 TX28 3
theorem nmX28 : ∀ a, a < 3 → ∀ b, b < 3 → a ≠ b → (TX28 a).2.1 ≠ (TX28 b).2.1 := by decide +kernel
theorem tyX28_ok : ∀ k, k < 3 → parseFieldDescriptor (TX28 k).2.2.1 = some (tyX28 k) := by decide +kernel
abbrev cX28_init : ByteArray := prog_2_method_1_code
def yX28_init : MethodName := ⟨RX28, "<init>", "(LColdBox;II)V"⟩
def dkwX28_init_0 : List UInt8 := [42, 43, 181, 0, 1, 42, 183, 0, 7, 42, 28, 181, 0, 13, 42, 29, 181, 0, 17, 177]
abbrev dktX28_init_0 : List UInt8 := dkwX28_init_0 ++ []
theorem dksX28_init_0 : cX28_init.data.toList.drop 0 = dktX28_init_0 := by decide +kernel
theorem dX28_init_0 : decode cX28_init 0 = .ok (.aload_n 0, 1) := dk_42 (dk_at dksX28_init_0 0 rfl rfl)
theorem dX28_init_1 : decode cX28_init 1 = .ok (.aload_n 1, 1) := dk_43 (dk_at dksX28_init_0 1 rfl rfl)
theorem dX28_init_2 : decode cX28_init 2 = .ok (.putfield 1, 3) := dk_181 0 1 (dk_at dksX28_init_0 2 rfl rfl)
theorem dX28_init_5 : decode cX28_init 5 = .ok (.aload_n 0, 1) := dk_42 (dk_at dksX28_init_0 5 rfl rfl)
theorem dX28_init_6 : decode cX28_init 6 = .ok (.invokespecial 7, 3) := dk_183 0 7 (dk_at dksX28_init_0 6 rfl rfl)
theorem dX28_init_9 : decode cX28_init 9 = .ok (.aload_n 0, 1) := dk_42 (dk_at dksX28_init_0 9 rfl rfl)
theorem dX28_init_10 : decode cX28_init 10 = .ok (.iload_n 2, 1) := dk_28 (dk_at dksX28_init_0 10 rfl rfl)
theorem dX28_init_11 : decode cX28_init 11 = .ok (.putfield 13, 3) := dk_181 0 13 (dk_at dksX28_init_0 11 rfl rfl)
theorem dX28_init_14 : decode cX28_init 14 = .ok (.aload_n 0, 1) := dk_42 (dk_at dksX28_init_0 14 rfl rfl)
theorem dX28_init_15 : decode cX28_init 15 = .ok (.iload_n 3, 1) := dk_29 (dk_at dksX28_init_0 15 rfl rfl)
theorem dX28_init_16 : decode cX28_init 16 = .ok (.putfield 17, 3) := dk_181 0 17 (dk_at dksX28_init_0 16 rfl rfl)
theorem dX28_init_19 : decode cX28_init 19 = .ok (.return_, 1) := dk_177 (dk_at dksX28_init_0 19 rfl rfl)
abbrev cX28_its : ByteArray := prog_2_method_2_code
def yX28_its : MethodName := ⟨RX28, "its", "()I"⟩
theorem dX28_its_0 : decode cX28_its 0 = .ok (.aload_n 0, 1) := by decide +kernel
theorem dX28_its_1 : decode cX28_its 1 = .ok (.getfield 13, 3) := by decide +kernel
theorem dX28_its_4 : decode cX28_its 4 = .ok (.ireturn, 1) := by decide +kernel
abbrev cX28_spends : ByteArray := prog_2_method_3_code
def yX28_spends : MethodName := ⟨RX28, "spends", "(I)I"⟩
def dkwX28_spends_0 : List UInt8 := [42, 180, 0, 1, 16, 10, 182, 0, 20, 27, 42, 180, 0, 13, 96, 172]
abbrev dktX28_spends_0 : List UInt8 := dkwX28_spends_0 ++ []
theorem dksX28_spends_0 : cX28_spends.data.toList.drop 0 = dktX28_spends_0 := by decide +kernel
theorem dX28_spends_0 : decode cX28_spends 0 = .ok (.aload_n 0, 1) := dk_42 (dk_at dksX28_spends_0 0 rfl rfl)
theorem dX28_spends_1 : decode cX28_spends 1 = .ok (.getfield 1, 3) := dk_180 0 1 (dk_at dksX28_spends_0 1 rfl rfl)
theorem dX28_spends_4 : decode cX28_spends 4 = .ok (.bipush 10, 2) := dk_16 10 (dk_at dksX28_spends_0 4 rfl rfl)
theorem dX28_spends_6 : decode cX28_spends 6 = .ok (.invokevirtual 20, 3) := dk_182 0 20 (dk_at dksX28_spends_0 6 rfl rfl)
theorem dX28_spends_9 : decode cX28_spends 9 = .ok (.iload_n 1, 1) := dk_27 (dk_at dksX28_spends_0 9 rfl rfl)
theorem dX28_spends_10 : decode cX28_spends 10 = .ok (.aload_n 0, 1) := dk_42 (dk_at dksX28_spends_0 10 rfl rfl)
theorem dX28_spends_11 : decode cX28_spends 11 = .ok (.getfield 13, 3) := dk_180 0 13 (dk_at dksX28_spends_0 11 rfl rfl)
theorem dX28_spends_14 : decode cX28_spends 14 = .ok (.iadd, 1) := dk_96 (dk_at dksX28_spends_0 14 rfl rfl)
theorem dX28_spends_15 : decode cX28_spends 15 = .ok (.ireturn, 1) := dk_172 (dk_at dksX28_spends_0 15 rfl rfl)
abbrev cX28_parches : ByteArray := prog_2_method_4_code
def yX28_parches : MethodName := ⟨RX28, "parches", "(I)I"⟩
def dkwX28_parches_0 : List UInt8 := [42, 180, 0, 1, 16, 11, 182, 0, 20, 42, 27, 183, 0, 26, 172]
abbrev dktX28_parches_0 : List UInt8 := dkwX28_parches_0 ++ []
theorem dksX28_parches_0 : cX28_parches.data.toList.drop 0 = dktX28_parches_0 := by decide +kernel
theorem dX28_parches_0 : decode cX28_parches 0 = .ok (.aload_n 0, 1) := dk_42 (dk_at dksX28_parches_0 0 rfl rfl)
theorem dX28_parches_1 : decode cX28_parches 1 = .ok (.getfield 1, 3) := dk_180 0 1 (dk_at dksX28_parches_0 1 rfl rfl)
theorem dX28_parches_4 : decode cX28_parches 4 = .ok (.bipush 11, 2) := dk_16 11 (dk_at dksX28_parches_0 4 rfl rfl)
theorem dX28_parches_6 : decode cX28_parches 6 = .ok (.invokevirtual 20, 3) := dk_182 0 20 (dk_at dksX28_parches_0 6 rfl rfl)
theorem dX28_parches_9 : decode cX28_parches 9 = .ok (.aload_n 0, 1) := dk_42 (dk_at dksX28_parches_0 9 rfl rfl)
theorem dX28_parches_10 : decode cX28_parches 10 = .ok (.iload_n 1, 1) := dk_27 (dk_at dksX28_parches_0 10 rfl rfl)
theorem dX28_parches_11 : decode cX28_parches 11 = .ok (.invokespecial 26, 3) := dk_183 0 26 (dk_at dksX28_parches_0 11 rfl rfl)
theorem dX28_parches_14 : decode cX28_parches 14 = .ok (.ireturn, 1) := dk_172 (dk_at dksX28_parches_0 14 rfl rfl)
abbrev cX28_shares : ByteArray := prog_2_method_5_code
def yX28_shares : MethodName := ⟨RX28, "shares", "(I)I"⟩
def dkwX28_shares_0 : List UInt8 := [42, 180, 0, 1, 16, 12, 182, 0, 20, 27, 42, 180, 0, 17, 42, 180, 0, 13, 100, 108, 172]
abbrev dktX28_shares_0 : List UInt8 := dkwX28_shares_0 ++ []
theorem dksX28_shares_0 : cX28_shares.data.toList.drop 0 = dktX28_shares_0 := by decide +kernel
theorem dX28_shares_0 : decode cX28_shares 0 = .ok (.aload_n 0, 1) := dk_42 (dk_at dksX28_shares_0 0 rfl rfl)
theorem dX28_shares_1 : decode cX28_shares 1 = .ok (.getfield 1, 3) := dk_180 0 1 (dk_at dksX28_shares_0 1 rfl rfl)
theorem dX28_shares_4 : decode cX28_shares 4 = .ok (.bipush 12, 2) := dk_16 12 (dk_at dksX28_shares_0 4 rfl rfl)
theorem dX28_shares_6 : decode cX28_shares 6 = .ok (.invokevirtual 20, 3) := dk_182 0 20 (dk_at dksX28_shares_0 6 rfl rfl)
theorem dX28_shares_9 : decode cX28_shares 9 = .ok (.iload_n 1, 1) := dk_27 (dk_at dksX28_shares_0 9 rfl rfl)
theorem dX28_shares_10 : decode cX28_shares 10 = .ok (.aload_n 0, 1) := dk_42 (dk_at dksX28_shares_0 10 rfl rfl)
theorem dX28_shares_11 : decode cX28_shares 11 = .ok (.getfield 17, 3) := dk_180 0 17 (dk_at dksX28_shares_0 11 rfl rfl)
theorem dX28_shares_14 : decode cX28_shares 14 = .ok (.aload_n 0, 1) := dk_42 (dk_at dksX28_shares_0 14 rfl rfl)
theorem dX28_shares_15 : decode cX28_shares 15 = .ok (.getfield 13, 3) := dk_180 0 13 (dk_at dksX28_shares_0 15 rfl rfl)
theorem dX28_shares_18 : decode cX28_shares 18 = .ok (.isub, 1) := dk_100 (dk_at dksX28_shares_0 18 rfl rfl)
theorem dX28_shares_19 : decode cX28_shares 19 = .ok (.idiv, 1) := dk_108 (dk_at dksX28_shares_0 19 rfl rfl)
theorem dX28_shares_20 : decode cX28_shares 20 = .ok (.ireturn, 1) := dk_172 (dk_at dksX28_shares_0 20 rfl rfl)
abbrev cX28_tells : ByteArray := prog_2_method_6_code
def yX28_tells : MethodName := ⟨RX28, "tells", "(I)I"⟩
def dkwX28_tells_0 : List UInt8 := [42, 180, 0, 1, 16, 13, 182, 0, 20, 42, 27, 182, 0, 32, 42, 180, 0, 17, 130, 172]
abbrev dktX28_tells_0 : List UInt8 := dkwX28_tells_0 ++ []
theorem dksX28_tells_0 : cX28_tells.data.toList.drop 0 = dktX28_tells_0 := by decide +kernel
theorem dX28_tells_0 : decode cX28_tells 0 = .ok (.aload_n 0, 1) := dk_42 (dk_at dksX28_tells_0 0 rfl rfl)
theorem dX28_tells_1 : decode cX28_tells 1 = .ok (.getfield 1, 3) := dk_180 0 1 (dk_at dksX28_tells_0 1 rfl rfl)
theorem dX28_tells_4 : decode cX28_tells 4 = .ok (.bipush 13, 2) := dk_16 13 (dk_at dksX28_tells_0 4 rfl rfl)
theorem dX28_tells_6 : decode cX28_tells 6 = .ok (.invokevirtual 20, 3) := dk_182 0 20 (dk_at dksX28_tells_0 6 rfl rfl)
theorem dX28_tells_9 : decode cX28_tells 9 = .ok (.aload_n 0, 1) := dk_42 (dk_at dksX28_tells_0 9 rfl rfl)
theorem dX28_tells_10 : decode cX28_tells 10 = .ok (.iload_n 1, 1) := dk_27 (dk_at dksX28_tells_0 10 rfl rfl)
theorem dX28_tells_11 : decode cX28_tells 11 = .ok (.invokevirtual 32, 3) := dk_182 0 32 (dk_at dksX28_tells_0 11 rfl rfl)
theorem dX28_tells_14 : decode cX28_tells 14 = .ok (.aload_n 0, 1) := dk_42 (dk_at dksX28_tells_0 14 rfl rfl)
theorem dX28_tells_15 : decode cX28_tells 15 = .ok (.getfield 17, 3) := dk_180 0 17 (dk_at dksX28_tells_0 15 rfl rfl)
theorem dX28_tells_18 : decode cX28_tells 18 = .ok (.ixor, 1) := dk_130 (dk_at dksX28_tells_0 18 rfl rfl)
theorem dX28_tells_19 : decode cX28_tells 19 = .ok (.ireturn, 1) := dk_172 (dk_at dksX28_tells_0 19 rfl rfl)
theorem q122 : (Jvm.Cond.initialized "ColdBox$AnyWeek") ∈ lw_all := lw_g (lw_at lw_m1 40 rfl) rfl
theorem q1319 : (Jvm.Cond.instanceMethod ({ cls := "ColdBox$AnyWeek", name := "<init>", desc := "(LColdBox;II)V" } : Jvm.MethodName)) ∈ lw_all := lw_g (lw_at lw_m6 37 rfl) rfl
theorem q1320 : (Jvm.Cond.code ({ cls := "ColdBox$AnyWeek", name := "<init>", desc := "(LColdBox;II)V" } : Jvm.MethodName) prog_2_method_1_code (4 : Nat) (Option.none : Option Jvm.ClassFile.FieldType)) ∈ lw_all := lw_g (lw_at lw_m6 38 rfl) rfl
theorem q1321 : (Jvm.Cond.methodLink "ColdBox$AnyWeek" (7 : Nat) ({ cls := "java/lang/Object", name := "<init>", desc := "()V" } : Jvm.MethodName)) ∈ lw_all := lw_g (lw_at lw_m6 39 rfl) rfl
theorem q1324 : (Jvm.Cond.fieldLink "ColdBox$AnyWeek" (13 : Nat) "ColdBox$AnyWeek" "number" "I") ∈ lw_all := lw_g (lw_at lw_m6 42 rfl) rfl
theorem q1331 : (Jvm.Cond.fieldLink "ColdBox$AnyWeek" (17 : Nat) "ColdBox$AnyWeek" "about" "I") ∈ lw_all := lw_g (lw_at lw_m6 49 rfl) rfl
theorem q1336 : (Jvm.Cond.fieldLink "ColdBox$AnyWeek" (1 : Nat) "ColdBox$AnyWeek" "this$0" "LColdBox;") ∈ lw_all := lw_g (lw_at lw_m6 54 rfl) rfl
theorem q1342 : (Jvm.Cond.soleField "ColdBox$AnyWeek" "number") ∈ lw_all := lw_g (lw_at lw_m6 60 rfl) rfl
theorem q1344 : (Jvm.Cond.soleField "ColdBox$AnyWeek" "about") ∈ lw_all := lw_g (lw_at lw_m6 62 rfl) rfl
theorem q1346 : (Jvm.Cond.soleField "ColdBox$AnyWeek" "this$0") ∈ lw_all := lw_g (lw_at lw_m6 64 rfl) rfl
theorem q1412 : (Jvm.Cond.instantiable "ColdBox$AnyWeek" (3 : Nat)) ∈ lw_all := lw_g (lw_at lw_m6 130 rfl) rfl
theorem q1414 : (Jvm.Cond.laysFinal "ColdBox$AnyWeek" "ColdBox$AnyWeek" "number" "I") ∈ lw_all := lw_g (lw_at lw_m6 132 rfl) rfl
theorem q1415 : (Jvm.Cond.laysFinal "ColdBox$AnyWeek" "ColdBox$AnyWeek" "about" "I") ∈ lw_all := lw_g (lw_at lw_m6 133 rfl) rfl
theorem q1416 : (Jvm.Cond.laysFinal "ColdBox$AnyWeek" "ColdBox$AnyWeek" "this$0" "LColdBox;") ∈ lw_all := lw_g (lw_at lw_m6 134 rfl) rfl
theorem q1417 : (Jvm.Cond.superclass "ColdBox$AnyWeek" "java/lang/Object") ∈ lw_all := lw_g (lw_at lw_m6 135 rfl) rfl
theorem q1423 : (Jvm.Cond.instanceMethod ({ cls := "ColdBox$AnyWeek", name := "its", desc := "()I" } : Jvm.MethodName)) ∈ lw_all := lw_g (lw_at lw_m6 141 rfl) rfl
theorem q1424 : (Jvm.Cond.selects "ColdBox$AnyWeek" ({ cls := "ColdBox$AnyWeek", name := "its", desc := "()I" } : Jvm.MethodName) ({ cls := "ColdBox$AnyWeek", name := "its", desc := "()I" } : Jvm.MethodName)) ∈ lw_all := lw_g (lw_at lw_m6 142 rfl) rfl
theorem q1425 : (Jvm.Cond.sameMethod "ColdBox$AnyWeek" "ColdBox$AnyWeek" "its" "()I") ∈ lw_all := lw_g (lw_at lw_m6 143 rfl) rfl
theorem q1431 : (Jvm.Cond.code ({ cls := "ColdBox$AnyWeek", name := "its", desc := "()I" } : Jvm.MethodName) prog_2_method_2_code (1 : Nat) (Option.some Jvm.ClassFile.FieldType.int)) ∈ lw_all := lw_g (lw_at lw_m6 149 rfl) rfl
theorem q1435 : (Jvm.Cond.declares ({ cls := "ColdBox$AnyWeek", name := "its", desc := "()I" } : Jvm.MethodName)) ∈ lw_tbl := lw_at lw_m6 153 rfl
theorem q1483 : (Jvm.Cond.castable "ColdBox$AnyWeek" "ColdBox$Tells") ∈ lw_tbl := lw_at lw_m6 201 rfl
theorem q1484 : (Jvm.Cond.selects "ColdBox$AnyWeek" ({ cls := "ColdBox$SpendsAct", name := "spends", desc := "(I)I" } : Jvm.MethodName) ({ cls := "ColdBox$AnyWeek", name := "spends", desc := "(I)I" } : Jvm.MethodName)) ∈ lw_all := lw_g (lw_at lw_m6 202 rfl) rfl
theorem q1485 : (Jvm.Cond.unhidden "ColdBox$AnyWeek" "spends" "(I)I") ∈ lw_tbl := lw_at lw_m6 203 rfl
theorem q1486 : (Jvm.Cond.instanceMethod ({ cls := "ColdBox$AnyWeek", name := "spends", desc := "(I)I" } : Jvm.MethodName)) ∈ lw_all := lw_g (lw_at lw_m6 204 rfl) rfl
theorem q1487 : (Jvm.Cond.publicMethod ({ cls := "ColdBox$AnyWeek", name := "spends", desc := "(I)I" } : Jvm.MethodName)) ∈ lw_tbl := lw_at lw_m6 205 rfl
theorem q1488 : (Jvm.Cond.code ({ cls := "ColdBox$AnyWeek", name := "spends", desc := "(I)I" } : Jvm.MethodName) prog_2_method_3_code (2 : Nat) (Option.some Jvm.ClassFile.FieldType.int)) ∈ lw_all := lw_g (lw_at lw_m6 206 rfl) rfl
theorem q1489 : (Jvm.Cond.methodLinkNest "ColdBox$AnyWeek" (20 : Nat) ({ cls := "ColdBox", name := "ran", desc := "(I)V" } : Jvm.MethodName) "ColdBox") ∈ lw_tbl := lw_at lw_m6 207 rfl
theorem q1520 : (Jvm.Cond.declares ({ cls := "ColdBox$AnyWeek", name := "spends", desc := "(I)I" } : Jvm.MethodName)) ∈ lw_tbl := lw_at lw_m6 238 rfl
theorem q1528 : (Jvm.Cond.selects "ColdBox$AnyWeek" ({ cls := "ColdBox$SpendsAct", name := "parches", desc := "(I)I" } : Jvm.MethodName) ({ cls := "ColdBox$AnyWeek", name := "parches", desc := "(I)I" } : Jvm.MethodName)) ∈ lw_all := lw_g (lw_at lw_m7 6 rfl) rfl
theorem q1529 : (Jvm.Cond.unhidden "ColdBox$AnyWeek" "parches" "(I)I") ∈ lw_tbl := lw_at lw_m7 7 rfl
theorem q1530 : (Jvm.Cond.instanceMethod ({ cls := "ColdBox$AnyWeek", name := "parches", desc := "(I)I" } : Jvm.MethodName)) ∈ lw_all := lw_g (lw_at lw_m7 8 rfl) rfl
theorem q1531 : (Jvm.Cond.publicMethod ({ cls := "ColdBox$AnyWeek", name := "parches", desc := "(I)I" } : Jvm.MethodName)) ∈ lw_tbl := lw_at lw_m7 9 rfl
theorem q1532 : (Jvm.Cond.code ({ cls := "ColdBox$AnyWeek", name := "parches", desc := "(I)I" } : Jvm.MethodName) prog_2_method_4_code (2 : Nat) (Option.some Jvm.ClassFile.FieldType.int)) ∈ lw_all := lw_g (lw_at lw_m7 10 rfl) rfl
theorem q1538 : (Jvm.Cond.castable "ColdBox$AnyWeek" "ColdBox$SpendsAct") ∈ lw_tbl := lw_at lw_m7 16 rfl
theorem q1551 : (Jvm.Cond.declares ({ cls := "ColdBox$AnyWeek", name := "parches", desc := "(I)I" } : Jvm.MethodName)) ∈ lw_tbl := lw_at lw_m7 29 rfl
theorem q1569 : (Jvm.Cond.selects "ColdBox$AnyWeek" ({ cls := "ColdBox$SharesAct", name := "shares", desc := "(I)I" } : Jvm.MethodName) ({ cls := "ColdBox$AnyWeek", name := "shares", desc := "(I)I" } : Jvm.MethodName)) ∈ lw_all := lw_g (lw_at lw_m7 47 rfl) rfl
theorem q1570 : (Jvm.Cond.unhidden "ColdBox$AnyWeek" "shares" "(I)I") ∈ lw_tbl := lw_at lw_m7 48 rfl
theorem q1571 : (Jvm.Cond.instanceMethod ({ cls := "ColdBox$AnyWeek", name := "shares", desc := "(I)I" } : Jvm.MethodName)) ∈ lw_all := lw_g (lw_at lw_m7 49 rfl) rfl
theorem q1572 : (Jvm.Cond.publicMethod ({ cls := "ColdBox$AnyWeek", name := "shares", desc := "(I)I" } : Jvm.MethodName)) ∈ lw_tbl := lw_at lw_m7 50 rfl
theorem q1573 : (Jvm.Cond.code ({ cls := "ColdBox$AnyWeek", name := "shares", desc := "(I)I" } : Jvm.MethodName) prog_2_method_5_code (2 : Nat) (Option.some Jvm.ClassFile.FieldType.int)) ∈ lw_all := lw_g (lw_at lw_m7 51 rfl) rfl
theorem q1595 : (Jvm.Cond.declares ({ cls := "ColdBox$AnyWeek", name := "shares", desc := "(I)I" } : Jvm.MethodName)) ∈ lw_tbl := lw_at lw_m7 73 rfl
theorem q1602 : (Jvm.Cond.selects "ColdBox$AnyWeek" ({ cls := "ColdBox$Tells", name := "tells", desc := "(I)I" } : Jvm.MethodName) ({ cls := "ColdBox$AnyWeek", name := "tells", desc := "(I)I" } : Jvm.MethodName)) ∈ lw_all := lw_g (lw_at lw_m7 80 rfl) rfl
theorem q1603 : (Jvm.Cond.unhidden "ColdBox$AnyWeek" "tells" "(I)I") ∈ lw_tbl := lw_at lw_m7 81 rfl
theorem q1604 : (Jvm.Cond.instanceMethod ({ cls := "ColdBox$AnyWeek", name := "tells", desc := "(I)I" } : Jvm.MethodName)) ∈ lw_all := lw_g (lw_at lw_m7 82 rfl) rfl
theorem q1605 : (Jvm.Cond.publicMethod ({ cls := "ColdBox$AnyWeek", name := "tells", desc := "(I)I" } : Jvm.MethodName)) ∈ lw_tbl := lw_at lw_m7 83 rfl
theorem q1606 : (Jvm.Cond.code ({ cls := "ColdBox$AnyWeek", name := "tells", desc := "(I)I" } : Jvm.MethodName) prog_2_method_6_code (2 : Nat) (Option.some Jvm.ClassFile.FieldType.int)) ∈ lw_all := lw_g (lw_at lw_m7 84 rfl) rfl
theorem q1607 : (Jvm.Cond.methodLink "ColdBox$AnyWeek" (32 : Nat) ({ cls := "ColdBox$AnyWeek", name := "parches", desc := "(I)I" } : Jvm.MethodName)) ∈ lw_all := lw_g (lw_at lw_m7 85 rfl) rfl
theorem q2229 : (Jvm.Cond.sameMethod "ColdBox$AnyWeek" "ColdBox$AnyWeek" "spends" "(I)I") ∈ lw_all := lw_g (lw_at lw_m9 227 rfl) rfl
theorem q2231 : (Jvm.Cond.sameMethod "ColdBox$AnyWeek" "ColdBox$AnyWeek" "parches" "(I)I") ∈ lw_all := lw_g (lw_at lw_m9 229 rfl) rfl
theorem q2232 : (Jvm.Cond.sameMethod "ColdBox$AnyWeek" "ColdBox$AnyWeek" "shares" "(I)I") ∈ lw_all := lw_g (lw_at lw_m9 230 rfl) rfl
theorem q2233 : (Jvm.Cond.selects "ColdBox$AnyWeek" ({ cls := "ColdBox$AnyWeek", name := "parches", desc := "(I)I" } : Jvm.MethodName) ({ cls := "ColdBox$AnyWeek", name := "parches", desc := "(I)I" } : Jvm.MethodName)) ∈ lw_all := lw_g (lw_at lw_m9 231 rfl) rfl
theorem q2239 : (Jvm.Cond.sameMethod "ColdBox$AnyWeek" "ColdBox$AnyWeek" "tells" "(I)I") ∈ lw_all := lw_g (lw_at lw_m9 237 rfl) rfl
theorem in_X28 : ∀ w ∈ wsX280, w ∈ lw_all := lw_in wsX280 [1414, 1415, 1416] (by decide +kernel) (by decide +kernel)

/-! ColdBox$MildWeek -/
set_option maxRecDepth 100000
def RX29 : String := "ColdBox$MildWeek"
def TX29 : u_T := fun k => match k with
  | 0 => ("ColdBox$AnyWeek", "number", "I", true)
  | 1 => ("ColdBox$AnyWeek", "about", "I", true)
  | 2 => ("ColdBox$AnyWeek", "this$0", "LColdBox;", true)
  | _ => ("ColdBox$MildWeek", "this$0", "LColdBox;", true)
def tyX29 : Nat → FieldType := fun k => match k with
  | 0 => .int
  | 1 => .int
  | 2 => .object "ColdBox"
  | _ => .object "ColdBox"
abbrev wsX290 : List Cond := u_ws RX29 TX29 4
-- two fields of one name: no nmX29
theorem tyX29_ok : ∀ k, k < 4 → parseFieldDescriptor (TX29 k).2.2.1 = some (tyX29 k) := by decide +kernel
abbrev cX29_init : ByteArray := prog_20_method_1_code
def yX29_init : MethodName := ⟨RX29, "<init>", "(LColdBox;II)V"⟩
def dkwX29_init_0 : List UInt8 := [42, 43, 181, 0, 1, 42, 43, 28, 29, 183, 0, 7, 177]
abbrev dktX29_init_0 : List UInt8 := dkwX29_init_0 ++ []
theorem dksX29_init_0 : cX29_init.data.toList.drop 0 = dktX29_init_0 := by decide +kernel
theorem dX29_init_0 : decode cX29_init 0 = .ok (.aload_n 0, 1) := dk_42 (dk_at dksX29_init_0 0 rfl rfl)
theorem dX29_init_1 : decode cX29_init 1 = .ok (.aload_n 1, 1) := dk_43 (dk_at dksX29_init_0 1 rfl rfl)
theorem dX29_init_2 : decode cX29_init 2 = .ok (.putfield 1, 3) := dk_181 0 1 (dk_at dksX29_init_0 2 rfl rfl)
theorem dX29_init_5 : decode cX29_init 5 = .ok (.aload_n 0, 1) := dk_42 (dk_at dksX29_init_0 5 rfl rfl)
theorem dX29_init_6 : decode cX29_init 6 = .ok (.aload_n 1, 1) := dk_43 (dk_at dksX29_init_0 6 rfl rfl)
theorem dX29_init_7 : decode cX29_init 7 = .ok (.iload_n 2, 1) := dk_28 (dk_at dksX29_init_0 7 rfl rfl)
theorem dX29_init_8 : decode cX29_init 8 = .ok (.iload_n 3, 1) := dk_29 (dk_at dksX29_init_0 8 rfl rfl)
theorem dX29_init_9 : decode cX29_init 9 = .ok (.invokespecial 7, 3) := dk_183 0 7 (dk_at dksX29_init_0 9 rfl rfl)
theorem dX29_init_12 : decode cX29_init 12 = .ok (.return_, 1) := dk_177 (dk_at dksX29_init_0 12 rfl rfl)
abbrev cX29_spends : ByteArray := prog_20_method_2_code
def yX29_spends : MethodName := ⟨RX29, "spends", "(I)I"⟩
def dkwX29_spends_0 : List UInt8 := [42, 180, 0, 1, 16, 30, 182, 0, 13, 42, 27, 183, 0, 19, 6, 104, 172]
abbrev dktX29_spends_0 : List UInt8 := dkwX29_spends_0 ++ []
theorem dksX29_spends_0 : cX29_spends.data.toList.drop 0 = dktX29_spends_0 := by decide +kernel
theorem dX29_spends_0 : decode cX29_spends 0 = .ok (.aload_n 0, 1) := dk_42 (dk_at dksX29_spends_0 0 rfl rfl)
theorem dX29_spends_1 : decode cX29_spends 1 = .ok (.getfield 1, 3) := dk_180 0 1 (dk_at dksX29_spends_0 1 rfl rfl)
theorem dX29_spends_4 : decode cX29_spends 4 = .ok (.bipush 30, 2) := dk_16 30 (dk_at dksX29_spends_0 4 rfl rfl)
theorem dX29_spends_6 : decode cX29_spends 6 = .ok (.invokevirtual 13, 3) := dk_182 0 13 (dk_at dksX29_spends_0 6 rfl rfl)
theorem dX29_spends_9 : decode cX29_spends 9 = .ok (.aload_n 0, 1) := dk_42 (dk_at dksX29_spends_0 9 rfl rfl)
theorem dX29_spends_10 : decode cX29_spends 10 = .ok (.iload_n 1, 1) := dk_27 (dk_at dksX29_spends_0 10 rfl rfl)
theorem dX29_spends_11 : decode cX29_spends 11 = .ok (.invokespecial 19, 3) := dk_183 0 19 (dk_at dksX29_spends_0 11 rfl rfl)
theorem dX29_spends_14 : decode cX29_spends 14 = .ok (.iconst 3, 1) := dk_6 (dk_at dksX29_spends_0 14 rfl rfl)
theorem dX29_spends_15 : decode cX29_spends 15 = .ok (.imul, 1) := dk_104 (dk_at dksX29_spends_0 15 rfl rfl)
theorem dX29_spends_16 : decode cX29_spends 16 = .ok (.ireturn, 1) := dk_172 (dk_at dksX29_spends_0 16 rfl rfl)
abbrev cX29_tells : ByteArray := prog_20_method_3_code
def yX29_tells : MethodName := ⟨RX29, "tells", "(I)I"⟩
def dkwX29_tells_1 : List UInt8 := [96, 172]
abbrev dktX29_tells_1 : List UInt8 := dkwX29_tells_1 ++ []
def dkwX29_tells_0 : List UInt8 := [42, 180, 0, 1, 16, 31, 182, 0, 13, 42, 27, 183, 0, 23, 61, 28, 42, 42, 180, 0, 26, 182, 0, 30]
abbrev dktX29_tells_0 : List UInt8 := dkwX29_tells_0 ++ dktX29_tells_1
theorem dksX29_tells_0 : cX29_tells.data.toList.drop 0 = dktX29_tells_0 := by decide +kernel
theorem dksX29_tells_1 : cX29_tells.data.toList.drop 24 = dktX29_tells_1 := dk_seg dksX29_tells_0 24 rfl rfl
theorem dX29_tells_0 : decode cX29_tells 0 = .ok (.aload_n 0, 1) := dk_42 (dk_at dksX29_tells_0 0 rfl rfl)
theorem dX29_tells_1 : decode cX29_tells 1 = .ok (.getfield 1, 3) := dk_180 0 1 (dk_at dksX29_tells_0 1 rfl rfl)
theorem dX29_tells_4 : decode cX29_tells 4 = .ok (.bipush 31, 2) := dk_16 31 (dk_at dksX29_tells_0 4 rfl rfl)
theorem dX29_tells_6 : decode cX29_tells 6 = .ok (.invokevirtual 13, 3) := dk_182 0 13 (dk_at dksX29_tells_0 6 rfl rfl)
theorem dX29_tells_9 : decode cX29_tells 9 = .ok (.aload_n 0, 1) := dk_42 (dk_at dksX29_tells_0 9 rfl rfl)
theorem dX29_tells_10 : decode cX29_tells 10 = .ok (.iload_n 1, 1) := dk_27 (dk_at dksX29_tells_0 10 rfl rfl)
theorem dX29_tells_11 : decode cX29_tells 11 = .ok (.invokespecial 23, 3) := dk_183 0 23 (dk_at dksX29_tells_0 11 rfl rfl)
theorem dX29_tells_14 : decode cX29_tells 14 = .ok (.istore_n 2, 1) := dk_61 (dk_at dksX29_tells_0 14 rfl rfl)
theorem dX29_tells_15 : decode cX29_tells 15 = .ok (.iload_n 2, 1) := dk_28 (dk_at dksX29_tells_0 15 rfl rfl)
theorem dX29_tells_16 : decode cX29_tells 16 = .ok (.aload_n 0, 1) := dk_42 (dk_at dksX29_tells_0 16 rfl rfl)
theorem dX29_tells_17 : decode cX29_tells 17 = .ok (.aload_n 0, 1) := dk_42 (dk_at dksX29_tells_0 17 rfl rfl)
theorem dX29_tells_18 : decode cX29_tells 18 = .ok (.getfield 26, 3) := dk_180 0 26 (dk_at dksX29_tells_0 18 rfl rfl)
theorem dX29_tells_21 : decode cX29_tells 21 = .ok (.invokevirtual 30, 3) := dk_182 0 30 (dk_at dksX29_tells_0 21 rfl rfl)
theorem dX29_tells_24 : decode cX29_tells 24 = .ok (.iadd, 1) := dk_96 (dk_at dksX29_tells_1 0 rfl rfl)
theorem dX29_tells_25 : decode cX29_tells 25 = .ok (.ireturn, 1) := dk_172 (dk_at dksX29_tells_1 1 rfl rfl)
theorem q123 : (Jvm.Cond.initialized "ColdBox$MildWeek") ∈ lw_all := lw_g (lw_at lw_m1 41 rfl) rfl
theorem q1316 : (Jvm.Cond.instanceMethod ({ cls := "ColdBox$MildWeek", name := "<init>", desc := "(LColdBox;II)V" } : Jvm.MethodName)) ∈ lw_all := lw_g (lw_at lw_m6 34 rfl) rfl
theorem q1317 : (Jvm.Cond.code ({ cls := "ColdBox$MildWeek", name := "<init>", desc := "(LColdBox;II)V" } : Jvm.MethodName) prog_20_method_1_code (4 : Nat) (Option.none : Option Jvm.ClassFile.FieldType)) ∈ lw_all := lw_g (lw_at lw_m6 35 rfl) rfl
theorem q1318 : (Jvm.Cond.methodLink "ColdBox$MildWeek" (7 : Nat) ({ cls := "ColdBox$AnyWeek", name := "<init>", desc := "(LColdBox;II)V" } : Jvm.MethodName)) ∈ lw_all := lw_g (lw_at lw_m6 36 rfl) rfl
theorem q1323 : (Jvm.Cond.fieldLink "ColdBox$MildWeek" (1 : Nat) "ColdBox$MildWeek" "this$0" "LColdBox;") ∈ lw_all := lw_g (lw_at lw_m6 41 rfl) rfl
theorem q1329 : (Jvm.Cond.fieldLink "ColdBox$MildWeek" (26 : Nat) "ColdBox$MildWeek" "number" "I") ∈ lw_all := lw_g (lw_at lw_m6 47 rfl) rfl
theorem q1330 : (Jvm.Cond.sameField "ColdBox$MildWeek" "ColdBox$AnyWeek" "number" "I") ∈ lw_all := lw_g (lw_at lw_m6 48 rfl) rfl
theorem q1340 : (Jvm.Cond.soleField "ColdBox$MildWeek" "this$0") ∈ lw_all := lw_g (lw_at lw_m6 58 rfl) rfl
theorem q1401 : (Jvm.Cond.instantiable "ColdBox$MildWeek" (4 : Nat)) ∈ lw_all := lw_g (lw_at lw_m6 119 rfl) rfl
theorem q1403 : (Jvm.Cond.laysFinal "ColdBox$MildWeek" "ColdBox$MildWeek" "this$0" "LColdBox;") ∈ lw_all := lw_g (lw_at lw_m6 121 rfl) rfl
theorem q1404 : (Jvm.Cond.laysFinal "ColdBox$MildWeek" "ColdBox$AnyWeek" "number" "I") ∈ lw_all := lw_g (lw_at lw_m6 122 rfl) rfl
theorem q1405 : (Jvm.Cond.laysFinal "ColdBox$MildWeek" "ColdBox$AnyWeek" "about" "I") ∈ lw_all := lw_g (lw_at lw_m6 123 rfl) rfl
theorem q1406 : (Jvm.Cond.laysFinal "ColdBox$MildWeek" "ColdBox$AnyWeek" "this$0" "LColdBox;") ∈ lw_all := lw_g (lw_at lw_m6 124 rfl) rfl
theorem q1407 : (Jvm.Cond.superclass "ColdBox$MildWeek" "ColdBox$AnyWeek") ∈ lw_all := lw_g (lw_at lw_m6 125 rfl) rfl
theorem q1430 : (Jvm.Cond.selects "ColdBox$MildWeek" ({ cls := "ColdBox$AnyWeek", name := "its", desc := "()I" } : Jvm.MethodName) ({ cls := "ColdBox$AnyWeek", name := "its", desc := "()I" } : Jvm.MethodName)) ∈ lw_all := lw_g (lw_at lw_m6 148 rfl) rfl
theorem q1440 : (Jvm.Cond.sameMethod "ColdBox$MildWeek" "ColdBox$AnyWeek" "its" "()I") ∈ lw_all := lw_g (lw_at lw_m6 158 rfl) rfl
theorem q1442 : (Jvm.Cond.selects "ColdBox$MildWeek" ({ cls := "ColdBox$MildWeek", name := "its", desc := "()I" } : Jvm.MethodName) ({ cls := "ColdBox$AnyWeek", name := "its", desc := "()I" } : Jvm.MethodName)) ∈ lw_all := lw_g (lw_at lw_m6 160 rfl) rfl
theorem q1501 : (Jvm.Cond.instanceMethod ({ cls := "ColdBox$MildWeek", name := "spends", desc := "(I)I" } : Jvm.MethodName)) ∈ lw_all := lw_g (lw_at lw_m6 219 rfl) rfl
theorem q1502 : (Jvm.Cond.code ({ cls := "ColdBox$MildWeek", name := "spends", desc := "(I)I" } : Jvm.MethodName) prog_20_method_2_code (2 : Nat) (Option.some Jvm.ClassFile.FieldType.int)) ∈ lw_all := lw_g (lw_at lw_m6 220 rfl) rfl
theorem q1503 : (Jvm.Cond.methodLinkNest "ColdBox$MildWeek" (13 : Nat) ({ cls := "ColdBox", name := "ran", desc := "(I)V" } : Jvm.MethodName) "ColdBox") ∈ lw_tbl := lw_at lw_m6 221 rfl
theorem q1504 : (Jvm.Cond.methodLink "ColdBox$MildWeek" (19 : Nat) ({ cls := "ColdBox$AnyWeek", name := "spends", desc := "(I)I" } : Jvm.MethodName)) ∈ lw_all := lw_g (lw_at lw_m6 222 rfl) rfl
theorem q1521 : (Jvm.Cond.castable "ColdBox$MildWeek" "ColdBox$Tells") ∈ lw_tbl := lw_at lw_m6 239 rfl
theorem q1522 : (Jvm.Cond.selects "ColdBox$MildWeek" ({ cls := "ColdBox$SpendsAct", name := "spends", desc := "(I)I" } : Jvm.MethodName) ({ cls := "ColdBox$MildWeek", name := "spends", desc := "(I)I" } : Jvm.MethodName)) ∈ lw_all := lw_g (lw_at lw_m7 0 rfl) rfl
theorem q1523 : (Jvm.Cond.unhidden "ColdBox$MildWeek" "spends" "(I)I") ∈ lw_tbl := lw_at lw_m7 1 rfl
theorem q1524 : (Jvm.Cond.publicMethod ({ cls := "ColdBox$MildWeek", name := "spends", desc := "(I)I" } : Jvm.MethodName)) ∈ lw_tbl := lw_at lw_m7 2 rfl
theorem q1543 : (Jvm.Cond.castable "ColdBox$MildWeek" "ColdBox$SpendsAct") ∈ lw_tbl := lw_at lw_m7 21 rfl
theorem q1550 : (Jvm.Cond.sameMethod "ColdBox$MildWeek" "ColdBox$AnyWeek" "parches" "(I)I") ∈ lw_all := lw_g (lw_at lw_m7 28 rfl) rfl
theorem q1564 : (Jvm.Cond.selects "ColdBox$MildWeek" ({ cls := "ColdBox$SpendsAct", name := "parches", desc := "(I)I" } : Jvm.MethodName) ({ cls := "ColdBox$AnyWeek", name := "parches", desc := "(I)I" } : Jvm.MethodName)) ∈ lw_all := lw_g (lw_at lw_m7 42 rfl) rfl
theorem q1565 : (Jvm.Cond.unhidden "ColdBox$MildWeek" "parches" "(I)I") ∈ lw_tbl := lw_at lw_m7 43 rfl
theorem q1596 : (Jvm.Cond.selects "ColdBox$MildWeek" ({ cls := "ColdBox$SharesAct", name := "shares", desc := "(I)I" } : Jvm.MethodName) ({ cls := "ColdBox$AnyWeek", name := "shares", desc := "(I)I" } : Jvm.MethodName)) ∈ lw_all := lw_g (lw_at lw_m7 74 rfl) rfl
theorem q1597 : (Jvm.Cond.unhidden "ColdBox$MildWeek" "shares" "(I)I") ∈ lw_tbl := lw_at lw_m7 75 rfl
theorem q1610 : (Jvm.Cond.instanceMethod ({ cls := "ColdBox$MildWeek", name := "tells", desc := "(I)I" } : Jvm.MethodName)) ∈ lw_all := lw_g (lw_at lw_m7 88 rfl) rfl
theorem q1611 : (Jvm.Cond.publicMethod ({ cls := "ColdBox$MildWeek", name := "tells", desc := "(I)I" } : Jvm.MethodName)) ∈ lw_tbl := lw_at lw_m7 89 rfl
theorem q1612 : (Jvm.Cond.code ({ cls := "ColdBox$MildWeek", name := "tells", desc := "(I)I" } : Jvm.MethodName) prog_20_method_3_code (3 : Nat) (Option.some Jvm.ClassFile.FieldType.int)) ∈ lw_all := lw_g (lw_at lw_m7 90 rfl) rfl
theorem q1613 : (Jvm.Cond.methodLink "ColdBox$MildWeek" (23 : Nat) ({ cls := "ColdBox$AnyWeek", name := "tells", desc := "(I)I" } : Jvm.MethodName)) ∈ lw_all := lw_g (lw_at lw_m7 91 rfl) rfl
theorem q1614 : (Jvm.Cond.methodLink "ColdBox$MildWeek" (30 : Nat) ({ cls := "ColdBox$MildWeek", name := "shares", desc := "(I)I" } : Jvm.MethodName)) ∈ lw_all := lw_g (lw_at lw_m7 92 rfl) rfl
theorem q1615 : (Jvm.Cond.sameMethod "ColdBox$MildWeek" "ColdBox$AnyWeek" "shares" "(I)I") ∈ lw_all := lw_g (lw_at lw_m7 93 rfl) rfl
theorem q1617 : (Jvm.Cond.selects "ColdBox$MildWeek" ({ cls := "ColdBox$MildWeek", name := "shares", desc := "(I)I" } : Jvm.MethodName) ({ cls := "ColdBox$AnyWeek", name := "shares", desc := "(I)I" } : Jvm.MethodName)) ∈ lw_all := lw_g (lw_at lw_m7 95 rfl) rfl
theorem q1628 : (Jvm.Cond.selects "ColdBox$MildWeek" ({ cls := "ColdBox$Tells", name := "tells", desc := "(I)I" } : Jvm.MethodName) ({ cls := "ColdBox$MildWeek", name := "tells", desc := "(I)I" } : Jvm.MethodName)) ∈ lw_all := lw_g (lw_at lw_m7 106 rfl) rfl
theorem q1629 : (Jvm.Cond.unhidden "ColdBox$MildWeek" "tells" "(I)I") ∈ lw_tbl := lw_at lw_m7 107 rfl
theorem q2228 : (Jvm.Cond.sameMethod "ColdBox$MildWeek" "ColdBox$MildWeek" "spends" "(I)I") ∈ lw_all := lw_g (lw_at lw_m9 226 rfl) rfl
theorem q2238 : (Jvm.Cond.selects "ColdBox$MildWeek" ({ cls := "ColdBox$AnyWeek", name := "parches", desc := "(I)I" } : Jvm.MethodName) ({ cls := "ColdBox$AnyWeek", name := "parches", desc := "(I)I" } : Jvm.MethodName)) ∈ lw_all := lw_g (lw_at lw_m9 236 rfl) rfl
theorem q2244 : (Jvm.Cond.castable "ColdBox$MildWeek" "ColdBox$AnyWeek") ∈ lw_tbl := lw_at lw_m10 2 rfl
theorem in_X29 : ∀ w ∈ wsX290, w ∈ lw_all := lw_in wsX290 [1404, 1405, 1406, 1403] (by decide +kernel) (by decide +kernel)

/-! ColdBox$Nature -/
set_option maxRecDepth 100000
def RX3 : String := "ColdBox$Nature"
abbrev cX3_init : ByteArray := prog_21_method_1_code
def yX3_init : MethodName := ⟨RX3, "<init>", "(LColdBox;)V"⟩
def dkwX3_init_0 : List UInt8 := [42, 43, 181, 0, 1, 42, 183, 0, 7, 177]
abbrev dktX3_init_0 : List UInt8 := dkwX3_init_0 ++ []
theorem dksX3_init_0 : cX3_init.data.toList.drop 0 = dktX3_init_0 := by decide +kernel
theorem dX3_init_0 : decode cX3_init 0 = .ok (.aload_n 0, 1) := dk_42 (dk_at dksX3_init_0 0 rfl rfl)
theorem dX3_init_1 : decode cX3_init 1 = .ok (.aload_n 1, 1) := dk_43 (dk_at dksX3_init_0 1 rfl rfl)
theorem dX3_init_2 : decode cX3_init 2 = .ok (.putfield 1, 3) := dk_181 0 1 (dk_at dksX3_init_0 2 rfl rfl)
theorem dX3_init_5 : decode cX3_init 5 = .ok (.aload_n 0, 1) := dk_42 (dk_at dksX3_init_0 5 rfl rfl)
theorem dX3_init_6 : decode cX3_init 6 = .ok (.invokespecial 7, 3) := dk_183 0 7 (dk_at dksX3_init_0 6 rfl rfl)
theorem dX3_init_9 : decode cX3_init 9 = .ok (.return_, 1) := dk_177 (dk_at dksX3_init_0 9 rfl rfl)
abbrev cX3_harms : ByteArray := prog_21_method_4_code
def yX3_harms : MethodName := ⟨RX3, "harms", "()I"⟩
theorem dX3_harms_0 : decode cX3_harms 0 = .ok (.iconst 0, 1) := by decide +kernel
theorem dX3_harms_1 : decode cX3_harms 1 = .ok (.ireturn, 1) := by decide +kernel
theorem q86 : (Jvm.Cond.initialized "ColdBox$Nature") ∈ lw_all := lw_g (lw_at lw_m1 4 rfl) rfl
theorem q243 : (Jvm.Cond.instanceMethod ({ cls := "ColdBox$Nature", name := "<init>", desc := "(LColdBox;)V" } : Jvm.MethodName)) ∈ lw_all := lw_g (lw_at lw_m1 161 rfl) rfl
theorem q244 : (Jvm.Cond.code ({ cls := "ColdBox$Nature", name := "<init>", desc := "(LColdBox;)V" } : Jvm.MethodName) prog_21_method_1_code (2 : Nat) (Option.none : Option Jvm.ClassFile.FieldType)) ∈ lw_all := lw_g (lw_at lw_m1 162 rfl) rfl
theorem q245 : (Jvm.Cond.methodLink "ColdBox$Nature" (7 : Nat) ({ cls := "java/lang/Object", name := "<init>", desc := "()V" } : Jvm.MethodName)) ∈ lw_all := lw_g (lw_at lw_m1 163 rfl) rfl
theorem q247 : (Jvm.Cond.fieldLink "ColdBox$Nature" (1 : Nat) "ColdBox$Nature" "this$0" "LColdBox;") ∈ lw_all := lw_g (lw_at lw_m1 165 rfl) rfl
theorem q251 : (Jvm.Cond.soleField "ColdBox$Nature" "this$0") ∈ lw_all := lw_g (lw_at lw_m1 169 rfl) rfl
theorem q937 : (Jvm.Cond.declares ({ cls := "ColdBox$Nature", name := "uses", desc := "(LColdBox$Body;I)I" } : Jvm.MethodName)) ∈ lw_tbl := lw_at lw_m4 135 rfl
theorem q938 : (Jvm.Cond.sameMethod "ColdBox$Nature" "ColdBox$Nature" "uses" "(LColdBox$Body;I)I") ∈ lw_all := lw_g (lw_at lw_m4 136 rfl) rfl
theorem q963 : (Jvm.Cond.declares ({ cls := "ColdBox$Nature", name := "dries", desc := "(I)I" } : Jvm.MethodName)) ∈ lw_tbl := lw_at lw_m4 161 rfl
theorem q964 : (Jvm.Cond.sameMethod "ColdBox$Nature" "ColdBox$Nature" "dries" "(I)I") ∈ lw_all := lw_g (lw_at lw_m4 162 rfl) rfl
theorem q1000 : (Jvm.Cond.instanceMethod ({ cls := "ColdBox$Nature", name := "harms", desc := "()I" } : Jvm.MethodName)) ∈ lw_all := lw_g (lw_at lw_m4 198 rfl) rfl
theorem q1001 : (Jvm.Cond.sameMethod "ColdBox$Nature" "ColdBox$Nature" "harms" "()I") ∈ lw_all := lw_g (lw_at lw_m4 199 rfl) rfl
theorem q1010 : (Jvm.Cond.declares ({ cls := "ColdBox$Nature", name := "harms", desc := "()I" } : Jvm.MethodName)) ∈ lw_tbl := lw_at lw_m4 208 rfl
theorem q1011 : (Jvm.Cond.code ({ cls := "ColdBox$Nature", name := "harms", desc := "()I" } : Jvm.MethodName) prog_21_method_4_code (1 : Nat) (Option.some Jvm.ClassFile.FieldType.int)) ∈ lw_all := lw_g (lw_at lw_m4 209 rfl) rfl
theorem q1305 : (Jvm.Cond.declares ({ cls := "ColdBox$Nature", name := "thing", desc := "(II)LColdBox$Tells;" } : Jvm.MethodName)) ∈ lw_tbl := lw_at lw_m6 23 rfl
theorem q1306 : (Jvm.Cond.sameMethod "ColdBox$Nature" "ColdBox$Nature" "thing" "(II)LColdBox$Tells;") ∈ lw_all := lw_g (lw_at lw_m6 24 rfl) rfl

/-! ColdBox$AwakeWeek -/
set_option maxRecDepth 100000
def RX30 : String := "ColdBox$AwakeWeek"
def TX30 : u_T := fun k => match k with
  | 0 => ("ColdBox$AnyWeek", "number", "I", true)
  | 1 => ("ColdBox$AnyWeek", "about", "I", true)
  | 2 => ("ColdBox$AnyWeek", "this$0", "LColdBox;", true)
  | 3 => ("ColdBox$MildWeek", "this$0", "LColdBox;", true)
  | _ => ("ColdBox$AwakeWeek", "this$0", "LColdBox;", true)
def tyX30 : Nat → FieldType := fun k => match k with
  | 0 => .int
  | 1 => .int
  | 2 => .object "ColdBox"
  | 3 => .object "ColdBox"
  | _ => .object "ColdBox"
abbrev wsX300 : List Cond := u_ws RX30 TX30 5
-- two fields of one name: no nmX30
theorem tyX30_ok : ∀ k, k < 5 → parseFieldDescriptor (TX30 k).2.2.1 = some (tyX30 k) := by decide +kernel
abbrev cX30_init : ByteArray := prog_4_method_1_code
def yX30_init : MethodName := ⟨RX30, "<init>", "(LColdBox;II)V"⟩
def dkwX30_init_0 : List UInt8 := [42, 43, 181, 0, 1, 42, 43, 28, 29, 183, 0, 7, 177]
abbrev dktX30_init_0 : List UInt8 := dkwX30_init_0 ++ []
theorem dksX30_init_0 : cX30_init.data.toList.drop 0 = dktX30_init_0 := by decide +kernel
theorem dX30_init_0 : decode cX30_init 0 = .ok (.aload_n 0, 1) := dk_42 (dk_at dksX30_init_0 0 rfl rfl)
theorem dX30_init_1 : decode cX30_init 1 = .ok (.aload_n 1, 1) := dk_43 (dk_at dksX30_init_0 1 rfl rfl)
theorem dX30_init_2 : decode cX30_init 2 = .ok (.putfield 1, 3) := dk_181 0 1 (dk_at dksX30_init_0 2 rfl rfl)
theorem dX30_init_5 : decode cX30_init 5 = .ok (.aload_n 0, 1) := dk_42 (dk_at dksX30_init_0 5 rfl rfl)
theorem dX30_init_6 : decode cX30_init 6 = .ok (.aload_n 1, 1) := dk_43 (dk_at dksX30_init_0 6 rfl rfl)
theorem dX30_init_7 : decode cX30_init 7 = .ok (.iload_n 2, 1) := dk_28 (dk_at dksX30_init_0 7 rfl rfl)
theorem dX30_init_8 : decode cX30_init 8 = .ok (.iload_n 3, 1) := dk_29 (dk_at dksX30_init_0 8 rfl rfl)
theorem dX30_init_9 : decode cX30_init 9 = .ok (.invokespecial 7, 3) := dk_183 0 7 (dk_at dksX30_init_0 9 rfl rfl)
theorem dX30_init_12 : decode cX30_init 12 = .ok (.return_, 1) := dk_177 (dk_at dksX30_init_0 12 rfl rfl)
abbrev cX30_spends : ByteArray := prog_4_method_2_code
def yX30_spends : MethodName := ⟨RX30, "spends", "(I)I"⟩
def dkwX30_spends_0 : List UInt8 := [42, 180, 0, 1, 16, 40, 182, 0, 13, 3, 42, 27, 183, 0, 19, 100, 172]
abbrev dktX30_spends_0 : List UInt8 := dkwX30_spends_0 ++ []
theorem dksX30_spends_0 : cX30_spends.data.toList.drop 0 = dktX30_spends_0 := by decide +kernel
theorem dX30_spends_0 : decode cX30_spends 0 = .ok (.aload_n 0, 1) := dk_42 (dk_at dksX30_spends_0 0 rfl rfl)
theorem dX30_spends_1 : decode cX30_spends 1 = .ok (.getfield 1, 3) := dk_180 0 1 (dk_at dksX30_spends_0 1 rfl rfl)
theorem dX30_spends_4 : decode cX30_spends 4 = .ok (.bipush 40, 2) := dk_16 40 (dk_at dksX30_spends_0 4 rfl rfl)
theorem dX30_spends_6 : decode cX30_spends 6 = .ok (.invokevirtual 13, 3) := dk_182 0 13 (dk_at dksX30_spends_0 6 rfl rfl)
theorem dX30_spends_9 : decode cX30_spends 9 = .ok (.iconst 0, 1) := dk_3 (dk_at dksX30_spends_0 9 rfl rfl)
theorem dX30_spends_10 : decode cX30_spends 10 = .ok (.aload_n 0, 1) := dk_42 (dk_at dksX30_spends_0 10 rfl rfl)
theorem dX30_spends_11 : decode cX30_spends 11 = .ok (.iload_n 1, 1) := dk_27 (dk_at dksX30_spends_0 11 rfl rfl)
theorem dX30_spends_12 : decode cX30_spends 12 = .ok (.invokespecial 19, 3) := dk_183 0 19 (dk_at dksX30_spends_0 12 rfl rfl)
theorem dX30_spends_15 : decode cX30_spends 15 = .ok (.isub, 1) := dk_100 (dk_at dksX30_spends_0 15 rfl rfl)
theorem dX30_spends_16 : decode cX30_spends 16 = .ok (.ireturn, 1) := dk_172 (dk_at dksX30_spends_0 16 rfl rfl)
abbrev cX30_parches : ByteArray := prog_4_method_3_code
def yX30_parches : MethodName := ⟨RX30, "parches", "(I)I"⟩
def dkwX30_parches_1 : List UInt8 := [96, 172]
abbrev dktX30_parches_1 : List UInt8 := dkwX30_parches_1 ++ []
def dkwX30_parches_0 : List UInt8 := [42, 180, 0, 1, 16, 41, 182, 0, 13, 42, 27, 183, 0, 23, 61, 28, 42, 42, 180, 0, 26, 182, 0, 30]
abbrev dktX30_parches_0 : List UInt8 := dkwX30_parches_0 ++ dktX30_parches_1
theorem dksX30_parches_0 : cX30_parches.data.toList.drop 0 = dktX30_parches_0 := by decide +kernel
theorem dksX30_parches_1 : cX30_parches.data.toList.drop 24 = dktX30_parches_1 := dk_seg dksX30_parches_0 24 rfl rfl
theorem dX30_parches_0 : decode cX30_parches 0 = .ok (.aload_n 0, 1) := dk_42 (dk_at dksX30_parches_0 0 rfl rfl)
theorem dX30_parches_1 : decode cX30_parches 1 = .ok (.getfield 1, 3) := dk_180 0 1 (dk_at dksX30_parches_0 1 rfl rfl)
theorem dX30_parches_4 : decode cX30_parches 4 = .ok (.bipush 41, 2) := dk_16 41 (dk_at dksX30_parches_0 4 rfl rfl)
theorem dX30_parches_6 : decode cX30_parches 6 = .ok (.invokevirtual 13, 3) := dk_182 0 13 (dk_at dksX30_parches_0 6 rfl rfl)
theorem dX30_parches_9 : decode cX30_parches 9 = .ok (.aload_n 0, 1) := dk_42 (dk_at dksX30_parches_0 9 rfl rfl)
theorem dX30_parches_10 : decode cX30_parches 10 = .ok (.iload_n 1, 1) := dk_27 (dk_at dksX30_parches_0 10 rfl rfl)
theorem dX30_parches_11 : decode cX30_parches 11 = .ok (.invokespecial 23, 3) := dk_183 0 23 (dk_at dksX30_parches_0 11 rfl rfl)
theorem dX30_parches_14 : decode cX30_parches 14 = .ok (.istore_n 2, 1) := dk_61 (dk_at dksX30_parches_0 14 rfl rfl)
theorem dX30_parches_15 : decode cX30_parches 15 = .ok (.iload_n 2, 1) := dk_28 (dk_at dksX30_parches_0 15 rfl rfl)
theorem dX30_parches_16 : decode cX30_parches 16 = .ok (.aload_n 0, 1) := dk_42 (dk_at dksX30_parches_0 16 rfl rfl)
theorem dX30_parches_17 : decode cX30_parches 17 = .ok (.aload_n 0, 1) := dk_42 (dk_at dksX30_parches_0 17 rfl rfl)
theorem dX30_parches_18 : decode cX30_parches 18 = .ok (.getfield 26, 3) := dk_180 0 26 (dk_at dksX30_parches_0 18 rfl rfl)
theorem dX30_parches_21 : decode cX30_parches 21 = .ok (.invokevirtual 30, 3) := dk_182 0 30 (dk_at dksX30_parches_0 21 rfl rfl)
theorem dX30_parches_24 : decode cX30_parches 24 = .ok (.iadd, 1) := dk_96 (dk_at dksX30_parches_1 0 rfl rfl)
theorem dX30_parches_25 : decode cX30_parches 25 = .ok (.ireturn, 1) := dk_172 (dk_at dksX30_parches_1 1 rfl rfl)
theorem q124 : (Jvm.Cond.initialized "ColdBox$AwakeWeek") ∈ lw_all := lw_g (lw_at lw_m1 42 rfl) rfl
theorem q1311 : (Jvm.Cond.instantiable "ColdBox$AwakeWeek" (5 : Nat)) ∈ lw_all := lw_g (lw_at lw_m6 29 rfl) rfl
theorem q1313 : (Jvm.Cond.instanceMethod ({ cls := "ColdBox$AwakeWeek", name := "<init>", desc := "(LColdBox;II)V" } : Jvm.MethodName)) ∈ lw_all := lw_g (lw_at lw_m6 31 rfl) rfl
theorem q1314 : (Jvm.Cond.code ({ cls := "ColdBox$AwakeWeek", name := "<init>", desc := "(LColdBox;II)V" } : Jvm.MethodName) prog_4_method_1_code (4 : Nat) (Option.none : Option Jvm.ClassFile.FieldType)) ∈ lw_all := lw_g (lw_at lw_m6 32 rfl) rfl
theorem q1315 : (Jvm.Cond.methodLink "ColdBox$AwakeWeek" (7 : Nat) ({ cls := "ColdBox$MildWeek", name := "<init>", desc := "(LColdBox;II)V" } : Jvm.MethodName)) ∈ lw_all := lw_g (lw_at lw_m6 33 rfl) rfl
theorem q1322 : (Jvm.Cond.fieldLink "ColdBox$AwakeWeek" (1 : Nat) "ColdBox$AwakeWeek" "this$0" "LColdBox;") ∈ lw_all := lw_g (lw_at lw_m6 40 rfl) rfl
theorem q1327 : (Jvm.Cond.fieldLink "ColdBox$AwakeWeek" (26 : Nat) "ColdBox$AwakeWeek" "number" "I") ∈ lw_all := lw_g (lw_at lw_m6 45 rfl) rfl
theorem q1328 : (Jvm.Cond.sameField "ColdBox$AwakeWeek" "ColdBox$AnyWeek" "number" "I") ∈ lw_all := lw_g (lw_at lw_m6 46 rfl) rfl
theorem q1337 : (Jvm.Cond.laysFinal "ColdBox$AwakeWeek" "ColdBox$AwakeWeek" "this$0" "LColdBox;") ∈ lw_all := lw_g (lw_at lw_m6 55 rfl) rfl
theorem q1338 : (Jvm.Cond.soleField "ColdBox$AwakeWeek" "this$0") ∈ lw_all := lw_g (lw_at lw_m6 56 rfl) rfl
theorem q1339 : (Jvm.Cond.laysFinal "ColdBox$AwakeWeek" "ColdBox$MildWeek" "this$0" "LColdBox;") ∈ lw_all := lw_g (lw_at lw_m6 57 rfl) rfl
theorem q1341 : (Jvm.Cond.laysFinal "ColdBox$AwakeWeek" "ColdBox$AnyWeek" "number" "I") ∈ lw_all := lw_g (lw_at lw_m6 59 rfl) rfl
theorem q1343 : (Jvm.Cond.laysFinal "ColdBox$AwakeWeek" "ColdBox$AnyWeek" "about" "I") ∈ lw_all := lw_g (lw_at lw_m6 61 rfl) rfl
theorem q1345 : (Jvm.Cond.laysFinal "ColdBox$AwakeWeek" "ColdBox$AnyWeek" "this$0" "LColdBox;") ∈ lw_all := lw_g (lw_at lw_m6 63 rfl) rfl
theorem q1347 : (Jvm.Cond.superclass "ColdBox$AwakeWeek" "ColdBox$MildWeek") ∈ lw_all := lw_g (lw_at lw_m6 65 rfl) rfl
theorem q1426 : (Jvm.Cond.selects "ColdBox$AwakeWeek" ({ cls := "ColdBox$AnyWeek", name := "its", desc := "()I" } : Jvm.MethodName) ({ cls := "ColdBox$AnyWeek", name := "its", desc := "()I" } : Jvm.MethodName)) ∈ lw_all := lw_g (lw_at lw_m6 144 rfl) rfl
theorem q1441 : (Jvm.Cond.selects "ColdBox$AwakeWeek" ({ cls := "ColdBox$MildWeek", name := "its", desc := "()I" } : Jvm.MethodName) ({ cls := "ColdBox$AnyWeek", name := "its", desc := "()I" } : Jvm.MethodName)) ∈ lw_all := lw_g (lw_at lw_m6 159 rfl) rfl
theorem q1445 : (Jvm.Cond.sameMethod "ColdBox$AwakeWeek" "ColdBox$AnyWeek" "its" "()I") ∈ lw_all := lw_g (lw_at lw_m6 163 rfl) rfl
theorem q1446 : (Jvm.Cond.selects "ColdBox$AwakeWeek" ({ cls := "ColdBox$AwakeWeek", name := "its", desc := "()I" } : Jvm.MethodName) ({ cls := "ColdBox$AnyWeek", name := "its", desc := "()I" } : Jvm.MethodName)) ∈ lw_all := lw_g (lw_at lw_m6 164 rfl) rfl
theorem q1493 : (Jvm.Cond.castable "ColdBox$AwakeWeek" "ColdBox$Tells") ∈ lw_tbl := lw_at lw_m6 211 rfl
theorem q1494 : (Jvm.Cond.selects "ColdBox$AwakeWeek" ({ cls := "ColdBox$SpendsAct", name := "spends", desc := "(I)I" } : Jvm.MethodName) ({ cls := "ColdBox$AwakeWeek", name := "spends", desc := "(I)I" } : Jvm.MethodName)) ∈ lw_all := lw_g (lw_at lw_m6 212 rfl) rfl
theorem q1495 : (Jvm.Cond.unhidden "ColdBox$AwakeWeek" "spends" "(I)I") ∈ lw_tbl := lw_at lw_m6 213 rfl
theorem q1496 : (Jvm.Cond.instanceMethod ({ cls := "ColdBox$AwakeWeek", name := "spends", desc := "(I)I" } : Jvm.MethodName)) ∈ lw_all := lw_g (lw_at lw_m6 214 rfl) rfl
theorem q1497 : (Jvm.Cond.publicMethod ({ cls := "ColdBox$AwakeWeek", name := "spends", desc := "(I)I" } : Jvm.MethodName)) ∈ lw_tbl := lw_at lw_m6 215 rfl
theorem q1498 : (Jvm.Cond.code ({ cls := "ColdBox$AwakeWeek", name := "spends", desc := "(I)I" } : Jvm.MethodName) prog_4_method_2_code (2 : Nat) (Option.some Jvm.ClassFile.FieldType.int)) ∈ lw_all := lw_g (lw_at lw_m6 216 rfl) rfl
theorem q1499 : (Jvm.Cond.methodLinkNest "ColdBox$AwakeWeek" (13 : Nat) ({ cls := "ColdBox", name := "ran", desc := "(I)V" } : Jvm.MethodName) "ColdBox") ∈ lw_tbl := lw_at lw_m6 217 rfl
theorem q1500 : (Jvm.Cond.methodLink "ColdBox$AwakeWeek" (19 : Nat) ({ cls := "ColdBox$MildWeek", name := "spends", desc := "(I)I" } : Jvm.MethodName)) ∈ lw_all := lw_g (lw_at lw_m6 218 rfl) rfl
theorem q1539 : (Jvm.Cond.castable "ColdBox$AwakeWeek" "ColdBox$SpendsAct") ∈ lw_tbl := lw_at lw_m7 17 rfl
theorem q1544 : (Jvm.Cond.selects "ColdBox$AwakeWeek" ({ cls := "ColdBox$SpendsAct", name := "parches", desc := "(I)I" } : Jvm.MethodName) ({ cls := "ColdBox$AwakeWeek", name := "parches", desc := "(I)I" } : Jvm.MethodName)) ∈ lw_all := lw_g (lw_at lw_m7 22 rfl) rfl
theorem q1545 : (Jvm.Cond.unhidden "ColdBox$AwakeWeek" "parches" "(I)I") ∈ lw_tbl := lw_at lw_m7 23 rfl
theorem q1546 : (Jvm.Cond.instanceMethod ({ cls := "ColdBox$AwakeWeek", name := "parches", desc := "(I)I" } : Jvm.MethodName)) ∈ lw_all := lw_g (lw_at lw_m7 24 rfl) rfl
theorem q1547 : (Jvm.Cond.publicMethod ({ cls := "ColdBox$AwakeWeek", name := "parches", desc := "(I)I" } : Jvm.MethodName)) ∈ lw_tbl := lw_at lw_m7 25 rfl
theorem q1548 : (Jvm.Cond.code ({ cls := "ColdBox$AwakeWeek", name := "parches", desc := "(I)I" } : Jvm.MethodName) prog_4_method_3_code (3 : Nat) (Option.some Jvm.ClassFile.FieldType.int)) ∈ lw_all := lw_g (lw_at lw_m7 26 rfl) rfl
theorem q1549 : (Jvm.Cond.methodLink "ColdBox$AwakeWeek" (23 : Nat) ({ cls := "ColdBox$MildWeek", name := "parches", desc := "(I)I" } : Jvm.MethodName)) ∈ lw_all := lw_g (lw_at lw_m7 27 rfl) rfl
theorem q1552 : (Jvm.Cond.methodLink "ColdBox$AwakeWeek" (30 : Nat) ({ cls := "ColdBox$AwakeWeek", name := "spends", desc := "(I)I" } : Jvm.MethodName)) ∈ lw_all := lw_g (lw_at lw_m7 30 rfl) rfl
theorem q1574 : (Jvm.Cond.selects "ColdBox$AwakeWeek" ({ cls := "ColdBox$SharesAct", name := "shares", desc := "(I)I" } : Jvm.MethodName) ({ cls := "ColdBox$AnyWeek", name := "shares", desc := "(I)I" } : Jvm.MethodName)) ∈ lw_all := lw_g (lw_at lw_m7 52 rfl) rfl
theorem q1575 : (Jvm.Cond.unhidden "ColdBox$AwakeWeek" "shares" "(I)I") ∈ lw_tbl := lw_at lw_m7 53 rfl
theorem q1608 : (Jvm.Cond.selects "ColdBox$AwakeWeek" ({ cls := "ColdBox$Tells", name := "tells", desc := "(I)I" } : Jvm.MethodName) ({ cls := "ColdBox$MildWeek", name := "tells", desc := "(I)I" } : Jvm.MethodName)) ∈ lw_all := lw_g (lw_at lw_m7 86 rfl) rfl
theorem q1609 : (Jvm.Cond.unhidden "ColdBox$AwakeWeek" "tells" "(I)I") ∈ lw_tbl := lw_at lw_m7 87 rfl
theorem q1616 : (Jvm.Cond.selects "ColdBox$AwakeWeek" ({ cls := "ColdBox$MildWeek", name := "shares", desc := "(I)I" } : Jvm.MethodName) ({ cls := "ColdBox$AnyWeek", name := "shares", desc := "(I)I" } : Jvm.MethodName)) ∈ lw_all := lw_g (lw_at lw_m7 94 rfl) rfl
theorem q2230 : (Jvm.Cond.selects "ColdBox$AwakeWeek" ({ cls := "ColdBox$AwakeWeek", name := "spends", desc := "(I)I" } : Jvm.MethodName) ({ cls := "ColdBox$AwakeWeek", name := "spends", desc := "(I)I" } : Jvm.MethodName)) ∈ lw_all := lw_g (lw_at lw_m9 228 rfl) rfl
theorem q2234 : (Jvm.Cond.selects "ColdBox$AwakeWeek" ({ cls := "ColdBox$AnyWeek", name := "parches", desc := "(I)I" } : Jvm.MethodName) ({ cls := "ColdBox$AwakeWeek", name := "parches", desc := "(I)I" } : Jvm.MethodName)) ∈ lw_all := lw_g (lw_at lw_m9 232 rfl) rfl
theorem q2240 : (Jvm.Cond.castable "ColdBox$AwakeWeek" "ColdBox$AnyWeek") ∈ lw_tbl := lw_at lw_m9 238 rfl
theorem q2246 : (Jvm.Cond.castable "ColdBox$AwakeWeek" "ColdBox$MildWeek") ∈ lw_tbl := lw_at lw_m10 4 rfl
theorem in_X30 : ∀ w ∈ wsX300, w ∈ lw_all := lw_in wsX300 [1341, 1343, 1345, 1339, 1337] (by decide +kernel) (by decide +kernel)

/-! ColdBox$DeepWeek -/
set_option maxRecDepth 100000
def RX31 : String := "ColdBox$DeepWeek"
def TX31 : u_T := fun k => match k with
  | 0 => ("ColdBox$AnyWeek", "number", "I", true)
  | 1 => ("ColdBox$AnyWeek", "about", "I", true)
  | 2 => ("ColdBox$AnyWeek", "this$0", "LColdBox;", true)
  | _ => ("ColdBox$DeepWeek", "this$0", "LColdBox;", true)
def tyX31 : Nat → FieldType := fun k => match k with
  | 0 => .int
  | 1 => .int
  | 2 => .object "ColdBox"
  | _ => .object "ColdBox"
abbrev wsX310 : List Cond := u_ws RX31 TX31 4
-- two fields of one name: no nmX31
theorem tyX31_ok : ∀ k, k < 4 → parseFieldDescriptor (TX31 k).2.2.1 = some (tyX31 k) := by decide +kernel
abbrev cX31_init : ByteArray := prog_10_method_1_code
def yX31_init : MethodName := ⟨RX31, "<init>", "(LColdBox;II)V"⟩
def dkwX31_init_0 : List UInt8 := [42, 43, 181, 0, 1, 42, 43, 28, 29, 183, 0, 7, 177]
abbrev dktX31_init_0 : List UInt8 := dkwX31_init_0 ++ []
theorem dksX31_init_0 : cX31_init.data.toList.drop 0 = dktX31_init_0 := by decide +kernel
theorem dX31_init_0 : decode cX31_init 0 = .ok (.aload_n 0, 1) := dk_42 (dk_at dksX31_init_0 0 rfl rfl)
theorem dX31_init_1 : decode cX31_init 1 = .ok (.aload_n 1, 1) := dk_43 (dk_at dksX31_init_0 1 rfl rfl)
theorem dX31_init_2 : decode cX31_init 2 = .ok (.putfield 1, 3) := dk_181 0 1 (dk_at dksX31_init_0 2 rfl rfl)
theorem dX31_init_5 : decode cX31_init 5 = .ok (.aload_n 0, 1) := dk_42 (dk_at dksX31_init_0 5 rfl rfl)
theorem dX31_init_6 : decode cX31_init 6 = .ok (.aload_n 1, 1) := dk_43 (dk_at dksX31_init_0 6 rfl rfl)
theorem dX31_init_7 : decode cX31_init 7 = .ok (.iload_n 2, 1) := dk_28 (dk_at dksX31_init_0 7 rfl rfl)
theorem dX31_init_8 : decode cX31_init 8 = .ok (.iload_n 3, 1) := dk_29 (dk_at dksX31_init_0 8 rfl rfl)
theorem dX31_init_9 : decode cX31_init 9 = .ok (.invokespecial 7, 3) := dk_183 0 7 (dk_at dksX31_init_0 9 rfl rfl)
theorem dX31_init_12 : decode cX31_init 12 = .ok (.return_, 1) := dk_177 (dk_at dksX31_init_0 12 rfl rfl)
abbrev cX31_parches : ByteArray := prog_10_method_2_code
def yX31_parches : MethodName := ⟨RX31, "parches", "(I)I"⟩
def dkwX31_parches_0 : List UInt8 := [42, 180, 0, 1, 16, 20, 182, 0, 13, 42, 27, 183, 0, 19, 42, 180, 0, 23, 100, 172]
abbrev dktX31_parches_0 : List UInt8 := dkwX31_parches_0 ++ []
theorem dksX31_parches_0 : cX31_parches.data.toList.drop 0 = dktX31_parches_0 := by decide +kernel
theorem dX31_parches_0 : decode cX31_parches 0 = .ok (.aload_n 0, 1) := dk_42 (dk_at dksX31_parches_0 0 rfl rfl)
theorem dX31_parches_1 : decode cX31_parches 1 = .ok (.getfield 1, 3) := dk_180 0 1 (dk_at dksX31_parches_0 1 rfl rfl)
theorem dX31_parches_4 : decode cX31_parches 4 = .ok (.bipush 20, 2) := dk_16 20 (dk_at dksX31_parches_0 4 rfl rfl)
theorem dX31_parches_6 : decode cX31_parches 6 = .ok (.invokevirtual 13, 3) := dk_182 0 13 (dk_at dksX31_parches_0 6 rfl rfl)
theorem dX31_parches_9 : decode cX31_parches 9 = .ok (.aload_n 0, 1) := dk_42 (dk_at dksX31_parches_0 9 rfl rfl)
theorem dX31_parches_10 : decode cX31_parches 10 = .ok (.iload_n 1, 1) := dk_27 (dk_at dksX31_parches_0 10 rfl rfl)
theorem dX31_parches_11 : decode cX31_parches 11 = .ok (.invokespecial 19, 3) := dk_183 0 19 (dk_at dksX31_parches_0 11 rfl rfl)
theorem dX31_parches_14 : decode cX31_parches 14 = .ok (.aload_n 0, 1) := dk_42 (dk_at dksX31_parches_0 14 rfl rfl)
theorem dX31_parches_15 : decode cX31_parches 15 = .ok (.getfield 23, 3) := dk_180 0 23 (dk_at dksX31_parches_0 15 rfl rfl)
theorem dX31_parches_18 : decode cX31_parches 18 = .ok (.isub, 1) := dk_100 (dk_at dksX31_parches_0 18 rfl rfl)
theorem dX31_parches_19 : decode cX31_parches 19 = .ok (.ireturn, 1) := dk_172 (dk_at dksX31_parches_0 19 rfl rfl)
theorem q125 : (Jvm.Cond.initialized "ColdBox$DeepWeek") ∈ lw_all := lw_g (lw_at lw_m1 43 rfl) rfl
theorem q1332 : (Jvm.Cond.fieldLink "ColdBox$DeepWeek" (23 : Nat) "ColdBox$DeepWeek" "about" "I") ∈ lw_all := lw_g (lw_at lw_m6 50 rfl) rfl
theorem q1333 : (Jvm.Cond.sameField "ColdBox$DeepWeek" "ColdBox$AnyWeek" "about" "I") ∈ lw_all := lw_g (lw_at lw_m6 51 rfl) rfl
theorem q1352 : (Jvm.Cond.instantiable "ColdBox$DeepWeek" (4 : Nat)) ∈ lw_all := lw_g (lw_at lw_m6 70 rfl) rfl
theorem q1354 : (Jvm.Cond.instanceMethod ({ cls := "ColdBox$DeepWeek", name := "<init>", desc := "(LColdBox;II)V" } : Jvm.MethodName)) ∈ lw_all := lw_g (lw_at lw_m6 72 rfl) rfl
theorem q1355 : (Jvm.Cond.code ({ cls := "ColdBox$DeepWeek", name := "<init>", desc := "(LColdBox;II)V" } : Jvm.MethodName) prog_10_method_1_code (4 : Nat) (Option.none : Option Jvm.ClassFile.FieldType)) ∈ lw_all := lw_g (lw_at lw_m6 73 rfl) rfl
theorem q1356 : (Jvm.Cond.methodLink "ColdBox$DeepWeek" (7 : Nat) ({ cls := "ColdBox$AnyWeek", name := "<init>", desc := "(LColdBox;II)V" } : Jvm.MethodName)) ∈ lw_all := lw_g (lw_at lw_m6 74 rfl) rfl
theorem q1357 : (Jvm.Cond.fieldLink "ColdBox$DeepWeek" (1 : Nat) "ColdBox$DeepWeek" "this$0" "LColdBox;") ∈ lw_all := lw_g (lw_at lw_m6 75 rfl) rfl
theorem q1358 : (Jvm.Cond.laysFinal "ColdBox$DeepWeek" "ColdBox$DeepWeek" "this$0" "LColdBox;") ∈ lw_all := lw_g (lw_at lw_m6 76 rfl) rfl
theorem q1359 : (Jvm.Cond.soleField "ColdBox$DeepWeek" "this$0") ∈ lw_all := lw_g (lw_at lw_m6 77 rfl) rfl
theorem q1360 : (Jvm.Cond.laysFinal "ColdBox$DeepWeek" "ColdBox$AnyWeek" "number" "I") ∈ lw_all := lw_g (lw_at lw_m6 78 rfl) rfl
theorem q1361 : (Jvm.Cond.laysFinal "ColdBox$DeepWeek" "ColdBox$AnyWeek" "about" "I") ∈ lw_all := lw_g (lw_at lw_m6 79 rfl) rfl
theorem q1362 : (Jvm.Cond.laysFinal "ColdBox$DeepWeek" "ColdBox$AnyWeek" "this$0" "LColdBox;") ∈ lw_all := lw_g (lw_at lw_m6 80 rfl) rfl
theorem q1363 : (Jvm.Cond.superclass "ColdBox$DeepWeek" "ColdBox$AnyWeek") ∈ lw_all := lw_g (lw_at lw_m6 81 rfl) rfl
theorem q1427 : (Jvm.Cond.selects "ColdBox$DeepWeek" ({ cls := "ColdBox$AnyWeek", name := "its", desc := "()I" } : Jvm.MethodName) ({ cls := "ColdBox$AnyWeek", name := "its", desc := "()I" } : Jvm.MethodName)) ∈ lw_all := lw_g (lw_at lw_m6 145 rfl) rfl
theorem q1434 : (Jvm.Cond.sameMethod "ColdBox$DeepWeek" "ColdBox$AnyWeek" "its" "()I") ∈ lw_all := lw_g (lw_at lw_m6 152 rfl) rfl
theorem q1436 : (Jvm.Cond.selects "ColdBox$DeepWeek" ({ cls := "ColdBox$DeepWeek", name := "its", desc := "()I" } : Jvm.MethodName) ({ cls := "ColdBox$AnyWeek", name := "its", desc := "()I" } : Jvm.MethodName)) ∈ lw_all := lw_g (lw_at lw_m6 154 rfl) rfl
theorem q1505 : (Jvm.Cond.castable "ColdBox$DeepWeek" "ColdBox$Tells") ∈ lw_tbl := lw_at lw_m6 223 rfl
theorem q1506 : (Jvm.Cond.selects "ColdBox$DeepWeek" ({ cls := "ColdBox$SpendsAct", name := "spends", desc := "(I)I" } : Jvm.MethodName) ({ cls := "ColdBox$AnyWeek", name := "spends", desc := "(I)I" } : Jvm.MethodName)) ∈ lw_all := lw_g (lw_at lw_m6 224 rfl) rfl
theorem q1507 : (Jvm.Cond.unhidden "ColdBox$DeepWeek" "spends" "(I)I") ∈ lw_tbl := lw_at lw_m6 225 rfl
theorem q1519 : (Jvm.Cond.sameMethod "ColdBox$DeepWeek" "ColdBox$AnyWeek" "spends" "(I)I") ∈ lw_all := lw_g (lw_at lw_m6 237 rfl) rfl
theorem q1540 : (Jvm.Cond.castable "ColdBox$DeepWeek" "ColdBox$SpendsAct") ∈ lw_tbl := lw_at lw_m7 18 rfl
theorem q1553 : (Jvm.Cond.selects "ColdBox$DeepWeek" ({ cls := "ColdBox$SpendsAct", name := "parches", desc := "(I)I" } : Jvm.MethodName) ({ cls := "ColdBox$DeepWeek", name := "parches", desc := "(I)I" } : Jvm.MethodName)) ∈ lw_all := lw_g (lw_at lw_m7 31 rfl) rfl
theorem q1554 : (Jvm.Cond.unhidden "ColdBox$DeepWeek" "parches" "(I)I") ∈ lw_tbl := lw_at lw_m7 32 rfl
theorem q1555 : (Jvm.Cond.instanceMethod ({ cls := "ColdBox$DeepWeek", name := "parches", desc := "(I)I" } : Jvm.MethodName)) ∈ lw_all := lw_g (lw_at lw_m7 33 rfl) rfl
theorem q1556 : (Jvm.Cond.publicMethod ({ cls := "ColdBox$DeepWeek", name := "parches", desc := "(I)I" } : Jvm.MethodName)) ∈ lw_tbl := lw_at lw_m7 34 rfl
theorem q1557 : (Jvm.Cond.code ({ cls := "ColdBox$DeepWeek", name := "parches", desc := "(I)I" } : Jvm.MethodName) prog_10_method_2_code (2 : Nat) (Option.some Jvm.ClassFile.FieldType.int)) ∈ lw_all := lw_g (lw_at lw_m7 35 rfl) rfl
theorem q1558 : (Jvm.Cond.methodLinkNest "ColdBox$DeepWeek" (13 : Nat) ({ cls := "ColdBox", name := "ran", desc := "(I)V" } : Jvm.MethodName) "ColdBox") ∈ lw_tbl := lw_at lw_m7 36 rfl
theorem q1559 : (Jvm.Cond.methodLink "ColdBox$DeepWeek" (19 : Nat) ({ cls := "ColdBox$AnyWeek", name := "parches", desc := "(I)I" } : Jvm.MethodName)) ∈ lw_all := lw_g (lw_at lw_m7 37 rfl) rfl
theorem q1576 : (Jvm.Cond.selects "ColdBox$DeepWeek" ({ cls := "ColdBox$SharesAct", name := "shares", desc := "(I)I" } : Jvm.MethodName) ({ cls := "ColdBox$AnyWeek", name := "shares", desc := "(I)I" } : Jvm.MethodName)) ∈ lw_all := lw_g (lw_at lw_m7 54 rfl) rfl
theorem q1577 : (Jvm.Cond.unhidden "ColdBox$DeepWeek" "shares" "(I)I") ∈ lw_tbl := lw_at lw_m7 55 rfl
theorem q1594 : (Jvm.Cond.sameMethod "ColdBox$DeepWeek" "ColdBox$AnyWeek" "shares" "(I)I") ∈ lw_all := lw_g (lw_at lw_m7 72 rfl) rfl
theorem q1618 : (Jvm.Cond.selects "ColdBox$DeepWeek" ({ cls := "ColdBox$Tells", name := "tells", desc := "(I)I" } : Jvm.MethodName) ({ cls := "ColdBox$AnyWeek", name := "tells", desc := "(I)I" } : Jvm.MethodName)) ∈ lw_all := lw_g (lw_at lw_m7 96 rfl) rfl
theorem q1619 : (Jvm.Cond.unhidden "ColdBox$DeepWeek" "tells" "(I)I") ∈ lw_tbl := lw_at lw_m7 97 rfl
theorem q2235 : (Jvm.Cond.selects "ColdBox$DeepWeek" ({ cls := "ColdBox$AnyWeek", name := "parches", desc := "(I)I" } : Jvm.MethodName) ({ cls := "ColdBox$DeepWeek", name := "parches", desc := "(I)I" } : Jvm.MethodName)) ∈ lw_all := lw_g (lw_at lw_m9 233 rfl) rfl
theorem q2241 : (Jvm.Cond.castable "ColdBox$DeepWeek" "ColdBox$AnyWeek") ∈ lw_tbl := lw_at lw_m9 239 rfl
theorem in_X31 : ∀ w ∈ wsX310, w ∈ lw_all := lw_in wsX310 [1360, 1361, 1362, 1358] (by decide +kernel) (by decide +kernel)

/-! ColdBox$DryingWeek -/
set_option maxRecDepth 100000
def RX32 : String := "ColdBox$DryingWeek"
def TX32 : u_T := fun k => match k with
  | 0 => ("ColdBox$AnyWeek", "number", "I", true)
  | 1 => ("ColdBox$AnyWeek", "about", "I", true)
  | 2 => ("ColdBox$AnyWeek", "this$0", "LColdBox;", true)
  | _ => ("ColdBox$DryingWeek", "this$0", "LColdBox;", true)
def tyX32 : Nat → FieldType := fun k => match k with
  | 0 => .int
  | 1 => .int
  | 2 => .object "ColdBox"
  | _ => .object "ColdBox"
abbrev wsX320 : List Cond := u_ws RX32 TX32 4
-- two fields of one name: no nmX32
theorem tyX32_ok : ∀ k, k < 4 → parseFieldDescriptor (TX32 k).2.2.1 = some (tyX32 k) := by decide +kernel
abbrev cX32_init : ByteArray := prog_12_method_1_code
def yX32_init : MethodName := ⟨RX32, "<init>", "(LColdBox;II)V"⟩
def dkwX32_init_0 : List UInt8 := [42, 43, 181, 0, 1, 42, 43, 28, 29, 183, 0, 7, 177]
abbrev dktX32_init_0 : List UInt8 := dkwX32_init_0 ++ []
theorem dksX32_init_0 : cX32_init.data.toList.drop 0 = dktX32_init_0 := by decide +kernel
theorem dX32_init_0 : decode cX32_init 0 = .ok (.aload_n 0, 1) := dk_42 (dk_at dksX32_init_0 0 rfl rfl)
theorem dX32_init_1 : decode cX32_init 1 = .ok (.aload_n 1, 1) := dk_43 (dk_at dksX32_init_0 1 rfl rfl)
theorem dX32_init_2 : decode cX32_init 2 = .ok (.putfield 1, 3) := dk_181 0 1 (dk_at dksX32_init_0 2 rfl rfl)
theorem dX32_init_5 : decode cX32_init 5 = .ok (.aload_n 0, 1) := dk_42 (dk_at dksX32_init_0 5 rfl rfl)
theorem dX32_init_6 : decode cX32_init 6 = .ok (.aload_n 1, 1) := dk_43 (dk_at dksX32_init_0 6 rfl rfl)
theorem dX32_init_7 : decode cX32_init 7 = .ok (.iload_n 2, 1) := dk_28 (dk_at dksX32_init_0 7 rfl rfl)
theorem dX32_init_8 : decode cX32_init 8 = .ok (.iload_n 3, 1) := dk_29 (dk_at dksX32_init_0 8 rfl rfl)
theorem dX32_init_9 : decode cX32_init 9 = .ok (.invokespecial 7, 3) := dk_183 0 7 (dk_at dksX32_init_0 9 rfl rfl)
theorem dX32_init_12 : decode cX32_init 12 = .ok (.return_, 1) := dk_177 (dk_at dksX32_init_0 12 rfl rfl)
abbrev cX32_shares : ByteArray := prog_12_method_3_code
def yX32_shares : MethodName := ⟨RX32, "shares", "(I)I"⟩
def dkwX32_shares_1 : List UInt8 := [96, 172]
abbrev dktX32_shares_1 : List UInt8 := dkwX32_shares_1 ++ []
def dkwX32_shares_0 : List UInt8 := [42, 180, 0, 1, 16, 61, 182, 0, 13, 42, 27, 183, 0, 23, 61, 28, 42, 42, 180, 0, 26, 182, 0, 30]
abbrev dktX32_shares_0 : List UInt8 := dkwX32_shares_0 ++ dktX32_shares_1
theorem dksX32_shares_0 : cX32_shares.data.toList.drop 0 = dktX32_shares_0 := by decide +kernel
theorem dksX32_shares_1 : cX32_shares.data.toList.drop 24 = dktX32_shares_1 := dk_seg dksX32_shares_0 24 rfl rfl
theorem dX32_shares_0 : decode cX32_shares 0 = .ok (.aload_n 0, 1) := dk_42 (dk_at dksX32_shares_0 0 rfl rfl)
theorem dX32_shares_1 : decode cX32_shares 1 = .ok (.getfield 1, 3) := dk_180 0 1 (dk_at dksX32_shares_0 1 rfl rfl)
theorem dX32_shares_4 : decode cX32_shares 4 = .ok (.bipush 61, 2) := dk_16 61 (dk_at dksX32_shares_0 4 rfl rfl)
theorem dX32_shares_6 : decode cX32_shares 6 = .ok (.invokevirtual 13, 3) := dk_182 0 13 (dk_at dksX32_shares_0 6 rfl rfl)
theorem dX32_shares_9 : decode cX32_shares 9 = .ok (.aload_n 0, 1) := dk_42 (dk_at dksX32_shares_0 9 rfl rfl)
theorem dX32_shares_10 : decode cX32_shares 10 = .ok (.iload_n 1, 1) := dk_27 (dk_at dksX32_shares_0 10 rfl rfl)
theorem dX32_shares_11 : decode cX32_shares 11 = .ok (.invokespecial 23, 3) := dk_183 0 23 (dk_at dksX32_shares_0 11 rfl rfl)
theorem dX32_shares_14 : decode cX32_shares 14 = .ok (.istore_n 2, 1) := dk_61 (dk_at dksX32_shares_0 14 rfl rfl)
theorem dX32_shares_15 : decode cX32_shares 15 = .ok (.iload_n 2, 1) := dk_28 (dk_at dksX32_shares_0 15 rfl rfl)
theorem dX32_shares_16 : decode cX32_shares 16 = .ok (.aload_n 0, 1) := dk_42 (dk_at dksX32_shares_0 16 rfl rfl)
theorem dX32_shares_17 : decode cX32_shares 17 = .ok (.aload_n 0, 1) := dk_42 (dk_at dksX32_shares_0 17 rfl rfl)
theorem dX32_shares_18 : decode cX32_shares 18 = .ok (.getfield 26, 3) := dk_180 0 26 (dk_at dksX32_shares_0 18 rfl rfl)
theorem dX32_shares_21 : decode cX32_shares 21 = .ok (.invokevirtual 30, 3) := dk_182 0 30 (dk_at dksX32_shares_0 21 rfl rfl)
theorem dX32_shares_24 : decode cX32_shares 24 = .ok (.iadd, 1) := dk_96 (dk_at dksX32_shares_1 0 rfl rfl)
theorem dX32_shares_25 : decode cX32_shares 25 = .ok (.ireturn, 1) := dk_172 (dk_at dksX32_shares_1 1 rfl rfl)
abbrev cX32_tells : ByteArray := prog_12_method_2_code
def yX32_tells : MethodName := ⟨RX32, "tells", "(I)I"⟩
def dkwX32_tells_0 : List UInt8 := [42, 180, 0, 1, 16, 60, 182, 0, 13, 42, 27, 183, 0, 19, 5, 104, 172]
abbrev dktX32_tells_0 : List UInt8 := dkwX32_tells_0 ++ []
theorem dksX32_tells_0 : cX32_tells.data.toList.drop 0 = dktX32_tells_0 := by decide +kernel
theorem dX32_tells_0 : decode cX32_tells 0 = .ok (.aload_n 0, 1) := dk_42 (dk_at dksX32_tells_0 0 rfl rfl)
theorem dX32_tells_1 : decode cX32_tells 1 = .ok (.getfield 1, 3) := dk_180 0 1 (dk_at dksX32_tells_0 1 rfl rfl)
theorem dX32_tells_4 : decode cX32_tells 4 = .ok (.bipush 60, 2) := dk_16 60 (dk_at dksX32_tells_0 4 rfl rfl)
theorem dX32_tells_6 : decode cX32_tells 6 = .ok (.invokevirtual 13, 3) := dk_182 0 13 (dk_at dksX32_tells_0 6 rfl rfl)
theorem dX32_tells_9 : decode cX32_tells 9 = .ok (.aload_n 0, 1) := dk_42 (dk_at dksX32_tells_0 9 rfl rfl)
theorem dX32_tells_10 : decode cX32_tells 10 = .ok (.iload_n 1, 1) := dk_27 (dk_at dksX32_tells_0 10 rfl rfl)
theorem dX32_tells_11 : decode cX32_tells 11 = .ok (.invokespecial 19, 3) := dk_183 0 19 (dk_at dksX32_tells_0 11 rfl rfl)
theorem dX32_tells_14 : decode cX32_tells 14 = .ok (.iconst 2, 1) := dk_5 (dk_at dksX32_tells_0 14 rfl rfl)
theorem dX32_tells_15 : decode cX32_tells 15 = .ok (.imul, 1) := dk_104 (dk_at dksX32_tells_0 15 rfl rfl)
theorem dX32_tells_16 : decode cX32_tells 16 = .ok (.ireturn, 1) := dk_172 (dk_at dksX32_tells_0 16 rfl rfl)
theorem q126 : (Jvm.Cond.initialized "ColdBox$DryingWeek") ∈ lw_all := lw_g (lw_at lw_m1 44 rfl) rfl
theorem q1334 : (Jvm.Cond.fieldLink "ColdBox$DryingWeek" (26 : Nat) "ColdBox$DryingWeek" "about" "I") ∈ lw_all := lw_g (lw_at lw_m6 52 rfl) rfl
theorem q1335 : (Jvm.Cond.sameField "ColdBox$DryingWeek" "ColdBox$AnyWeek" "about" "I") ∈ lw_all := lw_g (lw_at lw_m6 53 rfl) rfl
theorem q1368 : (Jvm.Cond.instantiable "ColdBox$DryingWeek" (4 : Nat)) ∈ lw_all := lw_g (lw_at lw_m6 86 rfl) rfl
theorem q1370 : (Jvm.Cond.instanceMethod ({ cls := "ColdBox$DryingWeek", name := "<init>", desc := "(LColdBox;II)V" } : Jvm.MethodName)) ∈ lw_all := lw_g (lw_at lw_m6 88 rfl) rfl
theorem q1371 : (Jvm.Cond.code ({ cls := "ColdBox$DryingWeek", name := "<init>", desc := "(LColdBox;II)V" } : Jvm.MethodName) prog_12_method_1_code (4 : Nat) (Option.none : Option Jvm.ClassFile.FieldType)) ∈ lw_all := lw_g (lw_at lw_m6 89 rfl) rfl
theorem q1372 : (Jvm.Cond.methodLink "ColdBox$DryingWeek" (7 : Nat) ({ cls := "ColdBox$AnyWeek", name := "<init>", desc := "(LColdBox;II)V" } : Jvm.MethodName)) ∈ lw_all := lw_g (lw_at lw_m6 90 rfl) rfl
theorem q1373 : (Jvm.Cond.fieldLink "ColdBox$DryingWeek" (1 : Nat) "ColdBox$DryingWeek" "this$0" "LColdBox;") ∈ lw_all := lw_g (lw_at lw_m6 91 rfl) rfl
theorem q1374 : (Jvm.Cond.laysFinal "ColdBox$DryingWeek" "ColdBox$DryingWeek" "this$0" "LColdBox;") ∈ lw_all := lw_g (lw_at lw_m6 92 rfl) rfl
theorem q1375 : (Jvm.Cond.soleField "ColdBox$DryingWeek" "this$0") ∈ lw_all := lw_g (lw_at lw_m6 93 rfl) rfl
theorem q1376 : (Jvm.Cond.laysFinal "ColdBox$DryingWeek" "ColdBox$AnyWeek" "number" "I") ∈ lw_all := lw_g (lw_at lw_m6 94 rfl) rfl
theorem q1377 : (Jvm.Cond.laysFinal "ColdBox$DryingWeek" "ColdBox$AnyWeek" "about" "I") ∈ lw_all := lw_g (lw_at lw_m6 95 rfl) rfl
theorem q1378 : (Jvm.Cond.laysFinal "ColdBox$DryingWeek" "ColdBox$AnyWeek" "this$0" "LColdBox;") ∈ lw_all := lw_g (lw_at lw_m6 96 rfl) rfl
theorem q1379 : (Jvm.Cond.superclass "ColdBox$DryingWeek" "ColdBox$AnyWeek") ∈ lw_all := lw_g (lw_at lw_m6 97 rfl) rfl
theorem q1428 : (Jvm.Cond.selects "ColdBox$DryingWeek" ({ cls := "ColdBox$AnyWeek", name := "its", desc := "()I" } : Jvm.MethodName) ({ cls := "ColdBox$AnyWeek", name := "its", desc := "()I" } : Jvm.MethodName)) ∈ lw_all := lw_g (lw_at lw_m6 146 rfl) rfl
theorem q1453 : (Jvm.Cond.sameMethod "ColdBox$DryingWeek" "ColdBox$AnyWeek" "its" "()I") ∈ lw_all := lw_g (lw_at lw_m6 171 rfl) rfl
theorem q1454 : (Jvm.Cond.selects "ColdBox$DryingWeek" ({ cls := "ColdBox$DryingWeek", name := "its", desc := "()I" } : Jvm.MethodName) ({ cls := "ColdBox$AnyWeek", name := "its", desc := "()I" } : Jvm.MethodName)) ∈ lw_all := lw_g (lw_at lw_m6 172 rfl) rfl
theorem q1508 : (Jvm.Cond.castable "ColdBox$DryingWeek" "ColdBox$Tells") ∈ lw_tbl := lw_at lw_m6 226 rfl
theorem q1509 : (Jvm.Cond.selects "ColdBox$DryingWeek" ({ cls := "ColdBox$SpendsAct", name := "spends", desc := "(I)I" } : Jvm.MethodName) ({ cls := "ColdBox$AnyWeek", name := "spends", desc := "(I)I" } : Jvm.MethodName)) ∈ lw_all := lw_g (lw_at lw_m6 227 rfl) rfl
theorem q1510 : (Jvm.Cond.unhidden "ColdBox$DryingWeek" "spends" "(I)I") ∈ lw_tbl := lw_at lw_m6 228 rfl
theorem q1541 : (Jvm.Cond.castable "ColdBox$DryingWeek" "ColdBox$SpendsAct") ∈ lw_tbl := lw_at lw_m7 19 rfl
theorem q1560 : (Jvm.Cond.selects "ColdBox$DryingWeek" ({ cls := "ColdBox$SpendsAct", name := "parches", desc := "(I)I" } : Jvm.MethodName) ({ cls := "ColdBox$AnyWeek", name := "parches", desc := "(I)I" } : Jvm.MethodName)) ∈ lw_all := lw_g (lw_at lw_m7 38 rfl) rfl
theorem q1561 : (Jvm.Cond.unhidden "ColdBox$DryingWeek" "parches" "(I)I") ∈ lw_tbl := lw_at lw_m7 39 rfl
theorem q1578 : (Jvm.Cond.selects "ColdBox$DryingWeek" ({ cls := "ColdBox$SharesAct", name := "shares", desc := "(I)I" } : Jvm.MethodName) ({ cls := "ColdBox$DryingWeek", name := "shares", desc := "(I)I" } : Jvm.MethodName)) ∈ lw_all := lw_g (lw_at lw_m7 56 rfl) rfl
theorem q1579 : (Jvm.Cond.unhidden "ColdBox$DryingWeek" "shares" "(I)I") ∈ lw_tbl := lw_at lw_m7 57 rfl
theorem q1580 : (Jvm.Cond.instanceMethod ({ cls := "ColdBox$DryingWeek", name := "shares", desc := "(I)I" } : Jvm.MethodName)) ∈ lw_all := lw_g (lw_at lw_m7 58 rfl) rfl
theorem q1581 : (Jvm.Cond.publicMethod ({ cls := "ColdBox$DryingWeek", name := "shares", desc := "(I)I" } : Jvm.MethodName)) ∈ lw_tbl := lw_at lw_m7 59 rfl
theorem q1582 : (Jvm.Cond.code ({ cls := "ColdBox$DryingWeek", name := "shares", desc := "(I)I" } : Jvm.MethodName) prog_12_method_3_code (3 : Nat) (Option.some Jvm.ClassFile.FieldType.int)) ∈ lw_all := lw_g (lw_at lw_m7 60 rfl) rfl
theorem q1583 : (Jvm.Cond.methodLinkNest "ColdBox$DryingWeek" (13 : Nat) ({ cls := "ColdBox", name := "ran", desc := "(I)V" } : Jvm.MethodName) "ColdBox") ∈ lw_tbl := lw_at lw_m7 61 rfl
theorem q1584 : (Jvm.Cond.methodLink "ColdBox$DryingWeek" (23 : Nat) ({ cls := "ColdBox$AnyWeek", name := "shares", desc := "(I)I" } : Jvm.MethodName)) ∈ lw_all := lw_g (lw_at lw_m7 62 rfl) rfl
theorem q1585 : (Jvm.Cond.methodLink "ColdBox$DryingWeek" (30 : Nat) ({ cls := "ColdBox$DryingWeek", name := "spends", desc := "(I)I" } : Jvm.MethodName)) ∈ lw_all := lw_g (lw_at lw_m7 63 rfl) rfl
theorem q1586 : (Jvm.Cond.sameMethod "ColdBox$DryingWeek" "ColdBox$AnyWeek" "spends" "(I)I") ∈ lw_all := lw_g (lw_at lw_m7 64 rfl) rfl
theorem q1587 : (Jvm.Cond.selects "ColdBox$DryingWeek" ({ cls := "ColdBox$DryingWeek", name := "spends", desc := "(I)I" } : Jvm.MethodName) ({ cls := "ColdBox$AnyWeek", name := "spends", desc := "(I)I" } : Jvm.MethodName)) ∈ lw_all := lw_g (lw_at lw_m7 65 rfl) rfl
theorem q1620 : (Jvm.Cond.selects "ColdBox$DryingWeek" ({ cls := "ColdBox$Tells", name := "tells", desc := "(I)I" } : Jvm.MethodName) ({ cls := "ColdBox$DryingWeek", name := "tells", desc := "(I)I" } : Jvm.MethodName)) ∈ lw_all := lw_g (lw_at lw_m7 98 rfl) rfl
theorem q1621 : (Jvm.Cond.unhidden "ColdBox$DryingWeek" "tells" "(I)I") ∈ lw_tbl := lw_at lw_m7 99 rfl
theorem q1622 : (Jvm.Cond.instanceMethod ({ cls := "ColdBox$DryingWeek", name := "tells", desc := "(I)I" } : Jvm.MethodName)) ∈ lw_all := lw_g (lw_at lw_m7 100 rfl) rfl
theorem q1623 : (Jvm.Cond.publicMethod ({ cls := "ColdBox$DryingWeek", name := "tells", desc := "(I)I" } : Jvm.MethodName)) ∈ lw_tbl := lw_at lw_m7 101 rfl
theorem q1624 : (Jvm.Cond.code ({ cls := "ColdBox$DryingWeek", name := "tells", desc := "(I)I" } : Jvm.MethodName) prog_12_method_2_code (2 : Nat) (Option.some Jvm.ClassFile.FieldType.int)) ∈ lw_all := lw_g (lw_at lw_m7 102 rfl) rfl
theorem q1625 : (Jvm.Cond.methodLink "ColdBox$DryingWeek" (19 : Nat) ({ cls := "ColdBox$AnyWeek", name := "tells", desc := "(I)I" } : Jvm.MethodName)) ∈ lw_all := lw_g (lw_at lw_m7 103 rfl) rfl
theorem q2236 : (Jvm.Cond.selects "ColdBox$DryingWeek" ({ cls := "ColdBox$AnyWeek", name := "parches", desc := "(I)I" } : Jvm.MethodName) ({ cls := "ColdBox$AnyWeek", name := "parches", desc := "(I)I" } : Jvm.MethodName)) ∈ lw_all := lw_g (lw_at lw_m9 234 rfl) rfl
theorem q2242 : (Jvm.Cond.castable "ColdBox$DryingWeek" "ColdBox$AnyWeek") ∈ lw_tbl := lw_at lw_m10 0 rfl
theorem in_X32 : ∀ w ∈ wsX320, w ∈ lw_all := lw_in wsX320 [1376, 1377, 1378, 1374] (by decide +kernel) (by decide +kernel)

/-! ColdBox$FrostedWeek -/
set_option maxRecDepth 100000
def RX33 : String := "ColdBox$FrostedWeek"
def TX33 : u_T := fun k => match k with
  | 0 => ("ColdBox$AnyWeek", "number", "I", true)
  | 1 => ("ColdBox$AnyWeek", "about", "I", true)
  | 2 => ("ColdBox$AnyWeek", "this$0", "LColdBox;", true)
  | 3 => ("ColdBox$DeepWeek", "this$0", "LColdBox;", true)
  | _ => ("ColdBox$FrostedWeek", "this$0", "LColdBox;", true)
def tyX33 : Nat → FieldType := fun k => match k with
  | 0 => .int
  | 1 => .int
  | 2 => .object "ColdBox"
  | 3 => .object "ColdBox"
  | _ => .object "ColdBox"
abbrev wsX330 : List Cond := u_ws RX33 TX33 5
-- two fields of one name: no nmX33
theorem tyX33_ok : ∀ k, k < 5 → parseFieldDescriptor (TX33 k).2.2.1 = some (tyX33 k) := by decide +kernel
abbrev cX33_init : ByteArray := prog_16_method_1_code
def yX33_init : MethodName := ⟨RX33, "<init>", "(LColdBox;II)V"⟩
def dkwX33_init_0 : List UInt8 := [42, 43, 181, 0, 1, 42, 43, 28, 29, 183, 0, 7, 177]
abbrev dktX33_init_0 : List UInt8 := dkwX33_init_0 ++ []
theorem dksX33_init_0 : cX33_init.data.toList.drop 0 = dktX33_init_0 := by decide +kernel
theorem dX33_init_0 : decode cX33_init 0 = .ok (.aload_n 0, 1) := dk_42 (dk_at dksX33_init_0 0 rfl rfl)
theorem dX33_init_1 : decode cX33_init 1 = .ok (.aload_n 1, 1) := dk_43 (dk_at dksX33_init_0 1 rfl rfl)
theorem dX33_init_2 : decode cX33_init 2 = .ok (.putfield 1, 3) := dk_181 0 1 (dk_at dksX33_init_0 2 rfl rfl)
theorem dX33_init_5 : decode cX33_init 5 = .ok (.aload_n 0, 1) := dk_42 (dk_at dksX33_init_0 5 rfl rfl)
theorem dX33_init_6 : decode cX33_init 6 = .ok (.aload_n 1, 1) := dk_43 (dk_at dksX33_init_0 6 rfl rfl)
theorem dX33_init_7 : decode cX33_init 7 = .ok (.iload_n 2, 1) := dk_28 (dk_at dksX33_init_0 7 rfl rfl)
theorem dX33_init_8 : decode cX33_init 8 = .ok (.iload_n 3, 1) := dk_29 (dk_at dksX33_init_0 8 rfl rfl)
theorem dX33_init_9 : decode cX33_init 9 = .ok (.invokespecial 7, 3) := dk_183 0 7 (dk_at dksX33_init_0 9 rfl rfl)
theorem dX33_init_12 : decode cX33_init 12 = .ok (.return_, 1) := dk_177 (dk_at dksX33_init_0 12 rfl rfl)
abbrev cX33_spends : ByteArray := prog_16_method_3_code
def yX33_spends : MethodName := ⟨RX33, "spends", "(I)I"⟩
def dkwX33_spends_0 : List UInt8 := [42, 180, 0, 1, 16, 51, 182, 0, 13, 42, 27, 183, 0, 23, 42, 180, 0, 26, 100, 172]
abbrev dktX33_spends_0 : List UInt8 := dkwX33_spends_0 ++ []
theorem dksX33_spends_0 : cX33_spends.data.toList.drop 0 = dktX33_spends_0 := by decide +kernel
theorem dX33_spends_0 : decode cX33_spends 0 = .ok (.aload_n 0, 1) := dk_42 (dk_at dksX33_spends_0 0 rfl rfl)
theorem dX33_spends_1 : decode cX33_spends 1 = .ok (.getfield 1, 3) := dk_180 0 1 (dk_at dksX33_spends_0 1 rfl rfl)
theorem dX33_spends_4 : decode cX33_spends 4 = .ok (.bipush 51, 2) := dk_16 51 (dk_at dksX33_spends_0 4 rfl rfl)
theorem dX33_spends_6 : decode cX33_spends 6 = .ok (.invokevirtual 13, 3) := dk_182 0 13 (dk_at dksX33_spends_0 6 rfl rfl)
theorem dX33_spends_9 : decode cX33_spends 9 = .ok (.aload_n 0, 1) := dk_42 (dk_at dksX33_spends_0 9 rfl rfl)
theorem dX33_spends_10 : decode cX33_spends 10 = .ok (.iload_n 1, 1) := dk_27 (dk_at dksX33_spends_0 10 rfl rfl)
theorem dX33_spends_11 : decode cX33_spends 11 = .ok (.invokespecial 23, 3) := dk_183 0 23 (dk_at dksX33_spends_0 11 rfl rfl)
theorem dX33_spends_14 : decode cX33_spends 14 = .ok (.aload_n 0, 1) := dk_42 (dk_at dksX33_spends_0 14 rfl rfl)
theorem dX33_spends_15 : decode cX33_spends 15 = .ok (.getfield 26, 3) := dk_180 0 26 (dk_at dksX33_spends_0 15 rfl rfl)
theorem dX33_spends_18 : decode cX33_spends 18 = .ok (.isub, 1) := dk_100 (dk_at dksX33_spends_0 18 rfl rfl)
theorem dX33_spends_19 : decode cX33_spends 19 = .ok (.ireturn, 1) := dk_172 (dk_at dksX33_spends_0 19 rfl rfl)
abbrev cX33_shares : ByteArray := prog_16_method_2_code
def yX33_shares : MethodName := ⟨RX33, "shares", "(I)I"⟩
def dkwX33_shares_0 : List UInt8 := [42, 180, 0, 1, 16, 50, 182, 0, 13, 42, 27, 5, 96, 183, 0, 19, 4, 130, 172]
abbrev dktX33_shares_0 : List UInt8 := dkwX33_shares_0 ++ []
theorem dksX33_shares_0 : cX33_shares.data.toList.drop 0 = dktX33_shares_0 := by decide +kernel
theorem dX33_shares_0 : decode cX33_shares 0 = .ok (.aload_n 0, 1) := dk_42 (dk_at dksX33_shares_0 0 rfl rfl)
theorem dX33_shares_1 : decode cX33_shares 1 = .ok (.getfield 1, 3) := dk_180 0 1 (dk_at dksX33_shares_0 1 rfl rfl)
theorem dX33_shares_4 : decode cX33_shares 4 = .ok (.bipush 50, 2) := dk_16 50 (dk_at dksX33_shares_0 4 rfl rfl)
theorem dX33_shares_6 : decode cX33_shares 6 = .ok (.invokevirtual 13, 3) := dk_182 0 13 (dk_at dksX33_shares_0 6 rfl rfl)
theorem dX33_shares_9 : decode cX33_shares 9 = .ok (.aload_n 0, 1) := dk_42 (dk_at dksX33_shares_0 9 rfl rfl)
theorem dX33_shares_10 : decode cX33_shares 10 = .ok (.iload_n 1, 1) := dk_27 (dk_at dksX33_shares_0 10 rfl rfl)
theorem dX33_shares_11 : decode cX33_shares 11 = .ok (.iconst 2, 1) := dk_5 (dk_at dksX33_shares_0 11 rfl rfl)
theorem dX33_shares_12 : decode cX33_shares 12 = .ok (.iadd, 1) := dk_96 (dk_at dksX33_shares_0 12 rfl rfl)
theorem dX33_shares_13 : decode cX33_shares 13 = .ok (.invokespecial 19, 3) := dk_183 0 19 (dk_at dksX33_shares_0 13 rfl rfl)
theorem dX33_shares_16 : decode cX33_shares 16 = .ok (.iconst 1, 1) := dk_4 (dk_at dksX33_shares_0 16 rfl rfl)
theorem dX33_shares_17 : decode cX33_shares 17 = .ok (.ixor, 1) := dk_130 (dk_at dksX33_shares_0 17 rfl rfl)
theorem dX33_shares_18 : decode cX33_shares 18 = .ok (.ireturn, 1) := dk_172 (dk_at dksX33_shares_0 18 rfl rfl)
theorem q127 : (Jvm.Cond.initialized "ColdBox$FrostedWeek") ∈ lw_all := lw_g (lw_at lw_m1 45 rfl) rfl
theorem q1325 : (Jvm.Cond.fieldLink "ColdBox$FrostedWeek" (26 : Nat) "ColdBox$FrostedWeek" "number" "I") ∈ lw_all := lw_g (lw_at lw_m6 43 rfl) rfl
theorem q1326 : (Jvm.Cond.sameField "ColdBox$FrostedWeek" "ColdBox$AnyWeek" "number" "I") ∈ lw_all := lw_g (lw_at lw_m6 44 rfl) rfl
theorem q1384 : (Jvm.Cond.instantiable "ColdBox$FrostedWeek" (5 : Nat)) ∈ lw_all := lw_g (lw_at lw_m6 102 rfl) rfl
theorem q1386 : (Jvm.Cond.instanceMethod ({ cls := "ColdBox$FrostedWeek", name := "<init>", desc := "(LColdBox;II)V" } : Jvm.MethodName)) ∈ lw_all := lw_g (lw_at lw_m6 104 rfl) rfl
theorem q1387 : (Jvm.Cond.code ({ cls := "ColdBox$FrostedWeek", name := "<init>", desc := "(LColdBox;II)V" } : Jvm.MethodName) prog_16_method_1_code (4 : Nat) (Option.none : Option Jvm.ClassFile.FieldType)) ∈ lw_all := lw_g (lw_at lw_m6 105 rfl) rfl
theorem q1388 : (Jvm.Cond.methodLink "ColdBox$FrostedWeek" (7 : Nat) ({ cls := "ColdBox$DeepWeek", name := "<init>", desc := "(LColdBox;II)V" } : Jvm.MethodName)) ∈ lw_all := lw_g (lw_at lw_m6 106 rfl) rfl
theorem q1389 : (Jvm.Cond.fieldLink "ColdBox$FrostedWeek" (1 : Nat) "ColdBox$FrostedWeek" "this$0" "LColdBox;") ∈ lw_all := lw_g (lw_at lw_m6 107 rfl) rfl
theorem q1390 : (Jvm.Cond.laysFinal "ColdBox$FrostedWeek" "ColdBox$FrostedWeek" "this$0" "LColdBox;") ∈ lw_all := lw_g (lw_at lw_m6 108 rfl) rfl
theorem q1391 : (Jvm.Cond.soleField "ColdBox$FrostedWeek" "this$0") ∈ lw_all := lw_g (lw_at lw_m6 109 rfl) rfl
theorem q1392 : (Jvm.Cond.laysFinal "ColdBox$FrostedWeek" "ColdBox$DeepWeek" "this$0" "LColdBox;") ∈ lw_all := lw_g (lw_at lw_m6 110 rfl) rfl
theorem q1393 : (Jvm.Cond.laysFinal "ColdBox$FrostedWeek" "ColdBox$AnyWeek" "number" "I") ∈ lw_all := lw_g (lw_at lw_m6 111 rfl) rfl
theorem q1394 : (Jvm.Cond.laysFinal "ColdBox$FrostedWeek" "ColdBox$AnyWeek" "about" "I") ∈ lw_all := lw_g (lw_at lw_m6 112 rfl) rfl
theorem q1395 : (Jvm.Cond.laysFinal "ColdBox$FrostedWeek" "ColdBox$AnyWeek" "this$0" "LColdBox;") ∈ lw_all := lw_g (lw_at lw_m6 113 rfl) rfl
theorem q1396 : (Jvm.Cond.superclass "ColdBox$FrostedWeek" "ColdBox$DeepWeek") ∈ lw_all := lw_g (lw_at lw_m6 114 rfl) rfl
theorem q1429 : (Jvm.Cond.selects "ColdBox$FrostedWeek" ({ cls := "ColdBox$AnyWeek", name := "its", desc := "()I" } : Jvm.MethodName) ({ cls := "ColdBox$AnyWeek", name := "its", desc := "()I" } : Jvm.MethodName)) ∈ lw_all := lw_g (lw_at lw_m6 147 rfl) rfl
theorem q1437 : (Jvm.Cond.selects "ColdBox$FrostedWeek" ({ cls := "ColdBox$DeepWeek", name := "its", desc := "()I" } : Jvm.MethodName) ({ cls := "ColdBox$AnyWeek", name := "its", desc := "()I" } : Jvm.MethodName)) ∈ lw_all := lw_g (lw_at lw_m6 155 rfl) rfl
theorem q1449 : (Jvm.Cond.sameMethod "ColdBox$FrostedWeek" "ColdBox$AnyWeek" "its" "()I") ∈ lw_all := lw_g (lw_at lw_m6 167 rfl) rfl
theorem q1450 : (Jvm.Cond.selects "ColdBox$FrostedWeek" ({ cls := "ColdBox$FrostedWeek", name := "its", desc := "()I" } : Jvm.MethodName) ({ cls := "ColdBox$AnyWeek", name := "its", desc := "()I" } : Jvm.MethodName)) ∈ lw_all := lw_g (lw_at lw_m6 168 rfl) rfl
theorem q1511 : (Jvm.Cond.castable "ColdBox$FrostedWeek" "ColdBox$Tells") ∈ lw_tbl := lw_at lw_m6 229 rfl
theorem q1512 : (Jvm.Cond.selects "ColdBox$FrostedWeek" ({ cls := "ColdBox$SpendsAct", name := "spends", desc := "(I)I" } : Jvm.MethodName) ({ cls := "ColdBox$FrostedWeek", name := "spends", desc := "(I)I" } : Jvm.MethodName)) ∈ lw_all := lw_g (lw_at lw_m6 230 rfl) rfl
theorem q1513 : (Jvm.Cond.unhidden "ColdBox$FrostedWeek" "spends" "(I)I") ∈ lw_tbl := lw_at lw_m6 231 rfl
theorem q1514 : (Jvm.Cond.instanceMethod ({ cls := "ColdBox$FrostedWeek", name := "spends", desc := "(I)I" } : Jvm.MethodName)) ∈ lw_all := lw_g (lw_at lw_m6 232 rfl) rfl
theorem q1515 : (Jvm.Cond.publicMethod ({ cls := "ColdBox$FrostedWeek", name := "spends", desc := "(I)I" } : Jvm.MethodName)) ∈ lw_tbl := lw_at lw_m6 233 rfl
theorem q1516 : (Jvm.Cond.code ({ cls := "ColdBox$FrostedWeek", name := "spends", desc := "(I)I" } : Jvm.MethodName) prog_16_method_3_code (2 : Nat) (Option.some Jvm.ClassFile.FieldType.int)) ∈ lw_all := lw_g (lw_at lw_m6 234 rfl) rfl
theorem q1517 : (Jvm.Cond.methodLinkNest "ColdBox$FrostedWeek" (13 : Nat) ({ cls := "ColdBox", name := "ran", desc := "(I)V" } : Jvm.MethodName) "ColdBox") ∈ lw_tbl := lw_at lw_m6 235 rfl
theorem q1518 : (Jvm.Cond.methodLink "ColdBox$FrostedWeek" (23 : Nat) ({ cls := "ColdBox$DeepWeek", name := "spends", desc := "(I)I" } : Jvm.MethodName)) ∈ lw_all := lw_g (lw_at lw_m6 236 rfl) rfl
theorem q1542 : (Jvm.Cond.castable "ColdBox$FrostedWeek" "ColdBox$SpendsAct") ∈ lw_tbl := lw_at lw_m7 20 rfl
theorem q1562 : (Jvm.Cond.selects "ColdBox$FrostedWeek" ({ cls := "ColdBox$SpendsAct", name := "parches", desc := "(I)I" } : Jvm.MethodName) ({ cls := "ColdBox$DeepWeek", name := "parches", desc := "(I)I" } : Jvm.MethodName)) ∈ lw_all := lw_g (lw_at lw_m7 40 rfl) rfl
theorem q1563 : (Jvm.Cond.unhidden "ColdBox$FrostedWeek" "parches" "(I)I") ∈ lw_tbl := lw_at lw_m7 41 rfl
theorem q1588 : (Jvm.Cond.selects "ColdBox$FrostedWeek" ({ cls := "ColdBox$SharesAct", name := "shares", desc := "(I)I" } : Jvm.MethodName) ({ cls := "ColdBox$FrostedWeek", name := "shares", desc := "(I)I" } : Jvm.MethodName)) ∈ lw_all := lw_g (lw_at lw_m7 66 rfl) rfl
theorem q1589 : (Jvm.Cond.unhidden "ColdBox$FrostedWeek" "shares" "(I)I") ∈ lw_tbl := lw_at lw_m7 67 rfl
theorem q1590 : (Jvm.Cond.instanceMethod ({ cls := "ColdBox$FrostedWeek", name := "shares", desc := "(I)I" } : Jvm.MethodName)) ∈ lw_all := lw_g (lw_at lw_m7 68 rfl) rfl
theorem q1591 : (Jvm.Cond.publicMethod ({ cls := "ColdBox$FrostedWeek", name := "shares", desc := "(I)I" } : Jvm.MethodName)) ∈ lw_tbl := lw_at lw_m7 69 rfl
theorem q1592 : (Jvm.Cond.code ({ cls := "ColdBox$FrostedWeek", name := "shares", desc := "(I)I" } : Jvm.MethodName) prog_16_method_2_code (2 : Nat) (Option.some Jvm.ClassFile.FieldType.int)) ∈ lw_all := lw_g (lw_at lw_m7 70 rfl) rfl
theorem q1593 : (Jvm.Cond.methodLink "ColdBox$FrostedWeek" (19 : Nat) ({ cls := "ColdBox$DeepWeek", name := "shares", desc := "(I)I" } : Jvm.MethodName)) ∈ lw_all := lw_g (lw_at lw_m7 71 rfl) rfl
theorem q1626 : (Jvm.Cond.selects "ColdBox$FrostedWeek" ({ cls := "ColdBox$Tells", name := "tells", desc := "(I)I" } : Jvm.MethodName) ({ cls := "ColdBox$AnyWeek", name := "tells", desc := "(I)I" } : Jvm.MethodName)) ∈ lw_all := lw_g (lw_at lw_m7 104 rfl) rfl
theorem q1627 : (Jvm.Cond.unhidden "ColdBox$FrostedWeek" "tells" "(I)I") ∈ lw_tbl := lw_at lw_m7 105 rfl
theorem q2237 : (Jvm.Cond.selects "ColdBox$FrostedWeek" ({ cls := "ColdBox$AnyWeek", name := "parches", desc := "(I)I" } : Jvm.MethodName) ({ cls := "ColdBox$DeepWeek", name := "parches", desc := "(I)I" } : Jvm.MethodName)) ∈ lw_all := lw_g (lw_at lw_m9 235 rfl) rfl
theorem q2243 : (Jvm.Cond.castable "ColdBox$FrostedWeek" "ColdBox$AnyWeek") ∈ lw_tbl := lw_at lw_m10 1 rfl
theorem q2245 : (Jvm.Cond.castable "ColdBox$FrostedWeek" "ColdBox$DeepWeek") ∈ lw_tbl := lw_at lw_m10 3 rfl
theorem in_X33 : ∀ w ∈ wsX330, w ∈ lw_all := lw_in wsX330 [1393, 1394, 1395, 1392, 1390] (by decide +kernel) (by decide +kernel)

/-! ColdBox$SpendsAct -/
set_option maxRecDepth 100000
def RX34 : String := "ColdBox$SpendsAct"
abbrev cX34_parches : ByteArray := prog_32_method_2_code
def yX34_parches : MethodName := ⟨RX34, "parches", "(I)I"⟩
def dkwX34_parches_0 : List UInt8 := [42, 27, 185, 0, 1, 2, 0, 5, 104, 172]
abbrev dktX34_parches_0 : List UInt8 := dkwX34_parches_0 ++ []
theorem dksX34_parches_0 : cX34_parches.data.toList.drop 0 = dktX34_parches_0 := by decide +kernel
theorem dX34_parches_0 : decode cX34_parches 0 = .ok (.aload_n 0, 1) := dk_42 (dk_at dksX34_parches_0 0 rfl rfl)
theorem dX34_parches_1 : decode cX34_parches 1 = .ok (.iload_n 1, 1) := dk_27 (dk_at dksX34_parches_0 1 rfl rfl)
theorem dX34_parches_2 : decode cX34_parches 2 = .ok (.invokeinterface 1 2, 5) := by decide +kernel
theorem dX34_parches_7 : decode cX34_parches 7 = .ok (.iconst 2, 1) := dk_5 (dk_at dksX34_parches_0 7 rfl rfl)
theorem dX34_parches_8 : decode cX34_parches 8 = .ok (.imul, 1) := dk_104 (dk_at dksX34_parches_0 8 rfl rfl)
theorem dX34_parches_9 : decode cX34_parches 9 = .ok (.ireturn, 1) := dk_172 (dk_at dksX34_parches_0 9 rfl rfl)
theorem q1481 : (Jvm.Cond.publicMethod ({ cls := "ColdBox$SpendsAct", name := "spends", desc := "(I)I" } : Jvm.MethodName)) ∈ lw_tbl := lw_at lw_m6 199 rfl
theorem q1482 : (Jvm.Cond.declares ({ cls := "ColdBox$SpendsAct", name := "spends", desc := "(I)I" } : Jvm.MethodName)) ∈ lw_tbl := lw_at lw_m6 200 rfl
theorem q1526 : (Jvm.Cond.publicMethod ({ cls := "ColdBox$SpendsAct", name := "parches", desc := "(I)I" } : Jvm.MethodName)) ∈ lw_tbl := lw_at lw_m7 4 rfl
theorem q1527 : (Jvm.Cond.declares ({ cls := "ColdBox$SpendsAct", name := "parches", desc := "(I)I" } : Jvm.MethodName)) ∈ lw_tbl := lw_at lw_m7 5 rfl
theorem q1533 : (Jvm.Cond.instanceMethod ({ cls := "ColdBox$SpendsAct", name := "parches", desc := "(I)I" } : Jvm.MethodName)) ∈ lw_all := lw_g (lw_at lw_m7 11 rfl) rfl
theorem q1534 : (Jvm.Cond.code ({ cls := "ColdBox$SpendsAct", name := "parches", desc := "(I)I" } : Jvm.MethodName) prog_32_method_2_code (2 : Nat) (Option.some Jvm.ClassFile.FieldType.int)) ∈ lw_all := lw_g (lw_at lw_m7 12 rfl) rfl
theorem q1535 : (Jvm.Cond.interfaceEntry "ColdBox$SpendsAct" (1 : Nat)) ∈ lw_tbl := lw_at lw_m7 13 rfl
theorem q1536 : (Jvm.Cond.methodLink "ColdBox$SpendsAct" (1 : Nat) ({ cls := "ColdBox$SpendsAct", name := "spends", desc := "(I)I" } : Jvm.MethodName)) ∈ lw_all := lw_g (lw_at lw_m7 14 rfl) rfl
theorem q1537 : (Jvm.Cond.interfaceMethod "ColdBox$SpendsAct" "ColdBox$SpendsAct" "spends" "(I)I") ∈ lw_tbl := lw_at lw_m7 15 rfl

/-! ColdBox$Plain -/
set_option maxRecDepth 100000
def RX4 : String := "ColdBox$Plain"
def TX4 : u_T := fun k => match k with
  | 0 => ("ColdBox$Nature", "this$0", "LColdBox;", true)
  | _ => ("ColdBox$Plain", "this$0", "LColdBox;", true)
def tyX4 : Nat → FieldType := fun k => match k with
  | 0 => .object "ColdBox"
  | _ => .object "ColdBox"
abbrev wsX40 : List Cond := u_ws RX4 TX4 2
-- two fields of one name: no nmX4
theorem tyX4_ok : ∀ k, k < 2 → parseFieldDescriptor (TX4 k).2.2.1 = some (tyX4 k) := by decide +kernel
abbrev cX4_init : ByteArray := prog_24_method_1_code
def yX4_init : MethodName := ⟨RX4, "<init>", "(LColdBox;)V"⟩
def dkwX4_init_0 : List UInt8 := [42, 43, 181, 0, 3, 42, 43, 183, 0, 9, 177]
abbrev dktX4_init_0 : List UInt8 := dkwX4_init_0 ++ []
theorem dksX4_init_0 : cX4_init.data.toList.drop 0 = dktX4_init_0 := by decide +kernel
theorem dX4_init_0 : decode cX4_init 0 = .ok (.aload_n 0, 1) := dk_42 (dk_at dksX4_init_0 0 rfl rfl)
theorem dX4_init_1 : decode cX4_init 1 = .ok (.aload_n 1, 1) := dk_43 (dk_at dksX4_init_0 1 rfl rfl)
theorem dX4_init_2 : decode cX4_init 2 = .ok (.putfield 3, 3) := dk_181 0 3 (dk_at dksX4_init_0 2 rfl rfl)
theorem dX4_init_5 : decode cX4_init 5 = .ok (.aload_n 0, 1) := dk_42 (dk_at dksX4_init_0 5 rfl rfl)
theorem dX4_init_6 : decode cX4_init 6 = .ok (.aload_n 1, 1) := dk_43 (dk_at dksX4_init_0 6 rfl rfl)
theorem dX4_init_7 : decode cX4_init 7 = .ok (.invokespecial 9, 3) := dk_183 0 9 (dk_at dksX4_init_0 7 rfl rfl)
theorem dX4_init_10 : decode cX4_init 10 = .ok (.return_, 1) := dk_177 (dk_at dksX4_init_0 10 rfl rfl)
abbrev cX4_uses : ByteArray := prog_24_method_2_code
def yX4_uses : MethodName := ⟨RX4, "uses", "(LColdBox$Body;I)I"⟩
def dkwX4_uses_0 : List UInt8 := [43, 182, 0, 15, 42, 180, 0, 3, 180, 0, 21, 28, 182, 0, 25, 104, 17, 3, 232, 108, 172]
abbrev dktX4_uses_0 : List UInt8 := dkwX4_uses_0 ++ []
theorem dksX4_uses_0 : cX4_uses.data.toList.drop 0 = dktX4_uses_0 := by decide +kernel
theorem dX4_uses_0 : decode cX4_uses 0 = .ok (.aload_n 1, 1) := dk_43 (dk_at dksX4_uses_0 0 rfl rfl)
theorem dX4_uses_1 : decode cX4_uses 1 = .ok (.invokevirtual 15, 3) := dk_182 0 15 (dk_at dksX4_uses_0 1 rfl rfl)
theorem dX4_uses_4 : decode cX4_uses 4 = .ok (.aload_n 0, 1) := dk_42 (dk_at dksX4_uses_0 4 rfl rfl)
theorem dX4_uses_5 : decode cX4_uses 5 = .ok (.getfield 3, 3) := dk_180 0 3 (dk_at dksX4_uses_0 5 rfl rfl)
theorem dX4_uses_8 : decode cX4_uses 8 = .ok (.getfield 21, 3) := dk_180 0 21 (dk_at dksX4_uses_0 8 rfl rfl)
theorem dX4_uses_11 : decode cX4_uses 11 = .ok (.iload_n 2, 1) := dk_28 (dk_at dksX4_uses_0 11 rfl rfl)
theorem dX4_uses_12 : decode cX4_uses 12 = .ok (.invokevirtual 25, 3) := dk_182 0 25 (dk_at dksX4_uses_0 12 rfl rfl)
theorem dX4_uses_15 : decode cX4_uses 15 = .ok (.imul, 1) := dk_104 (dk_at dksX4_uses_0 15 rfl rfl)
theorem dX4_uses_16 : decode cX4_uses 16 = .ok (.sipush 1000, 3) := dk_17 3 232 (dk_at dksX4_uses_0 16 rfl rfl)
theorem dX4_uses_19 : decode cX4_uses 19 = .ok (.idiv, 1) := dk_108 (dk_at dksX4_uses_0 19 rfl rfl)
theorem dX4_uses_20 : decode cX4_uses 20 = .ok (.ireturn, 1) := dk_172 (dk_at dksX4_uses_0 20 rfl rfl)
abbrev cX4_dries : ByteArray := prog_24_method_3_code
def yX4_dries : MethodName := ⟨RX4, "dries", "(I)I"⟩
def dkwX4_dries_0 : List UInt8 := [16, 10, 27, 100, 5, 104, 172]
abbrev dktX4_dries_0 : List UInt8 := dkwX4_dries_0 ++ []
theorem dksX4_dries_0 : cX4_dries.data.toList.drop 0 = dktX4_dries_0 := by decide +kernel
theorem dX4_dries_0 : decode cX4_dries 0 = .ok (.bipush 10, 2) := dk_16 10 (dk_at dksX4_dries_0 0 rfl rfl)
theorem dX4_dries_2 : decode cX4_dries 2 = .ok (.iload_n 1, 1) := dk_27 (dk_at dksX4_dries_0 2 rfl rfl)
theorem dX4_dries_3 : decode cX4_dries 3 = .ok (.isub, 1) := dk_100 (dk_at dksX4_dries_0 3 rfl rfl)
theorem dX4_dries_4 : decode cX4_dries 4 = .ok (.iconst 2, 1) := dk_5 (dk_at dksX4_dries_0 4 rfl rfl)
theorem dX4_dries_5 : decode cX4_dries 5 = .ok (.imul, 1) := dk_104 (dk_at dksX4_dries_0 5 rfl rfl)
theorem dX4_dries_6 : decode cX4_dries 6 = .ok (.ireturn, 1) := dk_172 (dk_at dksX4_dries_0 6 rfl rfl)
abbrev cX4_thing : ByteArray := prog_24_method_4_code
def yX4_thing : MethodName := ⟨RX4, "thing", "(II)LColdBox$Tells;"⟩
def dkwX4_thing_0 : List UInt8 := [187, 0, 31, 89, 42, 180, 0, 3, 27, 28, 183, 0, 33, 176]
abbrev dktX4_thing_0 : List UInt8 := dkwX4_thing_0 ++ []
theorem dksX4_thing_0 : cX4_thing.data.toList.drop 0 = dktX4_thing_0 := by decide +kernel
theorem dX4_thing_0 : decode cX4_thing 0 = .ok (.new 31, 3) := dk_187 0 31 (dk_at dksX4_thing_0 0 rfl rfl)
theorem dX4_thing_3 : decode cX4_thing 3 = .ok (.dup, 1) := dk_89 (dk_at dksX4_thing_0 3 rfl rfl)
theorem dX4_thing_4 : decode cX4_thing 4 = .ok (.aload_n 0, 1) := dk_42 (dk_at dksX4_thing_0 4 rfl rfl)
theorem dX4_thing_5 : decode cX4_thing 5 = .ok (.getfield 3, 3) := dk_180 0 3 (dk_at dksX4_thing_0 5 rfl rfl)
theorem dX4_thing_8 : decode cX4_thing 8 = .ok (.iload_n 1, 1) := dk_27 (dk_at dksX4_thing_0 8 rfl rfl)
theorem dX4_thing_9 : decode cX4_thing 9 = .ok (.iload_n 2, 1) := dk_28 (dk_at dksX4_thing_0 9 rfl rfl)
theorem dX4_thing_10 : decode cX4_thing 10 = .ok (.invokespecial 33, 3) := dk_183 0 33 (dk_at dksX4_thing_0 10 rfl rfl)
theorem dX4_thing_13 : decode cX4_thing 13 = .ok (.areturn, 1) := dk_176 (dk_at dksX4_thing_0 13 rfl rfl)
theorem q87 : (Jvm.Cond.initialized "ColdBox$Plain") ∈ lw_all := lw_g (lw_at lw_m1 5 rfl) rfl
theorem q238 : (Jvm.Cond.instantiable "ColdBox$Plain" (2 : Nat)) ∈ lw_all := lw_g (lw_at lw_m1 156 rfl) rfl
theorem q240 : (Jvm.Cond.instanceMethod ({ cls := "ColdBox$Plain", name := "<init>", desc := "(LColdBox;)V" } : Jvm.MethodName)) ∈ lw_all := lw_g (lw_at lw_m1 158 rfl) rfl
theorem q241 : (Jvm.Cond.code ({ cls := "ColdBox$Plain", name := "<init>", desc := "(LColdBox;)V" } : Jvm.MethodName) prog_24_method_1_code (2 : Nat) (Option.none : Option Jvm.ClassFile.FieldType)) ∈ lw_all := lw_g (lw_at lw_m1 159 rfl) rfl
theorem q242 : (Jvm.Cond.methodLinkNest "ColdBox$Plain" (9 : Nat) ({ cls := "ColdBox$Nature", name := "<init>", desc := "(LColdBox;)V" } : Jvm.MethodName) "ColdBox") ∈ lw_tbl := lw_at lw_m1 160 rfl
theorem q246 : (Jvm.Cond.fieldLink "ColdBox$Plain" (3 : Nat) "ColdBox$Plain" "this$0" "LColdBox;") ∈ lw_all := lw_g (lw_at lw_m1 164 rfl) rfl
theorem q248 : (Jvm.Cond.laysFinal "ColdBox$Plain" "ColdBox$Plain" "this$0" "LColdBox;") ∈ lw_all := lw_g (lw_at lw_m1 166 rfl) rfl
theorem q249 : (Jvm.Cond.soleField "ColdBox$Plain" "this$0") ∈ lw_all := lw_g (lw_at lw_m1 167 rfl) rfl
theorem q250 : (Jvm.Cond.laysFinal "ColdBox$Plain" "ColdBox$Nature" "this$0" "LColdBox;") ∈ lw_all := lw_g (lw_at lw_m1 168 rfl) rfl
theorem q252 : (Jvm.Cond.superclass "ColdBox$Plain" "ColdBox$Nature") ∈ lw_all := lw_g (lw_at lw_m1 170 rfl) rfl
theorem q563 : (Jvm.Cond.fieldLinkNest "ColdBox$Plain" (21 : Nat) "ColdBox" "d" "LColdBox$Winter;" "ColdBox") ∈ lw_tbl := lw_at lw_m3 1 rfl
theorem q946 : (Jvm.Cond.instanceMethod ({ cls := "ColdBox$Plain", name := "uses", desc := "(LColdBox$Body;I)I" } : Jvm.MethodName)) ∈ lw_all := lw_g (lw_at lw_m4 144 rfl) rfl
theorem q947 : (Jvm.Cond.code ({ cls := "ColdBox$Plain", name := "uses", desc := "(LColdBox$Body;I)I" } : Jvm.MethodName) prog_24_method_2_code (3 : Nat) (Option.some Jvm.ClassFile.FieldType.int)) ∈ lw_all := lw_g (lw_at lw_m4 145 rfl) rfl
theorem q948 : (Jvm.Cond.methodLink "ColdBox$Plain" (15 : Nat) ({ cls := "ColdBox$Body", name := "weight", desc := "()I" } : Jvm.MethodName)) ∈ lw_all := lw_g (lw_at lw_m4 146 rfl) rfl
theorem q949 : (Jvm.Cond.methodLink "ColdBox$Plain" (25 : Nat) ({ cls := "ColdBox$Winter", name := "rate", desc := "(I)I" } : Jvm.MethodName)) ∈ lw_all := lw_g (lw_at lw_m4 147 rfl) rfl
theorem q957 : (Jvm.Cond.selects "ColdBox$Plain" ({ cls := "ColdBox$Nature", name := "uses", desc := "(LColdBox$Body;I)I" } : Jvm.MethodName) ({ cls := "ColdBox$Plain", name := "uses", desc := "(LColdBox$Body;I)I" } : Jvm.MethodName)) ∈ lw_all := lw_g (lw_at lw_m4 155 rfl) rfl
theorem q972 : (Jvm.Cond.instanceMethod ({ cls := "ColdBox$Plain", name := "dries", desc := "(I)I" } : Jvm.MethodName)) ∈ lw_all := lw_g (lw_at lw_m4 170 rfl) rfl
theorem q973 : (Jvm.Cond.code ({ cls := "ColdBox$Plain", name := "dries", desc := "(I)I" } : Jvm.MethodName) prog_24_method_3_code (2 : Nat) (Option.some Jvm.ClassFile.FieldType.int)) ∈ lw_all := lw_g (lw_at lw_m4 171 rfl) rfl
theorem q987 : (Jvm.Cond.selects "ColdBox$Plain" ({ cls := "ColdBox$Nature", name := "dries", desc := "(I)I" } : Jvm.MethodName) ({ cls := "ColdBox$Plain", name := "dries", desc := "(I)I" } : Jvm.MethodName)) ∈ lw_all := lw_g (lw_at lw_m4 185 rfl) rfl
theorem q1013 : (Jvm.Cond.selects "ColdBox$Plain" ({ cls := "ColdBox$Nature", name := "harms", desc := "()I" } : Jvm.MethodName) ({ cls := "ColdBox$Nature", name := "harms", desc := "()I" } : Jvm.MethodName)) ∈ lw_all := lw_g (lw_at lw_m4 211 rfl) rfl
theorem q1408 : (Jvm.Cond.selects "ColdBox$Plain" ({ cls := "ColdBox$Nature", name := "thing", desc := "(II)LColdBox$Tells;" } : Jvm.MethodName) ({ cls := "ColdBox$Plain", name := "thing", desc := "(II)LColdBox$Tells;" } : Jvm.MethodName)) ∈ lw_all := lw_g (lw_at lw_m6 126 rfl) rfl
theorem q1409 : (Jvm.Cond.instanceMethod ({ cls := "ColdBox$Plain", name := "thing", desc := "(II)LColdBox$Tells;" } : Jvm.MethodName)) ∈ lw_all := lw_g (lw_at lw_m6 127 rfl) rfl
theorem q1410 : (Jvm.Cond.code ({ cls := "ColdBox$Plain", name := "thing", desc := "(II)LColdBox$Tells;" } : Jvm.MethodName) prog_24_method_4_code (3 : Nat) (Option.some (Jvm.ClassFile.FieldType.object "ColdBox$Tells"))) ∈ lw_all := lw_g (lw_at lw_m6 128 rfl) rfl
theorem q1411 : (Jvm.Cond.classLink "ColdBox$Plain" (31 : Nat) "ColdBox$AnyWeek") ∈ lw_all := lw_g (lw_at lw_m6 129 rfl) rfl
theorem q1413 : (Jvm.Cond.methodLink "ColdBox$Plain" (33 : Nat) ({ cls := "ColdBox$AnyWeek", name := "<init>", desc := "(LColdBox;II)V" } : Jvm.MethodName)) ∈ lw_all := lw_g (lw_at lw_m6 131 rfl) rfl
theorem q2224 : (Jvm.Cond.sameMethod "ColdBox$Plain" "ColdBox$Plain" "uses" "(LColdBox$Body;I)I") ∈ lw_all := lw_g (lw_at lw_m9 222 rfl) rfl
theorem q2226 : (Jvm.Cond.sameMethod "ColdBox$Plain" "ColdBox$Plain" "dries" "(I)I") ∈ lw_all := lw_g (lw_at lw_m9 224 rfl) rfl
theorem q2251 : (Jvm.Cond.castable "ColdBox$Plain" "ColdBox$Nature") ∈ lw_tbl := lw_at lw_m10 9 rfl
theorem in_X4 : ∀ w ∈ wsX40, w ∈ lw_all := lw_in wsX40 [250, 248] (by decide +kernel) (by decide +kernel)

/-! ColdBox$Deep -/
set_option maxRecDepth 100000
def RX5 : String := "ColdBox$Deep"
def TX5 : u_T := fun k => match k with
  | 0 => ("ColdBox$Nature", "this$0", "LColdBox;", true)
  | 1 => ("ColdBox$Plain", "this$0", "LColdBox;", true)
  | _ => ("ColdBox$Deep", "this$0", "LColdBox;", true)
def tyX5 : Nat → FieldType := fun k => match k with
  | 0 => .object "ColdBox"
  | 1 => .object "ColdBox"
  | _ => .object "ColdBox"
abbrev wsX50 : List Cond := u_ws RX5 TX5 3
-- two fields of one name: no nmX5
theorem tyX5_ok : ∀ k, k < 3 → parseFieldDescriptor (TX5 k).2.2.1 = some (tyX5 k) := by decide +kernel
abbrev cX5_init : ByteArray := prog_9_method_1_code
def yX5_init : MethodName := ⟨RX5, "<init>", "(LColdBox;)V"⟩
def dkwX5_init_0 : List UInt8 := [42, 43, 181, 0, 1, 42, 43, 183, 0, 7, 177]
abbrev dktX5_init_0 : List UInt8 := dkwX5_init_0 ++ []
theorem dksX5_init_0 : cX5_init.data.toList.drop 0 = dktX5_init_0 := by decide +kernel
theorem dX5_init_0 : decode cX5_init 0 = .ok (.aload_n 0, 1) := dk_42 (dk_at dksX5_init_0 0 rfl rfl)
theorem dX5_init_1 : decode cX5_init 1 = .ok (.aload_n 1, 1) := dk_43 (dk_at dksX5_init_0 1 rfl rfl)
theorem dX5_init_2 : decode cX5_init 2 = .ok (.putfield 1, 3) := dk_181 0 1 (dk_at dksX5_init_0 2 rfl rfl)
theorem dX5_init_5 : decode cX5_init 5 = .ok (.aload_n 0, 1) := dk_42 (dk_at dksX5_init_0 5 rfl rfl)
theorem dX5_init_6 : decode cX5_init 6 = .ok (.aload_n 1, 1) := dk_43 (dk_at dksX5_init_0 6 rfl rfl)
theorem dX5_init_7 : decode cX5_init 7 = .ok (.invokespecial 7, 3) := dk_183 0 7 (dk_at dksX5_init_0 7 rfl rfl)
theorem dX5_init_10 : decode cX5_init 10 = .ok (.return_, 1) := dk_177 (dk_at dksX5_init_0 10 rfl rfl)
abbrev cX5_uses : ByteArray := prog_9_method_2_code
def yX5_uses : MethodName := ⟨RX5, "uses", "(LColdBox$Body;I)I"⟩
def dkwX5_uses_0 : List UInt8 := [42, 43, 28, 183, 0, 13, 6, 104, 7, 108, 172]
abbrev dktX5_uses_0 : List UInt8 := dkwX5_uses_0 ++ []
theorem dksX5_uses_0 : cX5_uses.data.toList.drop 0 = dktX5_uses_0 := by decide +kernel
theorem dX5_uses_0 : decode cX5_uses 0 = .ok (.aload_n 0, 1) := dk_42 (dk_at dksX5_uses_0 0 rfl rfl)
theorem dX5_uses_1 : decode cX5_uses 1 = .ok (.aload_n 1, 1) := dk_43 (dk_at dksX5_uses_0 1 rfl rfl)
theorem dX5_uses_2 : decode cX5_uses 2 = .ok (.iload_n 2, 1) := dk_28 (dk_at dksX5_uses_0 2 rfl rfl)
theorem dX5_uses_3 : decode cX5_uses 3 = .ok (.invokespecial 13, 3) := dk_183 0 13 (dk_at dksX5_uses_0 3 rfl rfl)
theorem dX5_uses_6 : decode cX5_uses 6 = .ok (.iconst 3, 1) := dk_6 (dk_at dksX5_uses_0 6 rfl rfl)
theorem dX5_uses_7 : decode cX5_uses 7 = .ok (.imul, 1) := dk_104 (dk_at dksX5_uses_0 7 rfl rfl)
theorem dX5_uses_8 : decode cX5_uses 8 = .ok (.iconst 4, 1) := dk_7 (dk_at dksX5_uses_0 8 rfl rfl)
theorem dX5_uses_9 : decode cX5_uses 9 = .ok (.idiv, 1) := dk_108 (dk_at dksX5_uses_0 9 rfl rfl)
theorem dX5_uses_10 : decode cX5_uses 10 = .ok (.ireturn, 1) := dk_172 (dk_at dksX5_uses_0 10 rfl rfl)
abbrev cX5_dries : ByteArray := prog_9_method_3_code
def yX5_dries : MethodName := ⟨RX5, "dries", "(I)I"⟩
def dkwX5_dries_0 : List UInt8 := [42, 27, 183, 0, 17, 5, 108, 172]
abbrev dktX5_dries_0 : List UInt8 := dkwX5_dries_0 ++ []
theorem dksX5_dries_0 : cX5_dries.data.toList.drop 0 = dktX5_dries_0 := by decide +kernel
theorem dX5_dries_0 : decode cX5_dries 0 = .ok (.aload_n 0, 1) := dk_42 (dk_at dksX5_dries_0 0 rfl rfl)
theorem dX5_dries_1 : decode cX5_dries 1 = .ok (.iload_n 1, 1) := dk_27 (dk_at dksX5_dries_0 1 rfl rfl)
theorem dX5_dries_2 : decode cX5_dries 2 = .ok (.invokespecial 17, 3) := dk_183 0 17 (dk_at dksX5_dries_0 2 rfl rfl)
theorem dX5_dries_5 : decode cX5_dries 5 = .ok (.iconst 2, 1) := dk_5 (dk_at dksX5_dries_0 5 rfl rfl)
theorem dX5_dries_6 : decode cX5_dries 6 = .ok (.idiv, 1) := dk_108 (dk_at dksX5_dries_0 6 rfl rfl)
theorem dX5_dries_7 : decode cX5_dries 7 = .ok (.ireturn, 1) := dk_172 (dk_at dksX5_dries_0 7 rfl rfl)
abbrev cX5_thing : ByteArray := prog_9_method_4_code
def yX5_thing : MethodName := ⟨RX5, "thing", "(II)LColdBox$Tells;"⟩
def dkwX5_thing_0 : List UInt8 := [187, 0, 21, 89, 42, 180, 0, 1, 27, 28, 183, 0, 23, 176]
abbrev dktX5_thing_0 : List UInt8 := dkwX5_thing_0 ++ []
theorem dksX5_thing_0 : cX5_thing.data.toList.drop 0 = dktX5_thing_0 := by decide +kernel
theorem dX5_thing_0 : decode cX5_thing 0 = .ok (.new 21, 3) := dk_187 0 21 (dk_at dksX5_thing_0 0 rfl rfl)
theorem dX5_thing_3 : decode cX5_thing 3 = .ok (.dup, 1) := dk_89 (dk_at dksX5_thing_0 3 rfl rfl)
theorem dX5_thing_4 : decode cX5_thing 4 = .ok (.aload_n 0, 1) := dk_42 (dk_at dksX5_thing_0 4 rfl rfl)
theorem dX5_thing_5 : decode cX5_thing 5 = .ok (.getfield 1, 3) := dk_180 0 1 (dk_at dksX5_thing_0 5 rfl rfl)
theorem dX5_thing_8 : decode cX5_thing 8 = .ok (.iload_n 1, 1) := dk_27 (dk_at dksX5_thing_0 8 rfl rfl)
theorem dX5_thing_9 : decode cX5_thing 9 = .ok (.iload_n 2, 1) := dk_28 (dk_at dksX5_thing_0 9 rfl rfl)
theorem dX5_thing_10 : decode cX5_thing 10 = .ok (.invokespecial 23, 3) := dk_183 0 23 (dk_at dksX5_thing_0 10 rfl rfl)
theorem dX5_thing_13 : decode cX5_thing 13 = .ok (.areturn, 1) := dk_176 (dk_at dksX5_thing_0 13 rfl rfl)
theorem q88 : (Jvm.Cond.initialized "ColdBox$Deep") ∈ lw_all := lw_g (lw_at lw_m1 6 rfl) rfl
theorem q254 : (Jvm.Cond.instantiable "ColdBox$Deep" (3 : Nat)) ∈ lw_all := lw_g (lw_at lw_m1 172 rfl) rfl
theorem q256 : (Jvm.Cond.instanceMethod ({ cls := "ColdBox$Deep", name := "<init>", desc := "(LColdBox;)V" } : Jvm.MethodName)) ∈ lw_all := lw_g (lw_at lw_m1 174 rfl) rfl
theorem q257 : (Jvm.Cond.code ({ cls := "ColdBox$Deep", name := "<init>", desc := "(LColdBox;)V" } : Jvm.MethodName) prog_9_method_1_code (2 : Nat) (Option.none : Option Jvm.ClassFile.FieldType)) ∈ lw_all := lw_g (lw_at lw_m1 175 rfl) rfl
theorem q258 : (Jvm.Cond.methodLinkNest "ColdBox$Deep" (7 : Nat) ({ cls := "ColdBox$Plain", name := "<init>", desc := "(LColdBox;)V" } : Jvm.MethodName) "ColdBox") ∈ lw_tbl := lw_at lw_m1 176 rfl
theorem q259 : (Jvm.Cond.fieldLink "ColdBox$Deep" (1 : Nat) "ColdBox$Deep" "this$0" "LColdBox;") ∈ lw_all := lw_g (lw_at lw_m1 177 rfl) rfl
theorem q260 : (Jvm.Cond.laysFinal "ColdBox$Deep" "ColdBox$Deep" "this$0" "LColdBox;") ∈ lw_all := lw_g (lw_at lw_m1 178 rfl) rfl
theorem q261 : (Jvm.Cond.soleField "ColdBox$Deep" "this$0") ∈ lw_all := lw_g (lw_at lw_m1 179 rfl) rfl
theorem q262 : (Jvm.Cond.laysFinal "ColdBox$Deep" "ColdBox$Plain" "this$0" "LColdBox;") ∈ lw_all := lw_g (lw_at lw_m1 180 rfl) rfl
theorem q263 : (Jvm.Cond.laysFinal "ColdBox$Deep" "ColdBox$Nature" "this$0" "LColdBox;") ∈ lw_all := lw_g (lw_at lw_m1 181 rfl) rfl
theorem q264 : (Jvm.Cond.superclass "ColdBox$Deep" "ColdBox$Plain") ∈ lw_all := lw_g (lw_at lw_m1 182 rfl) rfl
theorem q950 : (Jvm.Cond.selects "ColdBox$Deep" ({ cls := "ColdBox$Nature", name := "uses", desc := "(LColdBox$Body;I)I" } : Jvm.MethodName) ({ cls := "ColdBox$Deep", name := "uses", desc := "(LColdBox$Body;I)I" } : Jvm.MethodName)) ∈ lw_all := lw_g (lw_at lw_m4 148 rfl) rfl
theorem q951 : (Jvm.Cond.instanceMethod ({ cls := "ColdBox$Deep", name := "uses", desc := "(LColdBox$Body;I)I" } : Jvm.MethodName)) ∈ lw_all := lw_g (lw_at lw_m4 149 rfl) rfl
theorem q952 : (Jvm.Cond.code ({ cls := "ColdBox$Deep", name := "uses", desc := "(LColdBox$Body;I)I" } : Jvm.MethodName) prog_9_method_2_code (3 : Nat) (Option.some Jvm.ClassFile.FieldType.int)) ∈ lw_all := lw_g (lw_at lw_m4 150 rfl) rfl
theorem q953 : (Jvm.Cond.methodLink "ColdBox$Deep" (13 : Nat) ({ cls := "ColdBox$Plain", name := "uses", desc := "(LColdBox$Body;I)I" } : Jvm.MethodName)) ∈ lw_all := lw_g (lw_at lw_m4 151 rfl) rfl
theorem q974 : (Jvm.Cond.selects "ColdBox$Deep" ({ cls := "ColdBox$Nature", name := "dries", desc := "(I)I" } : Jvm.MethodName) ({ cls := "ColdBox$Deep", name := "dries", desc := "(I)I" } : Jvm.MethodName)) ∈ lw_all := lw_g (lw_at lw_m4 172 rfl) rfl
theorem q975 : (Jvm.Cond.instanceMethod ({ cls := "ColdBox$Deep", name := "dries", desc := "(I)I" } : Jvm.MethodName)) ∈ lw_all := lw_g (lw_at lw_m4 173 rfl) rfl
theorem q976 : (Jvm.Cond.code ({ cls := "ColdBox$Deep", name := "dries", desc := "(I)I" } : Jvm.MethodName) prog_9_method_3_code (2 : Nat) (Option.some Jvm.ClassFile.FieldType.int)) ∈ lw_all := lw_g (lw_at lw_m4 174 rfl) rfl
theorem q977 : (Jvm.Cond.methodLink "ColdBox$Deep" (17 : Nat) ({ cls := "ColdBox$Plain", name := "dries", desc := "(I)I" } : Jvm.MethodName)) ∈ lw_all := lw_g (lw_at lw_m4 175 rfl) rfl
theorem q1003 : (Jvm.Cond.selects "ColdBox$Deep" ({ cls := "ColdBox$Nature", name := "harms", desc := "()I" } : Jvm.MethodName) ({ cls := "ColdBox$Nature", name := "harms", desc := "()I" } : Jvm.MethodName)) ∈ lw_all := lw_g (lw_at lw_m4 201 rfl) rfl
theorem q1009 : (Jvm.Cond.sameMethod "ColdBox$Deep" "ColdBox$Nature" "harms" "()I") ∈ lw_all := lw_g (lw_at lw_m4 207 rfl) rfl
theorem q1348 : (Jvm.Cond.selects "ColdBox$Deep" ({ cls := "ColdBox$Nature", name := "thing", desc := "(II)LColdBox$Tells;" } : Jvm.MethodName) ({ cls := "ColdBox$Deep", name := "thing", desc := "(II)LColdBox$Tells;" } : Jvm.MethodName)) ∈ lw_all := lw_g (lw_at lw_m6 66 rfl) rfl
theorem q1349 : (Jvm.Cond.instanceMethod ({ cls := "ColdBox$Deep", name := "thing", desc := "(II)LColdBox$Tells;" } : Jvm.MethodName)) ∈ lw_all := lw_g (lw_at lw_m6 67 rfl) rfl
theorem q1350 : (Jvm.Cond.code ({ cls := "ColdBox$Deep", name := "thing", desc := "(II)LColdBox$Tells;" } : Jvm.MethodName) prog_9_method_4_code (3 : Nat) (Option.some (Jvm.ClassFile.FieldType.object "ColdBox$Tells"))) ∈ lw_all := lw_g (lw_at lw_m6 68 rfl) rfl
theorem q1351 : (Jvm.Cond.classLink "ColdBox$Deep" (21 : Nat) "ColdBox$DeepWeek") ∈ lw_all := lw_g (lw_at lw_m6 69 rfl) rfl
theorem q1353 : (Jvm.Cond.methodLink "ColdBox$Deep" (23 : Nat) ({ cls := "ColdBox$DeepWeek", name := "<init>", desc := "(LColdBox;II)V" } : Jvm.MethodName)) ∈ lw_all := lw_g (lw_at lw_m6 71 rfl) rfl
theorem q2227 : (Jvm.Cond.sameMethod "ColdBox$Deep" "ColdBox$Deep" "dries" "(I)I") ∈ lw_all := lw_g (lw_at lw_m9 225 rfl) rfl
theorem q2252 : (Jvm.Cond.castable "ColdBox$Deep" "ColdBox$Nature") ∈ lw_tbl := lw_at lw_m10 10 rfl
theorem in_X5 : ∀ w ∈ wsX50, w ∈ lw_all := lw_in wsX50 [263, 262, 260] (by decide +kernel) (by decide +kernel)

/-! ColdBox$Mild -/
set_option maxRecDepth 100000
def RX6 : String := "ColdBox$Mild"
def TX6 : u_T := fun k => match k with
  | 0 => ("ColdBox$Nature", "this$0", "LColdBox;", true)
  | 1 => ("ColdBox$Plain", "this$0", "LColdBox;", true)
  | _ => ("ColdBox$Mild", "this$0", "LColdBox;", true)
def tyX6 : Nat → FieldType := fun k => match k with
  | 0 => .object "ColdBox"
  | 1 => .object "ColdBox"
  | _ => .object "ColdBox"
abbrev wsX60 : List Cond := u_ws RX6 TX6 3
-- two fields of one name: no nmX6
theorem tyX6_ok : ∀ k, k < 3 → parseFieldDescriptor (TX6 k).2.2.1 = some (tyX6 k) := by decide +kernel
abbrev cX6_init : ByteArray := prog_19_method_1_code
def yX6_init : MethodName := ⟨RX6, "<init>", "(LColdBox;)V"⟩
def dkwX6_init_0 : List UInt8 := [42, 43, 181, 0, 1, 42, 43, 183, 0, 7, 177]
abbrev dktX6_init_0 : List UInt8 := dkwX6_init_0 ++ []
theorem dksX6_init_0 : cX6_init.data.toList.drop 0 = dktX6_init_0 := by decide +kernel
theorem dX6_init_0 : decode cX6_init 0 = .ok (.aload_n 0, 1) := dk_42 (dk_at dksX6_init_0 0 rfl rfl)
theorem dX6_init_1 : decode cX6_init 1 = .ok (.aload_n 1, 1) := dk_43 (dk_at dksX6_init_0 1 rfl rfl)
theorem dX6_init_2 : decode cX6_init 2 = .ok (.putfield 1, 3) := dk_181 0 1 (dk_at dksX6_init_0 2 rfl rfl)
theorem dX6_init_5 : decode cX6_init 5 = .ok (.aload_n 0, 1) := dk_42 (dk_at dksX6_init_0 5 rfl rfl)
theorem dX6_init_6 : decode cX6_init 6 = .ok (.aload_n 1, 1) := dk_43 (dk_at dksX6_init_0 6 rfl rfl)
theorem dX6_init_7 : decode cX6_init 7 = .ok (.invokespecial 7, 3) := dk_183 0 7 (dk_at dksX6_init_0 7 rfl rfl)
theorem dX6_init_10 : decode cX6_init 10 = .ok (.return_, 1) := dk_177 (dk_at dksX6_init_0 10 rfl rfl)
abbrev cX6_uses : ByteArray := prog_19_method_2_code
def yX6_uses : MethodName := ⟨RX6, "uses", "(LColdBox$Body;I)I"⟩
def dkwX6_uses_0 : List UInt8 := [5, 42, 43, 28, 183, 0, 13, 104, 172]
abbrev dktX6_uses_0 : List UInt8 := dkwX6_uses_0 ++ []
theorem dksX6_uses_0 : cX6_uses.data.toList.drop 0 = dktX6_uses_0 := by decide +kernel
theorem dX6_uses_0 : decode cX6_uses 0 = .ok (.iconst 2, 1) := dk_5 (dk_at dksX6_uses_0 0 rfl rfl)
theorem dX6_uses_1 : decode cX6_uses 1 = .ok (.aload_n 0, 1) := dk_42 (dk_at dksX6_uses_0 1 rfl rfl)
theorem dX6_uses_2 : decode cX6_uses 2 = .ok (.aload_n 1, 1) := dk_43 (dk_at dksX6_uses_0 2 rfl rfl)
theorem dX6_uses_3 : decode cX6_uses 3 = .ok (.iload_n 2, 1) := dk_28 (dk_at dksX6_uses_0 3 rfl rfl)
theorem dX6_uses_4 : decode cX6_uses 4 = .ok (.invokespecial 13, 3) := dk_183 0 13 (dk_at dksX6_uses_0 4 rfl rfl)
theorem dX6_uses_7 : decode cX6_uses 7 = .ok (.imul, 1) := dk_104 (dk_at dksX6_uses_0 7 rfl rfl)
theorem dX6_uses_8 : decode cX6_uses 8 = .ok (.ireturn, 1) := dk_172 (dk_at dksX6_uses_0 8 rfl rfl)
abbrev cX6_dries : ByteArray := prog_19_method_3_code
def yX6_dries : MethodName := ⟨RX6, "dries", "(I)I"⟩
def dkwX6_dries_0 : List UInt8 := [42, 27, 183, 0, 17, 8, 96, 172]
abbrev dktX6_dries_0 : List UInt8 := dkwX6_dries_0 ++ []
theorem dksX6_dries_0 : cX6_dries.data.toList.drop 0 = dktX6_dries_0 := by decide +kernel
theorem dX6_dries_0 : decode cX6_dries 0 = .ok (.aload_n 0, 1) := dk_42 (dk_at dksX6_dries_0 0 rfl rfl)
theorem dX6_dries_1 : decode cX6_dries 1 = .ok (.iload_n 1, 1) := dk_27 (dk_at dksX6_dries_0 1 rfl rfl)
theorem dX6_dries_2 : decode cX6_dries 2 = .ok (.invokespecial 17, 3) := dk_183 0 17 (dk_at dksX6_dries_0 2 rfl rfl)
theorem dX6_dries_5 : decode cX6_dries 5 = .ok (.iconst 5, 1) := dk_8 (dk_at dksX6_dries_0 5 rfl rfl)
theorem dX6_dries_6 : decode cX6_dries 6 = .ok (.iadd, 1) := dk_96 (dk_at dksX6_dries_0 6 rfl rfl)
theorem dX6_dries_7 : decode cX6_dries 7 = .ok (.ireturn, 1) := dk_172 (dk_at dksX6_dries_0 7 rfl rfl)
abbrev cX6_thing : ByteArray := prog_19_method_4_code
def yX6_thing : MethodName := ⟨RX6, "thing", "(II)LColdBox$Tells;"⟩
def dkwX6_thing_0 : List UInt8 := [187, 0, 21, 89, 42, 180, 0, 1, 27, 28, 183, 0, 23, 176]
abbrev dktX6_thing_0 : List UInt8 := dkwX6_thing_0 ++ []
theorem dksX6_thing_0 : cX6_thing.data.toList.drop 0 = dktX6_thing_0 := by decide +kernel
theorem dX6_thing_0 : decode cX6_thing 0 = .ok (.new 21, 3) := dk_187 0 21 (dk_at dksX6_thing_0 0 rfl rfl)
theorem dX6_thing_3 : decode cX6_thing 3 = .ok (.dup, 1) := dk_89 (dk_at dksX6_thing_0 3 rfl rfl)
theorem dX6_thing_4 : decode cX6_thing 4 = .ok (.aload_n 0, 1) := dk_42 (dk_at dksX6_thing_0 4 rfl rfl)
theorem dX6_thing_5 : decode cX6_thing 5 = .ok (.getfield 1, 3) := dk_180 0 1 (dk_at dksX6_thing_0 5 rfl rfl)
theorem dX6_thing_8 : decode cX6_thing 8 = .ok (.iload_n 1, 1) := dk_27 (dk_at dksX6_thing_0 8 rfl rfl)
theorem dX6_thing_9 : decode cX6_thing 9 = .ok (.iload_n 2, 1) := dk_28 (dk_at dksX6_thing_0 9 rfl rfl)
theorem dX6_thing_10 : decode cX6_thing 10 = .ok (.invokespecial 23, 3) := dk_183 0 23 (dk_at dksX6_thing_0 10 rfl rfl)
theorem dX6_thing_13 : decode cX6_thing 13 = .ok (.areturn, 1) := dk_176 (dk_at dksX6_thing_0 13 rfl rfl)
theorem q89 : (Jvm.Cond.initialized "ColdBox$Mild") ∈ lw_all := lw_g (lw_at lw_m1 7 rfl) rfl
theorem q266 : (Jvm.Cond.instantiable "ColdBox$Mild" (3 : Nat)) ∈ lw_all := lw_g (lw_at lw_m1 184 rfl) rfl
theorem q268 : (Jvm.Cond.instanceMethod ({ cls := "ColdBox$Mild", name := "<init>", desc := "(LColdBox;)V" } : Jvm.MethodName)) ∈ lw_all := lw_g (lw_at lw_m1 186 rfl) rfl
theorem q269 : (Jvm.Cond.code ({ cls := "ColdBox$Mild", name := "<init>", desc := "(LColdBox;)V" } : Jvm.MethodName) prog_19_method_1_code (2 : Nat) (Option.none : Option Jvm.ClassFile.FieldType)) ∈ lw_all := lw_g (lw_at lw_m1 187 rfl) rfl
theorem q270 : (Jvm.Cond.methodLinkNest "ColdBox$Mild" (7 : Nat) ({ cls := "ColdBox$Plain", name := "<init>", desc := "(LColdBox;)V" } : Jvm.MethodName) "ColdBox") ∈ lw_tbl := lw_at lw_m1 188 rfl
theorem q271 : (Jvm.Cond.fieldLink "ColdBox$Mild" (1 : Nat) "ColdBox$Mild" "this$0" "LColdBox;") ∈ lw_all := lw_g (lw_at lw_m1 189 rfl) rfl
theorem q272 : (Jvm.Cond.laysFinal "ColdBox$Mild" "ColdBox$Mild" "this$0" "LColdBox;") ∈ lw_all := lw_g (lw_at lw_m1 190 rfl) rfl
theorem q273 : (Jvm.Cond.soleField "ColdBox$Mild" "this$0") ∈ lw_all := lw_g (lw_at lw_m1 191 rfl) rfl
theorem q274 : (Jvm.Cond.laysFinal "ColdBox$Mild" "ColdBox$Plain" "this$0" "LColdBox;") ∈ lw_all := lw_g (lw_at lw_m1 192 rfl) rfl
theorem q275 : (Jvm.Cond.laysFinal "ColdBox$Mild" "ColdBox$Nature" "this$0" "LColdBox;") ∈ lw_all := lw_g (lw_at lw_m1 193 rfl) rfl
theorem q276 : (Jvm.Cond.superclass "ColdBox$Mild" "ColdBox$Plain") ∈ lw_all := lw_g (lw_at lw_m1 194 rfl) rfl
theorem q943 : (Jvm.Cond.instanceMethod ({ cls := "ColdBox$Mild", name := "uses", desc := "(LColdBox$Body;I)I" } : Jvm.MethodName)) ∈ lw_all := lw_g (lw_at lw_m4 141 rfl) rfl
theorem q944 : (Jvm.Cond.code ({ cls := "ColdBox$Mild", name := "uses", desc := "(LColdBox$Body;I)I" } : Jvm.MethodName) prog_19_method_2_code (3 : Nat) (Option.some Jvm.ClassFile.FieldType.int)) ∈ lw_all := lw_g (lw_at lw_m4 142 rfl) rfl
theorem q945 : (Jvm.Cond.methodLink "ColdBox$Mild" (13 : Nat) ({ cls := "ColdBox$Plain", name := "uses", desc := "(LColdBox$Body;I)I" } : Jvm.MethodName)) ∈ lw_all := lw_g (lw_at lw_m4 143 rfl) rfl
theorem q956 : (Jvm.Cond.selects "ColdBox$Mild" ({ cls := "ColdBox$Nature", name := "uses", desc := "(LColdBox$Body;I)I" } : Jvm.MethodName) ({ cls := "ColdBox$Mild", name := "uses", desc := "(LColdBox$Body;I)I" } : Jvm.MethodName)) ∈ lw_all := lw_g (lw_at lw_m4 154 rfl) rfl
theorem q969 : (Jvm.Cond.instanceMethod ({ cls := "ColdBox$Mild", name := "dries", desc := "(I)I" } : Jvm.MethodName)) ∈ lw_all := lw_g (lw_at lw_m4 167 rfl) rfl
theorem q970 : (Jvm.Cond.code ({ cls := "ColdBox$Mild", name := "dries", desc := "(I)I" } : Jvm.MethodName) prog_19_method_3_code (2 : Nat) (Option.some Jvm.ClassFile.FieldType.int)) ∈ lw_all := lw_g (lw_at lw_m4 168 rfl) rfl
theorem q971 : (Jvm.Cond.methodLink "ColdBox$Mild" (17 : Nat) ({ cls := "ColdBox$Plain", name := "dries", desc := "(I)I" } : Jvm.MethodName)) ∈ lw_all := lw_g (lw_at lw_m4 169 rfl) rfl
theorem q986 : (Jvm.Cond.selects "ColdBox$Mild" ({ cls := "ColdBox$Nature", name := "dries", desc := "(I)I" } : Jvm.MethodName) ({ cls := "ColdBox$Mild", name := "dries", desc := "(I)I" } : Jvm.MethodName)) ∈ lw_all := lw_g (lw_at lw_m4 184 rfl) rfl
theorem q1012 : (Jvm.Cond.selects "ColdBox$Mild" ({ cls := "ColdBox$Nature", name := "harms", desc := "()I" } : Jvm.MethodName) ({ cls := "ColdBox$Nature", name := "harms", desc := "()I" } : Jvm.MethodName)) ∈ lw_all := lw_g (lw_at lw_m4 210 rfl) rfl
theorem q1397 : (Jvm.Cond.selects "ColdBox$Mild" ({ cls := "ColdBox$Nature", name := "thing", desc := "(II)LColdBox$Tells;" } : Jvm.MethodName) ({ cls := "ColdBox$Mild", name := "thing", desc := "(II)LColdBox$Tells;" } : Jvm.MethodName)) ∈ lw_all := lw_g (lw_at lw_m6 115 rfl) rfl
theorem q1398 : (Jvm.Cond.instanceMethod ({ cls := "ColdBox$Mild", name := "thing", desc := "(II)LColdBox$Tells;" } : Jvm.MethodName)) ∈ lw_all := lw_g (lw_at lw_m6 116 rfl) rfl
theorem q1399 : (Jvm.Cond.code ({ cls := "ColdBox$Mild", name := "thing", desc := "(II)LColdBox$Tells;" } : Jvm.MethodName) prog_19_method_4_code (3 : Nat) (Option.some (Jvm.ClassFile.FieldType.object "ColdBox$Tells"))) ∈ lw_all := lw_g (lw_at lw_m6 117 rfl) rfl
theorem q1400 : (Jvm.Cond.classLink "ColdBox$Mild" (21 : Nat) "ColdBox$MildWeek") ∈ lw_all := lw_g (lw_at lw_m6 118 rfl) rfl
theorem q1402 : (Jvm.Cond.methodLink "ColdBox$Mild" (23 : Nat) ({ cls := "ColdBox$MildWeek", name := "<init>", desc := "(LColdBox;II)V" } : Jvm.MethodName)) ∈ lw_all := lw_g (lw_at lw_m6 120 rfl) rfl
theorem q2223 : (Jvm.Cond.sameMethod "ColdBox$Mild" "ColdBox$Mild" "uses" "(LColdBox$Body;I)I") ∈ lw_all := lw_g (lw_at lw_m9 221 rfl) rfl
theorem q2225 : (Jvm.Cond.sameMethod "ColdBox$Mild" "ColdBox$Mild" "dries" "(I)I") ∈ lw_all := lw_g (lw_at lw_m9 223 rfl) rfl
theorem q2253 : (Jvm.Cond.castable "ColdBox$Mild" "ColdBox$Nature") ∈ lw_tbl := lw_at lw_m10 11 rfl
theorem in_X6 : ∀ w ∈ wsX60, w ∈ lw_all := lw_in wsX60 [275, 274, 272] (by decide +kernel) (by decide +kernel)

/-! ColdBox$Awake -/
set_option maxRecDepth 100000
def RX7 : String := "ColdBox$Awake"
def TX7 : u_T := fun k => match k with
  | 0 => ("ColdBox$Nature", "this$0", "LColdBox;", true)
  | 1 => ("ColdBox$Plain", "this$0", "LColdBox;", true)
  | 2 => ("ColdBox$Mild", "this$0", "LColdBox;", true)
  | _ => ("ColdBox$Awake", "this$0", "LColdBox;", true)
def tyX7 : Nat → FieldType := fun k => match k with
  | 0 => .object "ColdBox"
  | 1 => .object "ColdBox"
  | 2 => .object "ColdBox"
  | _ => .object "ColdBox"
abbrev wsX70 : List Cond := u_ws RX7 TX7 4
-- two fields of one name: no nmX7
theorem tyX7_ok : ∀ k, k < 4 → parseFieldDescriptor (TX7 k).2.2.1 = some (tyX7 k) := by decide +kernel
abbrev cX7_init : ByteArray := prog_3_method_1_code
def yX7_init : MethodName := ⟨RX7, "<init>", "(LColdBox;)V"⟩
def dkwX7_init_0 : List UInt8 := [42, 43, 181, 0, 1, 42, 43, 183, 0, 7, 177]
abbrev dktX7_init_0 : List UInt8 := dkwX7_init_0 ++ []
theorem dksX7_init_0 : cX7_init.data.toList.drop 0 = dktX7_init_0 := by decide +kernel
theorem dX7_init_0 : decode cX7_init 0 = .ok (.aload_n 0, 1) := dk_42 (dk_at dksX7_init_0 0 rfl rfl)
theorem dX7_init_1 : decode cX7_init 1 = .ok (.aload_n 1, 1) := dk_43 (dk_at dksX7_init_0 1 rfl rfl)
theorem dX7_init_2 : decode cX7_init 2 = .ok (.putfield 1, 3) := dk_181 0 1 (dk_at dksX7_init_0 2 rfl rfl)
theorem dX7_init_5 : decode cX7_init 5 = .ok (.aload_n 0, 1) := dk_42 (dk_at dksX7_init_0 5 rfl rfl)
theorem dX7_init_6 : decode cX7_init 6 = .ok (.aload_n 1, 1) := dk_43 (dk_at dksX7_init_0 6 rfl rfl)
theorem dX7_init_7 : decode cX7_init 7 = .ok (.invokespecial 7, 3) := dk_183 0 7 (dk_at dksX7_init_0 7 rfl rfl)
theorem dX7_init_10 : decode cX7_init 10 = .ok (.return_, 1) := dk_177 (dk_at dksX7_init_0 10 rfl rfl)
abbrev cX7_uses : ByteArray := prog_3_method_2_code
def yX7_uses : MethodName := ⟨RX7, "uses", "(LColdBox$Body;I)I"⟩
def dkwX7_uses_0 : List UInt8 := [5, 42, 43, 28, 183, 0, 13, 104, 172]
abbrev dktX7_uses_0 : List UInt8 := dkwX7_uses_0 ++ []
theorem dksX7_uses_0 : cX7_uses.data.toList.drop 0 = dktX7_uses_0 := by decide +kernel
theorem dX7_uses_0 : decode cX7_uses 0 = .ok (.iconst 2, 1) := dk_5 (dk_at dksX7_uses_0 0 rfl rfl)
theorem dX7_uses_1 : decode cX7_uses 1 = .ok (.aload_n 0, 1) := dk_42 (dk_at dksX7_uses_0 1 rfl rfl)
theorem dX7_uses_2 : decode cX7_uses 2 = .ok (.aload_n 1, 1) := dk_43 (dk_at dksX7_uses_0 2 rfl rfl)
theorem dX7_uses_3 : decode cX7_uses 3 = .ok (.iload_n 2, 1) := dk_28 (dk_at dksX7_uses_0 3 rfl rfl)
theorem dX7_uses_4 : decode cX7_uses 4 = .ok (.invokespecial 13, 3) := dk_183 0 13 (dk_at dksX7_uses_0 4 rfl rfl)
theorem dX7_uses_7 : decode cX7_uses 7 = .ok (.imul, 1) := dk_104 (dk_at dksX7_uses_0 7 rfl rfl)
theorem dX7_uses_8 : decode cX7_uses 8 = .ok (.ireturn, 1) := dk_172 (dk_at dksX7_uses_0 8 rfl rfl)
abbrev cX7_dries : ByteArray := prog_3_method_3_code
def yX7_dries : MethodName := ⟨RX7, "dries", "(I)I"⟩
def dkwX7_dries_0 : List UInt8 := [42, 27, 183, 0, 17, 16, 20, 96, 172]
abbrev dktX7_dries_0 : List UInt8 := dkwX7_dries_0 ++ []
theorem dksX7_dries_0 : cX7_dries.data.toList.drop 0 = dktX7_dries_0 := by decide +kernel
theorem dX7_dries_0 : decode cX7_dries 0 = .ok (.aload_n 0, 1) := dk_42 (dk_at dksX7_dries_0 0 rfl rfl)
theorem dX7_dries_1 : decode cX7_dries 1 = .ok (.iload_n 1, 1) := dk_27 (dk_at dksX7_dries_0 1 rfl rfl)
theorem dX7_dries_2 : decode cX7_dries 2 = .ok (.invokespecial 17, 3) := dk_183 0 17 (dk_at dksX7_dries_0 2 rfl rfl)
theorem dX7_dries_5 : decode cX7_dries 5 = .ok (.bipush 20, 2) := dk_16 20 (dk_at dksX7_dries_0 5 rfl rfl)
theorem dX7_dries_7 : decode cX7_dries 7 = .ok (.iadd, 1) := dk_96 (dk_at dksX7_dries_0 7 rfl rfl)
theorem dX7_dries_8 : decode cX7_dries 8 = .ok (.ireturn, 1) := dk_172 (dk_at dksX7_dries_0 8 rfl rfl)
abbrev cX7_thing : ByteArray := prog_3_method_4_code
def yX7_thing : MethodName := ⟨RX7, "thing", "(II)LColdBox$Tells;"⟩
def dkwX7_thing_0 : List UInt8 := [187, 0, 21, 89, 42, 180, 0, 1, 27, 28, 183, 0, 23, 176]
abbrev dktX7_thing_0 : List UInt8 := dkwX7_thing_0 ++ []
theorem dksX7_thing_0 : cX7_thing.data.toList.drop 0 = dktX7_thing_0 := by decide +kernel
theorem dX7_thing_0 : decode cX7_thing 0 = .ok (.new 21, 3) := dk_187 0 21 (dk_at dksX7_thing_0 0 rfl rfl)
theorem dX7_thing_3 : decode cX7_thing 3 = .ok (.dup, 1) := dk_89 (dk_at dksX7_thing_0 3 rfl rfl)
theorem dX7_thing_4 : decode cX7_thing 4 = .ok (.aload_n 0, 1) := dk_42 (dk_at dksX7_thing_0 4 rfl rfl)
theorem dX7_thing_5 : decode cX7_thing 5 = .ok (.getfield 1, 3) := dk_180 0 1 (dk_at dksX7_thing_0 5 rfl rfl)
theorem dX7_thing_8 : decode cX7_thing 8 = .ok (.iload_n 1, 1) := dk_27 (dk_at dksX7_thing_0 8 rfl rfl)
theorem dX7_thing_9 : decode cX7_thing 9 = .ok (.iload_n 2, 1) := dk_28 (dk_at dksX7_thing_0 9 rfl rfl)
theorem dX7_thing_10 : decode cX7_thing 10 = .ok (.invokespecial 23, 3) := dk_183 0 23 (dk_at dksX7_thing_0 10 rfl rfl)
theorem dX7_thing_13 : decode cX7_thing 13 = .ok (.areturn, 1) := dk_176 (dk_at dksX7_thing_0 13 rfl rfl)
theorem q90 : (Jvm.Cond.initialized "ColdBox$Awake") ∈ lw_all := lw_g (lw_at lw_m1 8 rfl) rfl
theorem q278 : (Jvm.Cond.instantiable "ColdBox$Awake" (4 : Nat)) ∈ lw_all := lw_g (lw_at lw_m1 196 rfl) rfl
theorem q280 : (Jvm.Cond.instanceMethod ({ cls := "ColdBox$Awake", name := "<init>", desc := "(LColdBox;)V" } : Jvm.MethodName)) ∈ lw_all := lw_g (lw_at lw_m1 198 rfl) rfl
theorem q281 : (Jvm.Cond.code ({ cls := "ColdBox$Awake", name := "<init>", desc := "(LColdBox;)V" } : Jvm.MethodName) prog_3_method_1_code (2 : Nat) (Option.none : Option Jvm.ClassFile.FieldType)) ∈ lw_all := lw_g (lw_at lw_m1 199 rfl) rfl
theorem q282 : (Jvm.Cond.methodLinkNest "ColdBox$Awake" (7 : Nat) ({ cls := "ColdBox$Mild", name := "<init>", desc := "(LColdBox;)V" } : Jvm.MethodName) "ColdBox") ∈ lw_tbl := lw_at lw_m1 200 rfl
theorem q283 : (Jvm.Cond.fieldLink "ColdBox$Awake" (1 : Nat) "ColdBox$Awake" "this$0" "LColdBox;") ∈ lw_all := lw_g (lw_at lw_m1 201 rfl) rfl
theorem q284 : (Jvm.Cond.laysFinal "ColdBox$Awake" "ColdBox$Awake" "this$0" "LColdBox;") ∈ lw_all := lw_g (lw_at lw_m1 202 rfl) rfl
theorem q285 : (Jvm.Cond.soleField "ColdBox$Awake" "this$0") ∈ lw_all := lw_g (lw_at lw_m1 203 rfl) rfl
theorem q286 : (Jvm.Cond.laysFinal "ColdBox$Awake" "ColdBox$Mild" "this$0" "LColdBox;") ∈ lw_all := lw_g (lw_at lw_m1 204 rfl) rfl
theorem q287 : (Jvm.Cond.laysFinal "ColdBox$Awake" "ColdBox$Plain" "this$0" "LColdBox;") ∈ lw_all := lw_g (lw_at lw_m1 205 rfl) rfl
theorem q288 : (Jvm.Cond.laysFinal "ColdBox$Awake" "ColdBox$Nature" "this$0" "LColdBox;") ∈ lw_all := lw_g (lw_at lw_m1 206 rfl) rfl
theorem q289 : (Jvm.Cond.superclass "ColdBox$Awake" "ColdBox$Mild") ∈ lw_all := lw_g (lw_at lw_m1 207 rfl) rfl
theorem q939 : (Jvm.Cond.selects "ColdBox$Awake" ({ cls := "ColdBox$Nature", name := "uses", desc := "(LColdBox$Body;I)I" } : Jvm.MethodName) ({ cls := "ColdBox$Awake", name := "uses", desc := "(LColdBox$Body;I)I" } : Jvm.MethodName)) ∈ lw_all := lw_g (lw_at lw_m4 137 rfl) rfl
theorem q940 : (Jvm.Cond.instanceMethod ({ cls := "ColdBox$Awake", name := "uses", desc := "(LColdBox$Body;I)I" } : Jvm.MethodName)) ∈ lw_all := lw_g (lw_at lw_m4 138 rfl) rfl
theorem q941 : (Jvm.Cond.code ({ cls := "ColdBox$Awake", name := "uses", desc := "(LColdBox$Body;I)I" } : Jvm.MethodName) prog_3_method_2_code (3 : Nat) (Option.some Jvm.ClassFile.FieldType.int)) ∈ lw_all := lw_g (lw_at lw_m4 139 rfl) rfl
theorem q942 : (Jvm.Cond.methodLink "ColdBox$Awake" (13 : Nat) ({ cls := "ColdBox$Mild", name := "uses", desc := "(LColdBox$Body;I)I" } : Jvm.MethodName)) ∈ lw_all := lw_g (lw_at lw_m4 140 rfl) rfl
theorem q965 : (Jvm.Cond.selects "ColdBox$Awake" ({ cls := "ColdBox$Nature", name := "dries", desc := "(I)I" } : Jvm.MethodName) ({ cls := "ColdBox$Awake", name := "dries", desc := "(I)I" } : Jvm.MethodName)) ∈ lw_all := lw_g (lw_at lw_m4 163 rfl) rfl
theorem q966 : (Jvm.Cond.instanceMethod ({ cls := "ColdBox$Awake", name := "dries", desc := "(I)I" } : Jvm.MethodName)) ∈ lw_all := lw_g (lw_at lw_m4 164 rfl) rfl
theorem q967 : (Jvm.Cond.code ({ cls := "ColdBox$Awake", name := "dries", desc := "(I)I" } : Jvm.MethodName) prog_3_method_3_code (2 : Nat) (Option.some Jvm.ClassFile.FieldType.int)) ∈ lw_all := lw_g (lw_at lw_m4 165 rfl) rfl
theorem q968 : (Jvm.Cond.methodLink "ColdBox$Awake" (17 : Nat) ({ cls := "ColdBox$Mild", name := "dries", desc := "(I)I" } : Jvm.MethodName)) ∈ lw_all := lw_g (lw_at lw_m4 166 rfl) rfl
theorem q1002 : (Jvm.Cond.selects "ColdBox$Awake" ({ cls := "ColdBox$Nature", name := "harms", desc := "()I" } : Jvm.MethodName) ({ cls := "ColdBox$Nature", name := "harms", desc := "()I" } : Jvm.MethodName)) ∈ lw_all := lw_g (lw_at lw_m4 200 rfl) rfl
theorem q1307 : (Jvm.Cond.selects "ColdBox$Awake" ({ cls := "ColdBox$Nature", name := "thing", desc := "(II)LColdBox$Tells;" } : Jvm.MethodName) ({ cls := "ColdBox$Awake", name := "thing", desc := "(II)LColdBox$Tells;" } : Jvm.MethodName)) ∈ lw_all := lw_g (lw_at lw_m6 25 rfl) rfl
theorem q1308 : (Jvm.Cond.instanceMethod ({ cls := "ColdBox$Awake", name := "thing", desc := "(II)LColdBox$Tells;" } : Jvm.MethodName)) ∈ lw_all := lw_g (lw_at lw_m6 26 rfl) rfl
theorem q1309 : (Jvm.Cond.code ({ cls := "ColdBox$Awake", name := "thing", desc := "(II)LColdBox$Tells;" } : Jvm.MethodName) prog_3_method_4_code (3 : Nat) (Option.some (Jvm.ClassFile.FieldType.object "ColdBox$Tells"))) ∈ lw_all := lw_g (lw_at lw_m6 27 rfl) rfl
theorem q1310 : (Jvm.Cond.classLink "ColdBox$Awake" (21 : Nat) "ColdBox$AwakeWeek") ∈ lw_all := lw_g (lw_at lw_m6 28 rfl) rfl
theorem q1312 : (Jvm.Cond.methodLink "ColdBox$Awake" (23 : Nat) ({ cls := "ColdBox$AwakeWeek", name := "<init>", desc := "(LColdBox;II)V" } : Jvm.MethodName)) ∈ lw_all := lw_g (lw_at lw_m6 30 rfl) rfl
theorem q2254 : (Jvm.Cond.castable "ColdBox$Awake" "ColdBox$Nature") ∈ lw_tbl := lw_at lw_m10 12 rfl
theorem in_X7 : ∀ w ∈ wsX70, w ∈ lw_all := lw_in wsX70 [288, 287, 286, 284] (by decide +kernel) (by decide +kernel)

/-! ColdBox$Frosted -/
set_option maxRecDepth 100000
def RX8 : String := "ColdBox$Frosted"
def TX8 : u_T := fun k => match k with
  | 0 => ("ColdBox$Nature", "this$0", "LColdBox;", true)
  | 1 => ("ColdBox$Plain", "this$0", "LColdBox;", true)
  | 2 => ("ColdBox$Deep", "this$0", "LColdBox;", true)
  | _ => ("ColdBox$Frosted", "this$0", "LColdBox;", true)
def tyX8 : Nat → FieldType := fun k => match k with
  | 0 => .object "ColdBox"
  | 1 => .object "ColdBox"
  | 2 => .object "ColdBox"
  | _ => .object "ColdBox"
abbrev wsX80 : List Cond := u_ws RX8 TX8 4
-- two fields of one name: no nmX8
theorem tyX8_ok : ∀ k, k < 4 → parseFieldDescriptor (TX8 k).2.2.1 = some (tyX8 k) := by decide +kernel
abbrev cX8_init : ByteArray := prog_15_method_1_code
def yX8_init : MethodName := ⟨RX8, "<init>", "(LColdBox;)V"⟩
def dkwX8_init_0 : List UInt8 := [42, 43, 181, 0, 1, 42, 43, 183, 0, 7, 177]
abbrev dktX8_init_0 : List UInt8 := dkwX8_init_0 ++ []
theorem dksX8_init_0 : cX8_init.data.toList.drop 0 = dktX8_init_0 := by decide +kernel
theorem dX8_init_0 : decode cX8_init 0 = .ok (.aload_n 0, 1) := dk_42 (dk_at dksX8_init_0 0 rfl rfl)
theorem dX8_init_1 : decode cX8_init 1 = .ok (.aload_n 1, 1) := dk_43 (dk_at dksX8_init_0 1 rfl rfl)
theorem dX8_init_2 : decode cX8_init 2 = .ok (.putfield 1, 3) := dk_181 0 1 (dk_at dksX8_init_0 2 rfl rfl)
theorem dX8_init_5 : decode cX8_init 5 = .ok (.aload_n 0, 1) := dk_42 (dk_at dksX8_init_0 5 rfl rfl)
theorem dX8_init_6 : decode cX8_init 6 = .ok (.aload_n 1, 1) := dk_43 (dk_at dksX8_init_0 6 rfl rfl)
theorem dX8_init_7 : decode cX8_init 7 = .ok (.invokespecial 7, 3) := dk_183 0 7 (dk_at dksX8_init_0 7 rfl rfl)
theorem dX8_init_10 : decode cX8_init 10 = .ok (.return_, 1) := dk_177 (dk_at dksX8_init_0 10 rfl rfl)
abbrev cX8_dries : ByteArray := prog_15_method_2_code
def yX8_dries : MethodName := ⟨RX8, "dries", "(I)I"⟩
def dkwX8_dries_0 : List UInt8 := [42, 27, 183, 0, 13, 4, 96, 172]
abbrev dktX8_dries_0 : List UInt8 := dkwX8_dries_0 ++ []
theorem dksX8_dries_0 : cX8_dries.data.toList.drop 0 = dktX8_dries_0 := by decide +kernel
theorem dX8_dries_0 : decode cX8_dries 0 = .ok (.aload_n 0, 1) := dk_42 (dk_at dksX8_dries_0 0 rfl rfl)
theorem dX8_dries_1 : decode cX8_dries 1 = .ok (.iload_n 1, 1) := dk_27 (dk_at dksX8_dries_0 1 rfl rfl)
theorem dX8_dries_2 : decode cX8_dries 2 = .ok (.invokespecial 13, 3) := dk_183 0 13 (dk_at dksX8_dries_0 2 rfl rfl)
theorem dX8_dries_5 : decode cX8_dries 5 = .ok (.iconst 1, 1) := dk_4 (dk_at dksX8_dries_0 5 rfl rfl)
theorem dX8_dries_6 : decode cX8_dries 6 = .ok (.iadd, 1) := dk_96 (dk_at dksX8_dries_0 6 rfl rfl)
theorem dX8_dries_7 : decode cX8_dries 7 = .ok (.ireturn, 1) := dk_172 (dk_at dksX8_dries_0 7 rfl rfl)
abbrev cX8_harms : ByteArray := prog_15_method_3_code
def yX8_harms : MethodName := ⟨RX8, "harms", "()I"⟩
def dkwX8_harms_0 : List UInt8 := [42, 183, 0, 17, 4, 96, 172]
abbrev dktX8_harms_0 : List UInt8 := dkwX8_harms_0 ++ []
theorem dksX8_harms_0 : cX8_harms.data.toList.drop 0 = dktX8_harms_0 := by decide +kernel
theorem dX8_harms_0 : decode cX8_harms 0 = .ok (.aload_n 0, 1) := dk_42 (dk_at dksX8_harms_0 0 rfl rfl)
theorem dX8_harms_1 : decode cX8_harms 1 = .ok (.invokespecial 17, 3) := dk_183 0 17 (dk_at dksX8_harms_0 1 rfl rfl)
theorem dX8_harms_4 : decode cX8_harms 4 = .ok (.iconst 1, 1) := dk_4 (dk_at dksX8_harms_0 4 rfl rfl)
theorem dX8_harms_5 : decode cX8_harms 5 = .ok (.iadd, 1) := dk_96 (dk_at dksX8_harms_0 5 rfl rfl)
theorem dX8_harms_6 : decode cX8_harms 6 = .ok (.ireturn, 1) := dk_172 (dk_at dksX8_harms_0 6 rfl rfl)
abbrev cX8_thing : ByteArray := prog_15_method_4_code
def yX8_thing : MethodName := ⟨RX8, "thing", "(II)LColdBox$Tells;"⟩
def dkwX8_thing_0 : List UInt8 := [187, 0, 21, 89, 42, 180, 0, 1, 27, 28, 183, 0, 23, 176]
abbrev dktX8_thing_0 : List UInt8 := dkwX8_thing_0 ++ []
theorem dksX8_thing_0 : cX8_thing.data.toList.drop 0 = dktX8_thing_0 := by decide +kernel
theorem dX8_thing_0 : decode cX8_thing 0 = .ok (.new 21, 3) := dk_187 0 21 (dk_at dksX8_thing_0 0 rfl rfl)
theorem dX8_thing_3 : decode cX8_thing 3 = .ok (.dup, 1) := dk_89 (dk_at dksX8_thing_0 3 rfl rfl)
theorem dX8_thing_4 : decode cX8_thing 4 = .ok (.aload_n 0, 1) := dk_42 (dk_at dksX8_thing_0 4 rfl rfl)
theorem dX8_thing_5 : decode cX8_thing 5 = .ok (.getfield 1, 3) := dk_180 0 1 (dk_at dksX8_thing_0 5 rfl rfl)
theorem dX8_thing_8 : decode cX8_thing 8 = .ok (.iload_n 1, 1) := dk_27 (dk_at dksX8_thing_0 8 rfl rfl)
theorem dX8_thing_9 : decode cX8_thing 9 = .ok (.iload_n 2, 1) := dk_28 (dk_at dksX8_thing_0 9 rfl rfl)
theorem dX8_thing_10 : decode cX8_thing 10 = .ok (.invokespecial 23, 3) := dk_183 0 23 (dk_at dksX8_thing_0 10 rfl rfl)
theorem dX8_thing_13 : decode cX8_thing 13 = .ok (.areturn, 1) := dk_176 (dk_at dksX8_thing_0 13 rfl rfl)
theorem q91 : (Jvm.Cond.initialized "ColdBox$Frosted") ∈ lw_all := lw_g (lw_at lw_m1 9 rfl) rfl
theorem q291 : (Jvm.Cond.instantiable "ColdBox$Frosted" (4 : Nat)) ∈ lw_all := lw_g (lw_at lw_m1 209 rfl) rfl
theorem q293 : (Jvm.Cond.instanceMethod ({ cls := "ColdBox$Frosted", name := "<init>", desc := "(LColdBox;)V" } : Jvm.MethodName)) ∈ lw_all := lw_g (lw_at lw_m1 211 rfl) rfl
theorem q294 : (Jvm.Cond.code ({ cls := "ColdBox$Frosted", name := "<init>", desc := "(LColdBox;)V" } : Jvm.MethodName) prog_15_method_1_code (2 : Nat) (Option.none : Option Jvm.ClassFile.FieldType)) ∈ lw_all := lw_g (lw_at lw_m1 212 rfl) rfl
theorem q295 : (Jvm.Cond.methodLinkNest "ColdBox$Frosted" (7 : Nat) ({ cls := "ColdBox$Deep", name := "<init>", desc := "(LColdBox;)V" } : Jvm.MethodName) "ColdBox") ∈ lw_tbl := lw_at lw_m1 213 rfl
theorem q296 : (Jvm.Cond.fieldLink "ColdBox$Frosted" (1 : Nat) "ColdBox$Frosted" "this$0" "LColdBox;") ∈ lw_all := lw_g (lw_at lw_m1 214 rfl) rfl
theorem q297 : (Jvm.Cond.laysFinal "ColdBox$Frosted" "ColdBox$Frosted" "this$0" "LColdBox;") ∈ lw_all := lw_g (lw_at lw_m1 215 rfl) rfl
theorem q298 : (Jvm.Cond.soleField "ColdBox$Frosted" "this$0") ∈ lw_all := lw_g (lw_at lw_m1 216 rfl) rfl
theorem q299 : (Jvm.Cond.laysFinal "ColdBox$Frosted" "ColdBox$Deep" "this$0" "LColdBox;") ∈ lw_all := lw_g (lw_at lw_m1 217 rfl) rfl
theorem q300 : (Jvm.Cond.laysFinal "ColdBox$Frosted" "ColdBox$Plain" "this$0" "LColdBox;") ∈ lw_all := lw_g (lw_at lw_m1 218 rfl) rfl
theorem q301 : (Jvm.Cond.laysFinal "ColdBox$Frosted" "ColdBox$Nature" "this$0" "LColdBox;") ∈ lw_all := lw_g (lw_at lw_m1 219 rfl) rfl
theorem q302 : (Jvm.Cond.superclass "ColdBox$Frosted" "ColdBox$Deep") ∈ lw_all := lw_g (lw_at lw_m1 220 rfl) rfl
theorem q955 : (Jvm.Cond.selects "ColdBox$Frosted" ({ cls := "ColdBox$Nature", name := "uses", desc := "(LColdBox$Body;I)I" } : Jvm.MethodName) ({ cls := "ColdBox$Deep", name := "uses", desc := "(LColdBox$Body;I)I" } : Jvm.MethodName)) ∈ lw_all := lw_g (lw_at lw_m4 153 rfl) rfl
theorem q982 : (Jvm.Cond.selects "ColdBox$Frosted" ({ cls := "ColdBox$Nature", name := "dries", desc := "(I)I" } : Jvm.MethodName) ({ cls := "ColdBox$Frosted", name := "dries", desc := "(I)I" } : Jvm.MethodName)) ∈ lw_all := lw_g (lw_at lw_m4 180 rfl) rfl
theorem q983 : (Jvm.Cond.instanceMethod ({ cls := "ColdBox$Frosted", name := "dries", desc := "(I)I" } : Jvm.MethodName)) ∈ lw_all := lw_g (lw_at lw_m4 181 rfl) rfl
theorem q984 : (Jvm.Cond.code ({ cls := "ColdBox$Frosted", name := "dries", desc := "(I)I" } : Jvm.MethodName) prog_15_method_2_code (2 : Nat) (Option.some Jvm.ClassFile.FieldType.int)) ∈ lw_all := lw_g (lw_at lw_m4 182 rfl) rfl
theorem q985 : (Jvm.Cond.methodLink "ColdBox$Frosted" (13 : Nat) ({ cls := "ColdBox$Deep", name := "dries", desc := "(I)I" } : Jvm.MethodName)) ∈ lw_all := lw_g (lw_at lw_m4 183 rfl) rfl
theorem q1005 : (Jvm.Cond.selects "ColdBox$Frosted" ({ cls := "ColdBox$Nature", name := "harms", desc := "()I" } : Jvm.MethodName) ({ cls := "ColdBox$Frosted", name := "harms", desc := "()I" } : Jvm.MethodName)) ∈ lw_all := lw_g (lw_at lw_m4 203 rfl) rfl
theorem q1006 : (Jvm.Cond.instanceMethod ({ cls := "ColdBox$Frosted", name := "harms", desc := "()I" } : Jvm.MethodName)) ∈ lw_all := lw_g (lw_at lw_m4 204 rfl) rfl
theorem q1007 : (Jvm.Cond.code ({ cls := "ColdBox$Frosted", name := "harms", desc := "()I" } : Jvm.MethodName) prog_15_method_3_code (1 : Nat) (Option.some Jvm.ClassFile.FieldType.int)) ∈ lw_all := lw_g (lw_at lw_m4 205 rfl) rfl
theorem q1008 : (Jvm.Cond.methodLink "ColdBox$Frosted" (17 : Nat) ({ cls := "ColdBox$Deep", name := "harms", desc := "()I" } : Jvm.MethodName)) ∈ lw_all := lw_g (lw_at lw_m4 206 rfl) rfl
theorem q1380 : (Jvm.Cond.selects "ColdBox$Frosted" ({ cls := "ColdBox$Nature", name := "thing", desc := "(II)LColdBox$Tells;" } : Jvm.MethodName) ({ cls := "ColdBox$Frosted", name := "thing", desc := "(II)LColdBox$Tells;" } : Jvm.MethodName)) ∈ lw_all := lw_g (lw_at lw_m6 98 rfl) rfl
theorem q1381 : (Jvm.Cond.instanceMethod ({ cls := "ColdBox$Frosted", name := "thing", desc := "(II)LColdBox$Tells;" } : Jvm.MethodName)) ∈ lw_all := lw_g (lw_at lw_m6 99 rfl) rfl
theorem q1382 : (Jvm.Cond.code ({ cls := "ColdBox$Frosted", name := "thing", desc := "(II)LColdBox$Tells;" } : Jvm.MethodName) prog_15_method_4_code (3 : Nat) (Option.some (Jvm.ClassFile.FieldType.object "ColdBox$Tells"))) ∈ lw_all := lw_g (lw_at lw_m6 100 rfl) rfl
theorem q1383 : (Jvm.Cond.classLink "ColdBox$Frosted" (21 : Nat) "ColdBox$FrostedWeek") ∈ lw_all := lw_g (lw_at lw_m6 101 rfl) rfl
theorem q1385 : (Jvm.Cond.methodLink "ColdBox$Frosted" (23 : Nat) ({ cls := "ColdBox$FrostedWeek", name := "<init>", desc := "(LColdBox;II)V" } : Jvm.MethodName)) ∈ lw_all := lw_g (lw_at lw_m6 103 rfl) rfl
theorem q2255 : (Jvm.Cond.castable "ColdBox$Frosted" "ColdBox$Nature") ∈ lw_tbl := lw_at lw_m10 13 rfl
theorem in_X8 : ∀ w ∈ wsX80, w ∈ lw_all := lw_in wsX80 [301, 300, 299, 297] (by decide +kernel) (by decide +kernel)

/-! ColdBox$Drying -/
set_option maxRecDepth 100000
def RX9 : String := "ColdBox$Drying"
def TX9 : u_T := fun k => match k with
  | 0 => ("ColdBox$Nature", "this$0", "LColdBox;", true)
  | 1 => ("ColdBox$Plain", "this$0", "LColdBox;", true)
  | _ => ("ColdBox$Drying", "this$0", "LColdBox;", true)
def tyX9 : Nat → FieldType := fun k => match k with
  | 0 => .object "ColdBox"
  | 1 => .object "ColdBox"
  | _ => .object "ColdBox"
abbrev wsX90 : List Cond := u_ws RX9 TX9 3
-- two fields of one name: no nmX9
theorem tyX9_ok : ∀ k, k < 3 → parseFieldDescriptor (TX9 k).2.2.1 = some (tyX9 k) := by decide +kernel
abbrev cX9_init : ByteArray := prog_11_method_1_code
def yX9_init : MethodName := ⟨RX9, "<init>", "(LColdBox;)V"⟩
def dkwX9_init_0 : List UInt8 := [42, 43, 181, 0, 1, 42, 43, 183, 0, 7, 177]
abbrev dktX9_init_0 : List UInt8 := dkwX9_init_0 ++ []
theorem dksX9_init_0 : cX9_init.data.toList.drop 0 = dktX9_init_0 := by decide +kernel
theorem dX9_init_0 : decode cX9_init 0 = .ok (.aload_n 0, 1) := dk_42 (dk_at dksX9_init_0 0 rfl rfl)
theorem dX9_init_1 : decode cX9_init 1 = .ok (.aload_n 1, 1) := dk_43 (dk_at dksX9_init_0 1 rfl rfl)
theorem dX9_init_2 : decode cX9_init 2 = .ok (.putfield 1, 3) := dk_181 0 1 (dk_at dksX9_init_0 2 rfl rfl)
theorem dX9_init_5 : decode cX9_init 5 = .ok (.aload_n 0, 1) := dk_42 (dk_at dksX9_init_0 5 rfl rfl)
theorem dX9_init_6 : decode cX9_init 6 = .ok (.aload_n 1, 1) := dk_43 (dk_at dksX9_init_0 6 rfl rfl)
theorem dX9_init_7 : decode cX9_init 7 = .ok (.invokespecial 7, 3) := dk_183 0 7 (dk_at dksX9_init_0 7 rfl rfl)
theorem dX9_init_10 : decode cX9_init 10 = .ok (.return_, 1) := dk_177 (dk_at dksX9_init_0 10 rfl rfl)
abbrev cX9_dries : ByteArray := prog_11_method_2_code
def yX9_dries : MethodName := ⟨RX9, "dries", "(I)I"⟩
def dkwX9_dries_0 : List UInt8 := [5, 42, 27, 183, 0, 13, 104, 172]
abbrev dktX9_dries_0 : List UInt8 := dkwX9_dries_0 ++ []
theorem dksX9_dries_0 : cX9_dries.data.toList.drop 0 = dktX9_dries_0 := by decide +kernel
theorem dX9_dries_0 : decode cX9_dries 0 = .ok (.iconst 2, 1) := dk_5 (dk_at dksX9_dries_0 0 rfl rfl)
theorem dX9_dries_1 : decode cX9_dries 1 = .ok (.aload_n 0, 1) := dk_42 (dk_at dksX9_dries_0 1 rfl rfl)
theorem dX9_dries_2 : decode cX9_dries 2 = .ok (.iload_n 1, 1) := dk_27 (dk_at dksX9_dries_0 2 rfl rfl)
theorem dX9_dries_3 : decode cX9_dries 3 = .ok (.invokespecial 13, 3) := dk_183 0 13 (dk_at dksX9_dries_0 3 rfl rfl)
theorem dX9_dries_6 : decode cX9_dries 6 = .ok (.imul, 1) := dk_104 (dk_at dksX9_dries_0 6 rfl rfl)
theorem dX9_dries_7 : decode cX9_dries 7 = .ok (.ireturn, 1) := dk_172 (dk_at dksX9_dries_0 7 rfl rfl)
abbrev cX9_thing : ByteArray := prog_11_method_3_code
def yX9_thing : MethodName := ⟨RX9, "thing", "(II)LColdBox$Tells;"⟩
def dkwX9_thing_0 : List UInt8 := [187, 0, 17, 89, 42, 180, 0, 1, 27, 28, 183, 0, 19, 176]
abbrev dktX9_thing_0 : List UInt8 := dkwX9_thing_0 ++ []
theorem dksX9_thing_0 : cX9_thing.data.toList.drop 0 = dktX9_thing_0 := by decide +kernel
theorem dX9_thing_0 : decode cX9_thing 0 = .ok (.new 17, 3) := dk_187 0 17 (dk_at dksX9_thing_0 0 rfl rfl)
theorem dX9_thing_3 : decode cX9_thing 3 = .ok (.dup, 1) := dk_89 (dk_at dksX9_thing_0 3 rfl rfl)
theorem dX9_thing_4 : decode cX9_thing 4 = .ok (.aload_n 0, 1) := dk_42 (dk_at dksX9_thing_0 4 rfl rfl)
theorem dX9_thing_5 : decode cX9_thing 5 = .ok (.getfield 1, 3) := dk_180 0 1 (dk_at dksX9_thing_0 5 rfl rfl)
theorem dX9_thing_8 : decode cX9_thing 8 = .ok (.iload_n 1, 1) := dk_27 (dk_at dksX9_thing_0 8 rfl rfl)
theorem dX9_thing_9 : decode cX9_thing 9 = .ok (.iload_n 2, 1) := dk_28 (dk_at dksX9_thing_0 9 rfl rfl)
theorem dX9_thing_10 : decode cX9_thing 10 = .ok (.invokespecial 19, 3) := dk_183 0 19 (dk_at dksX9_thing_0 10 rfl rfl)
theorem dX9_thing_13 : decode cX9_thing 13 = .ok (.areturn, 1) := dk_176 (dk_at dksX9_thing_0 13 rfl rfl)
theorem q92 : (Jvm.Cond.initialized "ColdBox$Drying") ∈ lw_all := lw_g (lw_at lw_m1 10 rfl) rfl
theorem q304 : (Jvm.Cond.instantiable "ColdBox$Drying" (3 : Nat)) ∈ lw_all := lw_g (lw_at lw_m1 222 rfl) rfl
theorem q306 : (Jvm.Cond.instanceMethod ({ cls := "ColdBox$Drying", name := "<init>", desc := "(LColdBox;)V" } : Jvm.MethodName)) ∈ lw_all := lw_g (lw_at lw_m1 224 rfl) rfl
theorem q307 : (Jvm.Cond.code ({ cls := "ColdBox$Drying", name := "<init>", desc := "(LColdBox;)V" } : Jvm.MethodName) prog_11_method_1_code (2 : Nat) (Option.none : Option Jvm.ClassFile.FieldType)) ∈ lw_all := lw_g (lw_at lw_m1 225 rfl) rfl
theorem q308 : (Jvm.Cond.methodLinkNest "ColdBox$Drying" (7 : Nat) ({ cls := "ColdBox$Plain", name := "<init>", desc := "(LColdBox;)V" } : Jvm.MethodName) "ColdBox") ∈ lw_tbl := lw_at lw_m1 226 rfl
theorem q309 : (Jvm.Cond.fieldLink "ColdBox$Drying" (1 : Nat) "ColdBox$Drying" "this$0" "LColdBox;") ∈ lw_all := lw_g (lw_at lw_m1 227 rfl) rfl
theorem q310 : (Jvm.Cond.laysFinal "ColdBox$Drying" "ColdBox$Drying" "this$0" "LColdBox;") ∈ lw_all := lw_g (lw_at lw_m1 228 rfl) rfl
theorem q311 : (Jvm.Cond.soleField "ColdBox$Drying" "this$0") ∈ lw_all := lw_g (lw_at lw_m1 229 rfl) rfl
theorem q312 : (Jvm.Cond.laysFinal "ColdBox$Drying" "ColdBox$Plain" "this$0" "LColdBox;") ∈ lw_all := lw_g (lw_at lw_m1 230 rfl) rfl
theorem q313 : (Jvm.Cond.laysFinal "ColdBox$Drying" "ColdBox$Nature" "this$0" "LColdBox;") ∈ lw_all := lw_g (lw_at lw_m1 231 rfl) rfl
theorem q314 : (Jvm.Cond.superclass "ColdBox$Drying" "ColdBox$Plain") ∈ lw_all := lw_g (lw_at lw_m1 232 rfl) rfl
theorem q954 : (Jvm.Cond.selects "ColdBox$Drying" ({ cls := "ColdBox$Nature", name := "uses", desc := "(LColdBox$Body;I)I" } : Jvm.MethodName) ({ cls := "ColdBox$Plain", name := "uses", desc := "(LColdBox$Body;I)I" } : Jvm.MethodName)) ∈ lw_all := lw_g (lw_at lw_m4 152 rfl) rfl
theorem q978 : (Jvm.Cond.selects "ColdBox$Drying" ({ cls := "ColdBox$Nature", name := "dries", desc := "(I)I" } : Jvm.MethodName) ({ cls := "ColdBox$Drying", name := "dries", desc := "(I)I" } : Jvm.MethodName)) ∈ lw_all := lw_g (lw_at lw_m4 176 rfl) rfl
theorem q979 : (Jvm.Cond.instanceMethod ({ cls := "ColdBox$Drying", name := "dries", desc := "(I)I" } : Jvm.MethodName)) ∈ lw_all := lw_g (lw_at lw_m4 177 rfl) rfl
theorem q980 : (Jvm.Cond.code ({ cls := "ColdBox$Drying", name := "dries", desc := "(I)I" } : Jvm.MethodName) prog_11_method_2_code (2 : Nat) (Option.some Jvm.ClassFile.FieldType.int)) ∈ lw_all := lw_g (lw_at lw_m4 178 rfl) rfl
theorem q981 : (Jvm.Cond.methodLink "ColdBox$Drying" (13 : Nat) ({ cls := "ColdBox$Plain", name := "dries", desc := "(I)I" } : Jvm.MethodName)) ∈ lw_all := lw_g (lw_at lw_m4 179 rfl) rfl
theorem q1004 : (Jvm.Cond.selects "ColdBox$Drying" ({ cls := "ColdBox$Nature", name := "harms", desc := "()I" } : Jvm.MethodName) ({ cls := "ColdBox$Nature", name := "harms", desc := "()I" } : Jvm.MethodName)) ∈ lw_all := lw_g (lw_at lw_m4 202 rfl) rfl
theorem q1364 : (Jvm.Cond.selects "ColdBox$Drying" ({ cls := "ColdBox$Nature", name := "thing", desc := "(II)LColdBox$Tells;" } : Jvm.MethodName) ({ cls := "ColdBox$Drying", name := "thing", desc := "(II)LColdBox$Tells;" } : Jvm.MethodName)) ∈ lw_all := lw_g (lw_at lw_m6 82 rfl) rfl
theorem q1365 : (Jvm.Cond.instanceMethod ({ cls := "ColdBox$Drying", name := "thing", desc := "(II)LColdBox$Tells;" } : Jvm.MethodName)) ∈ lw_all := lw_g (lw_at lw_m6 83 rfl) rfl
theorem q1366 : (Jvm.Cond.code ({ cls := "ColdBox$Drying", name := "thing", desc := "(II)LColdBox$Tells;" } : Jvm.MethodName) prog_11_method_3_code (3 : Nat) (Option.some (Jvm.ClassFile.FieldType.object "ColdBox$Tells"))) ∈ lw_all := lw_g (lw_at lw_m6 84 rfl) rfl
theorem q1367 : (Jvm.Cond.classLink "ColdBox$Drying" (17 : Nat) "ColdBox$DryingWeek") ∈ lw_all := lw_g (lw_at lw_m6 85 rfl) rfl
theorem q1369 : (Jvm.Cond.methodLink "ColdBox$Drying" (19 : Nat) ({ cls := "ColdBox$DryingWeek", name := "<init>", desc := "(LColdBox;II)V" } : Jvm.MethodName)) ∈ lw_all := lw_g (lw_at lw_m6 87 rfl) rfl
theorem q2256 : (Jvm.Cond.castable "ColdBox$Drying" "ColdBox$Nature") ∈ lw_tbl := lw_at lw_m10 14 rfl
theorem in_X9 : ∀ w ∈ wsX90, w ∈ lw_all := lw_in wsX90 [313, 312, 310] (by decide +kernel) (by decide +kernel)

theorem q82 : (Jvm.Cond.initialized "ColdBoxLaw") ∈ lw_all := lw_g (lw_at lw_m1 0 rfl) rfl
set_option maxRecDepth 100000
theorem q129 : (Jvm.Cond.classLink "ColdBoxLaw" (7 : Nat) "ColdBox") ∈ lw_all := lw_g (lw_at lw_m1 47 rfl) rfl
theorem q131 : (Jvm.Cond.methodLink "ColdBoxLaw" (9 : Nat) ({ cls := "ColdBox", name := "<init>", desc := "()V" } : Jvm.MethodName)) ∈ lw_all := lw_g (lw_at lw_m1 49 rfl) rfl
theorem q643 : (Jvm.Cond.methodLink "ColdBoxLaw" (15 : Nat) ({ cls := "ColdBox", name := "feed", desc := "(JI)I" } : Jvm.MethodName)) ∈ lw_all := lw_g (lw_at lw_m3 81 rfl) rfl
theorem q650 : (Jvm.Cond.methodLink "ColdBoxLaw" (20 : Nat) ({ cls := "ColdBox", name := "plan", desc := "()I" } : Jvm.MethodName)) ∈ lw_all := lw_g (lw_at lw_m3 88 rfl) rfl
theorem q854 : (Jvm.Cond.methodLink "ColdBoxLaw" (25 : Nat) ({ cls := "ColdBox", name := "out", desc := "(II)I" } : Jvm.MethodName)) ∈ lw_all := lw_g (lw_at lw_m4 52 rfl) rfl
theorem q862 : (Jvm.Cond.methodLink "ColdBoxLaw" (30 : Nat) ({ cls := "ColdBox", name := "air", desc := "(II)I" } : Jvm.MethodName)) ∈ lw_all := lw_g (lw_at lw_m4 60 rfl) rfl
theorem q866 : (Jvm.Cond.methodLink "ColdBoxLaw" (34 : Nat) ({ cls := "ColdBox", name := "weekOf", desc := "(III)I" } : Jvm.MethodName)) ∈ lw_all := lw_g (lw_at lw_m4 64 rfl) rfl
theorem q882 : (Jvm.Cond.methodLink "ColdBoxLaw" (39 : Nat) ({ cls := "ColdBox", name := "rule", desc := "(II)I" } : Jvm.MethodName)) ∈ lw_all := lw_g (lw_at lw_m4 80 rfl) rfl
theorem q892 : (Jvm.Cond.methodLink "ColdBoxLaw" (43 : Nat) ({ cls := "ColdBox", name := "rate", desc := "(I)I" } : Jvm.MethodName)) ∈ lw_all := lw_g (lw_at lw_m4 90 rfl) rfl
theorem q900 : (Jvm.Cond.methodLink "ColdBoxLaw" (48 : Nat) ({ cls := "ColdBox", name := "body", desc := "(II)I" } : Jvm.MethodName)) ∈ lw_all := lw_g (lw_at lw_m4 98 rfl) rfl
theorem q912 : (Jvm.Cond.methodLink "ColdBoxLaw" (52 : Nat) ({ cls := "ColdBox", name := "bodyOf", desc := "(I)I" } : Jvm.MethodName)) ∈ lw_all := lw_g (lw_at lw_m4 110 rfl) rfl
theorem q928 : (Jvm.Cond.methodLink "ColdBoxLaw" (56 : Nat) ({ cls := "ColdBox", name := "uses", desc := "(II)I" } : Jvm.MethodName)) ∈ lw_all := lw_g (lw_at lw_m4 126 rfl) rfl
theorem q958 : (Jvm.Cond.methodLink "ColdBoxLaw" (60 : Nat) ({ cls := "ColdBox", name := "dries", desc := "(II)I" } : Jvm.MethodName)) ∈ lw_all := lw_g (lw_at lw_m4 156 rfl) rfl
theorem q988 : (Jvm.Cond.methodLink "ColdBoxLaw" (64 : Nat) ({ cls := "ColdBox", name := "goes", desc := "(I)I" } : Jvm.MethodName)) ∈ lw_all := lw_g (lw_at lw_m4 186 rfl) rfl
theorem q1017 : (Jvm.Cond.methodLink "ColdBoxLaw" (68 : Nat) ({ cls := "ColdBox", name := "begin", desc := "(I)I" } : Jvm.MethodName)) ∈ lw_all := lw_g (lw_at lw_m4 215 rfl) rfl
theorem q1021 : (Jvm.Cond.methodLink "ColdBoxLaw" (72 : Nat) ({ cls := "ColdBox", name := "says", desc := "()I" } : Jvm.MethodName)) ∈ lw_all := lw_g (lw_at lw_m4 219 rfl) rfl
theorem q1053 : (Jvm.Cond.methodLink "ColdBoxLaw" (76 : Nat) ({ cls := "ColdBox", name := "lie", desc := "()I" } : Jvm.MethodName)) ∈ lw_all := lw_g (lw_at lw_m5 11 rfl) rfl
theorem q1098 : (Jvm.Cond.methodLink "ColdBoxLaw" (80 : Nat) ({ cls := "ColdBox", name := "would", desc := "(I)I" } : Jvm.MethodName)) ∈ lw_all := lw_g (lw_at lw_m5 56 rfl) rfl
theorem q1106 : (Jvm.Cond.methodLink "ColdBoxLaw" (84 : Nat) ({ cls := "ColdBox", name := "lasts", desc := "(I)I" } : Jvm.MethodName)) ∈ lw_all := lw_g (lw_at lw_m5 64 rfl) rfl
theorem q1110 : (Jvm.Cond.methodLink "ColdBoxLaw" (88 : Nat) ({ cls := "ColdBox", name := "best", desc := "(II)I" } : Jvm.MethodName)) ∈ lw_all := lw_g (lw_at lw_m5 68 rfl) rfl
theorem q1118 : (Jvm.Cond.methodLink "ColdBoxLaw" (92 : Nat) ({ cls := "ColdBox", name := "later", desc := "(II)I" } : Jvm.MethodName)) ∈ lw_all := lw_g (lw_at lw_m5 76 rfl) rfl
theorem q1122 : (Jvm.Cond.methodLink "ColdBoxLaw" (96 : Nat) ({ cls := "ColdBox", name := "scale", desc := "(I)I" } : Jvm.MethodName)) ∈ lw_all := lw_g (lw_at lw_m5 80 rfl) rfl
theorem q1127 : (Jvm.Cond.methodLink "ColdBoxLaw" (100 : Nat) ({ cls := "ColdBox", name := "seed", desc := "(I)I" } : Jvm.MethodName)) ∈ lw_all := lw_g (lw_at lw_m5 85 rfl) rfl
theorem q1131 : (Jvm.Cond.methodLink "ColdBoxLaw" (104 : Nat) ({ cls := "ColdBox", name := "other", desc := "(II)I" } : Jvm.MethodName)) ∈ lw_all := lw_g (lw_at lw_m5 89 rfl) rfl
theorem q1135 : (Jvm.Cond.methodLink "ColdBoxLaw" (108 : Nat) ({ cls := "ColdBox", name := "lighter", desc := "()I" } : Jvm.MethodName)) ∈ lw_all := lw_g (lw_at lw_m5 93 rfl) rfl
theorem q1143 : (Jvm.Cond.methodLink "ColdBoxLaw" (112 : Nat) ({ cls := "ColdBox", name := "least", desc := "(I)I" } : Jvm.MethodName)) ∈ lw_all := lw_g (lw_at lw_m5 101 rfl) rfl
theorem q1147 : (Jvm.Cond.methodLink "ColdBoxLaw" (120 : Nat) ({ cls := "ColdBox", name := "row", desc := "(II)I" } : Jvm.MethodName)) ∈ lw_all := lw_g (lw_at lw_m5 105 rfl) rfl
theorem q1155 : (Jvm.Cond.methodLink "ColdBoxLaw" (124 : Nat) ({ cls := "ColdBox", name := "alterRow", desc := "(III)I" } : Jvm.MethodName)) ∈ lw_all := lw_g (lw_at lw_m5 113 rfl) rfl
theorem q1159 : (Jvm.Cond.methodLink "ColdBoxLaw" (116 : Nat) ({ cls := "ColdBox", name := "prove", desc := "()I" } : Jvm.MethodName)) ∈ lw_all := lw_g (lw_at lw_m5 117 rfl) rfl
theorem q1166 : (Jvm.Cond.methodLink "ColdBoxLaw" (128 : Nat) ({ cls := "ColdBox", name := "judge", desc := "()I" } : Jvm.MethodName)) ∈ lw_all := lw_g (lw_at lw_m5 124 rfl) rfl
theorem q1173 : (Jvm.Cond.methodLink "ColdBoxLaw" (132 : Nat) ({ cls := "ColdBox", name := "outs", desc := "(IIII)I" } : Jvm.MethodName)) ∈ lw_all := lw_g (lw_at lw_m5 131 rfl) rfl
theorem q1227 : (Jvm.Cond.methodLink "ColdBoxLaw" (137 : Nat) ({ cls := "ColdBox", name := "sheet", desc := "(III)I" } : Jvm.MethodName)) ∈ lw_all := lw_g (lw_at lw_m5 185 rfl) rfl
theorem q1251 : (Jvm.Cond.methodLink "ColdBoxLaw" (141 : Nat) ({ cls := "ColdBox", name := "put", desc := "(III)I" } : Jvm.MethodName)) ∈ lw_all := lw_g (lw_at lw_m5 209 rfl) rfl
theorem q1265 : (Jvm.Cond.methodLink "ColdBoxLaw" (145 : Nat) ({ cls := "ColdBox", name := "item", desc := "(III)I" } : Jvm.MethodName)) ∈ lw_all := lw_g (lw_at lw_m5 223 rfl) rfl
theorem q1289 : (Jvm.Cond.methodLink "ColdBoxLaw" (149 : Nat) ({ cls := "ColdBox", name := "shelf", desc := "(III)I" } : Jvm.MethodName)) ∈ lw_all := lw_g (lw_at lw_m6 7 rfl) rfl
theorem q1296 : (Jvm.Cond.methodLink "ColdBoxLaw" (153 : Nat) ({ cls := "ColdBox", name := "taken", desc := "(II)I" } : Jvm.MethodName)) ∈ lw_all := lw_g (lw_at lw_m6 14 rfl) rfl
theorem q1458 : (Jvm.Cond.methodLink "ColdBoxLaw" (157 : Nat) ({ cls := "ColdBox", name := "act", desc := "(III)I" } : Jvm.MethodName)) ∈ lw_all := lw_g (lw_at lw_m6 176 rfl) rfl
theorem q1630 : (Jvm.Cond.methodLink "ColdBoxLaw" (161 : Nat) ({ cls := "ColdBox", name := "trace", desc := "(I)I" } : Jvm.MethodName)) ∈ lw_all := lw_g (lw_at lw_m7 108 rfl) rfl
theorem q1634 : (Jvm.Cond.methodLink "ColdBoxLaw" (165 : Nat) ({ cls := "ColdBox", name := "many", desc := "(I)I" } : Jvm.MethodName)) ∈ lw_all := lw_g (lw_at lw_m7 112 rfl) rfl
theorem q1638 : (Jvm.Cond.methodLink "ColdBoxLaw" (169 : Nat) ({ cls := "ColdBox", name := "keep", desc := "()I" } : Jvm.MethodName)) ∈ lw_all := lw_g (lw_at lw_m7 116 rfl) rfl
theorem q1648 : (Jvm.Cond.methodLink "ColdBoxLaw" (173 : Nat) ({ cls := "ColdBox", name := "again", desc := "()I" } : Jvm.MethodName)) ∈ lw_all := lw_g (lw_at lw_m7 126 rfl) rfl
theorem q1652 : (Jvm.Cond.classLink "ColdBoxLaw" (10 : Nat) "ColdBoxModel") ∈ lw_all := lw_g (lw_at lw_m7 130 rfl) rfl
theorem q1654 : (Jvm.Cond.methodLink "ColdBoxLaw" (12 : Nat) ({ cls := "ColdBoxModel", name := "<init>", desc := "()V" } : Jvm.MethodName)) ∈ lw_all := lw_g (lw_at lw_m7 132 rfl) rfl
theorem q1822 : (Jvm.Cond.methodLink "ColdBoxLaw" (19 : Nat) ({ cls := "ColdBoxModel", name := "feed", desc := "(JI)I" } : Jvm.MethodName)) ∈ lw_all := lw_g (lw_at lw_m8 60 rfl) rfl
theorem q1830 : (Jvm.Cond.methodLink "ColdBoxLaw" (24 : Nat) ({ cls := "ColdBoxModel", name := "plan", desc := "()I" } : Jvm.MethodName)) ∈ lw_all := lw_g (lw_at lw_m8 68 rfl) rfl
theorem q1918 : (Jvm.Cond.methodLink "ColdBoxLaw" (29 : Nat) ({ cls := "ColdBoxModel", name := "out", desc := "(II)I" } : Jvm.MethodName)) ∈ lw_all := lw_g (lw_at lw_m8 156 rfl) rfl
theorem q1926 : (Jvm.Cond.methodLink "ColdBoxLaw" (33 : Nat) ({ cls := "ColdBoxModel", name := "air", desc := "(II)I" } : Jvm.MethodName)) ∈ lw_all := lw_g (lw_at lw_m8 164 rfl) rfl
theorem q1930 : (Jvm.Cond.methodLink "ColdBoxLaw" (38 : Nat) ({ cls := "ColdBoxModel", name := "weekOf", desc := "(III)I" } : Jvm.MethodName)) ∈ lw_all := lw_g (lw_at lw_m8 168 rfl) rfl
theorem q1945 : (Jvm.Cond.methodLink "ColdBoxLaw" (42 : Nat) ({ cls := "ColdBoxModel", name := "rule", desc := "(II)I" } : Jvm.MethodName)) ∈ lw_all := lw_g (lw_at lw_m8 183 rfl) rfl
theorem q1949 : (Jvm.Cond.methodLink "ColdBoxLaw" (47 : Nat) ({ cls := "ColdBoxModel", name := "rate", desc := "(I)I" } : Jvm.MethodName)) ∈ lw_all := lw_g (lw_at lw_m8 187 rfl) rfl
theorem q1957 : (Jvm.Cond.methodLink "ColdBoxLaw" (51 : Nat) ({ cls := "ColdBoxModel", name := "body", desc := "(II)I" } : Jvm.MethodName)) ∈ lw_all := lw_g (lw_at lw_m8 195 rfl) rfl
theorem q1961 : (Jvm.Cond.methodLink "ColdBoxLaw" (55 : Nat) ({ cls := "ColdBoxModel", name := "bodyOf", desc := "(I)I" } : Jvm.MethodName)) ∈ lw_all := lw_g (lw_at lw_m8 199 rfl) rfl
theorem q1981 : (Jvm.Cond.methodLink "ColdBoxLaw" (59 : Nat) ({ cls := "ColdBoxModel", name := "uses", desc := "(II)I" } : Jvm.MethodName)) ∈ lw_all := lw_g (lw_at lw_m8 219 rfl) rfl
theorem q1989 : (Jvm.Cond.methodLink "ColdBoxLaw" (63 : Nat) ({ cls := "ColdBoxModel", name := "dries", desc := "(II)I" } : Jvm.MethodName)) ∈ lw_all := lw_g (lw_at lw_m8 227 rfl) rfl
theorem q1997 : (Jvm.Cond.methodLink "ColdBoxLaw" (67 : Nat) ({ cls := "ColdBoxModel", name := "goes", desc := "(I)I" } : Jvm.MethodName)) ∈ lw_all := lw_g (lw_at lw_m8 235 rfl) rfl
theorem q2005 : (Jvm.Cond.methodLink "ColdBoxLaw" (71 : Nat) ({ cls := "ColdBoxModel", name := "begin", desc := "(I)I" } : Jvm.MethodName)) ∈ lw_all := lw_g (lw_at lw_m9 3 rfl) rfl
theorem q2009 : (Jvm.Cond.methodLink "ColdBoxLaw" (75 : Nat) ({ cls := "ColdBoxModel", name := "says", desc := "()I" } : Jvm.MethodName)) ∈ lw_all := lw_g (lw_at lw_m9 7 rfl) rfl
theorem q2024 : (Jvm.Cond.methodLink "ColdBoxLaw" (79 : Nat) ({ cls := "ColdBoxModel", name := "lie", desc := "()I" } : Jvm.MethodName)) ∈ lw_all := lw_g (lw_at lw_m9 22 rfl) rfl
theorem q2032 : (Jvm.Cond.methodLink "ColdBoxLaw" (83 : Nat) ({ cls := "ColdBoxModel", name := "would", desc := "(I)I" } : Jvm.MethodName)) ∈ lw_all := lw_g (lw_at lw_m9 30 rfl) rfl
theorem q2040 : (Jvm.Cond.methodLink "ColdBoxLaw" (87 : Nat) ({ cls := "ColdBoxModel", name := "lasts", desc := "(I)I" } : Jvm.MethodName)) ∈ lw_all := lw_g (lw_at lw_m9 38 rfl) rfl
theorem q2044 : (Jvm.Cond.methodLink "ColdBoxLaw" (91 : Nat) ({ cls := "ColdBoxModel", name := "best", desc := "(II)I" } : Jvm.MethodName)) ∈ lw_all := lw_g (lw_at lw_m9 42 rfl) rfl
theorem q2056 : (Jvm.Cond.methodLink "ColdBoxLaw" (95 : Nat) ({ cls := "ColdBoxModel", name := "later", desc := "(II)I" } : Jvm.MethodName)) ∈ lw_all := lw_g (lw_at lw_m9 54 rfl) rfl
theorem q2060 : (Jvm.Cond.methodLink "ColdBoxLaw" (99 : Nat) ({ cls := "ColdBoxModel", name := "scale", desc := "(I)I" } : Jvm.MethodName)) ∈ lw_all := lw_g (lw_at lw_m9 58 rfl) rfl
theorem q2065 : (Jvm.Cond.methodLink "ColdBoxLaw" (103 : Nat) ({ cls := "ColdBoxModel", name := "seed", desc := "(I)I" } : Jvm.MethodName)) ∈ lw_all := lw_g (lw_at lw_m9 63 rfl) rfl
theorem q2069 : (Jvm.Cond.methodLink "ColdBoxLaw" (107 : Nat) ({ cls := "ColdBoxModel", name := "other", desc := "(II)I" } : Jvm.MethodName)) ∈ lw_all := lw_g (lw_at lw_m9 67 rfl) rfl
theorem q2073 : (Jvm.Cond.methodLink "ColdBoxLaw" (111 : Nat) ({ cls := "ColdBoxModel", name := "lighter", desc := "()I" } : Jvm.MethodName)) ∈ lw_all := lw_g (lw_at lw_m9 71 rfl) rfl
theorem q2081 : (Jvm.Cond.methodLink "ColdBoxLaw" (115 : Nat) ({ cls := "ColdBoxModel", name := "least", desc := "(I)I" } : Jvm.MethodName)) ∈ lw_all := lw_g (lw_at lw_m9 79 rfl) rfl
theorem q2085 : (Jvm.Cond.methodLink "ColdBoxLaw" (119 : Nat) ({ cls := "ColdBoxModel", name := "prove", desc := "()I" } : Jvm.MethodName)) ∈ lw_all := lw_g (lw_at lw_m9 83 rfl) rfl
theorem q2093 : (Jvm.Cond.methodLink "ColdBoxLaw" (123 : Nat) ({ cls := "ColdBoxModel", name := "row", desc := "(II)I" } : Jvm.MethodName)) ∈ lw_all := lw_g (lw_at lw_m9 91 rfl) rfl
theorem q2101 : (Jvm.Cond.methodLink "ColdBoxLaw" (127 : Nat) ({ cls := "ColdBoxModel", name := "alterRow", desc := "(III)I" } : Jvm.MethodName)) ∈ lw_all := lw_g (lw_at lw_m9 99 rfl) rfl
theorem q2105 : (Jvm.Cond.methodLink "ColdBoxLaw" (131 : Nat) ({ cls := "ColdBoxModel", name := "judge", desc := "()I" } : Jvm.MethodName)) ∈ lw_all := lw_g (lw_at lw_m9 103 rfl) rfl
theorem q2109 : (Jvm.Cond.methodLink "ColdBoxLaw" (136 : Nat) ({ cls := "ColdBoxModel", name := "outs", desc := "(IIII)I" } : Jvm.MethodName)) ∈ lw_all := lw_g (lw_at lw_m9 107 rfl) rfl
theorem q2122 : (Jvm.Cond.methodLink "ColdBoxLaw" (140 : Nat) ({ cls := "ColdBoxModel", name := "sheet", desc := "(III)I" } : Jvm.MethodName)) ∈ lw_all := lw_g (lw_at lw_m9 120 rfl) rfl
theorem q2126 : (Jvm.Cond.methodLink "ColdBoxLaw" (144 : Nat) ({ cls := "ColdBoxModel", name := "put", desc := "(III)I" } : Jvm.MethodName)) ∈ lw_all := lw_g (lw_at lw_m9 124 rfl) rfl
theorem q2130 : (Jvm.Cond.methodLink "ColdBoxLaw" (148 : Nat) ({ cls := "ColdBoxModel", name := "item", desc := "(III)I" } : Jvm.MethodName)) ∈ lw_all := lw_g (lw_at lw_m9 128 rfl) rfl
theorem q2134 : (Jvm.Cond.methodLink "ColdBoxLaw" (152 : Nat) ({ cls := "ColdBoxModel", name := "shelf", desc := "(III)I" } : Jvm.MethodName)) ∈ lw_all := lw_g (lw_at lw_m9 132 rfl) rfl
theorem q2142 : (Jvm.Cond.methodLink "ColdBoxLaw" (156 : Nat) ({ cls := "ColdBoxModel", name := "taken", desc := "(II)I" } : Jvm.MethodName)) ∈ lw_all := lw_g (lw_at lw_m9 140 rfl) rfl
theorem q2153 : (Jvm.Cond.methodLink "ColdBoxLaw" (160 : Nat) ({ cls := "ColdBoxModel", name := "act", desc := "(III)I" } : Jvm.MethodName)) ∈ lw_all := lw_g (lw_at lw_m9 151 rfl) rfl
theorem q2197 : (Jvm.Cond.methodLink "ColdBoxLaw" (164 : Nat) ({ cls := "ColdBoxModel", name := "trace", desc := "(I)I" } : Jvm.MethodName)) ∈ lw_all := lw_g (lw_at lw_m9 195 rfl) rfl
theorem q2201 : (Jvm.Cond.methodLink "ColdBoxLaw" (168 : Nat) ({ cls := "ColdBoxModel", name := "many", desc := "(I)I" } : Jvm.MethodName)) ∈ lw_all := lw_g (lw_at lw_m9 199 rfl) rfl
theorem q2205 : (Jvm.Cond.methodLink "ColdBoxLaw" (172 : Nat) ({ cls := "ColdBoxModel", name := "keep", desc := "()I" } : Jvm.MethodName)) ∈ lw_all := lw_g (lw_at lw_m9 203 rfl) rfl
theorem q2217 : (Jvm.Cond.methodLink "ColdBoxLaw" (176 : Nat) ({ cls := "ColdBoxModel", name := "again", desc := "()I" } : Jvm.MethodName)) ∈ lw_all := lw_g (lw_at lw_m9 215 rfl) rfl
theorem q2221 : (Jvm.Cond.constantLong "ColdBoxLaw" (13 : Nat) (4294967295 : Int64)) ∈ lw_all := lw_g (lw_at lw_m9 219 rfl) rfl

theorem q1567 : (Jvm.Cond.publicMethod ({ cls := "ColdBox$SharesAct", name := "shares", desc := "(I)I" } : Jvm.MethodName)) ∈ lw_tbl := lw_at lw_m7 45 rfl
set_option maxRecDepth 100000
theorem q1568 : (Jvm.Cond.declares ({ cls := "ColdBox$SharesAct", name := "shares", desc := "(I)I" } : Jvm.MethodName)) ∈ lw_tbl := lw_at lw_m7 46 rfl

theorem q1600 : (Jvm.Cond.interfaceMethod "ColdBox$Tells" "ColdBox$Tells" "tells" "(I)I") ∈ lw_tbl := lw_at lw_m7 78 rfl
set_option maxRecDepth 100000
theorem q1601 : (Jvm.Cond.declares ({ cls := "ColdBox$Tells", name := "tells", desc := "(I)I" } : Jvm.MethodName)) ∈ lw_tbl := lw_at lw_m7 79 rfl

theorem q117 : (Jvm.Cond.initialized "java/lang/System") ∈ lw_all := lw_g (lw_at lw_m1 35 rfl) rfl
set_option maxRecDepth 100000
theorem q852 : (Jvm.Cond.static ({ cls := "java/lang/System", name := "arraycopy", desc := "(Ljava/lang/Object;ILjava/lang/Object;II)V" } : Jvm.MethodName)) ∈ lw_all := lw_g (lw_at lw_m4 50 rfl) rfl
theorem q853 : (Jvm.Cond.native ({ cls := "java/lang/System", name := "arraycopy", desc := "(Ljava/lang/Object;ILjava/lang/Object;II)V" } : Jvm.MethodName)) ∈ lw_all := lw_g (lw_at lw_m4 51 rfl) rfl

theorem q144 : (Jvm.Cond.arrayOver (Jvm.ClassFile.FieldType.object "ColdBox$Cond")) ∈ lw_tbl := lw_at lw_m1 62 rfl
set_option maxRecDepth 100000
theorem q184 : (Jvm.Cond.arrayClass Jvm.ClassFile.FieldType.int) ∈ lw_all := lw_g (lw_at lw_m1 102 rfl) rfl
theorem q236 : (Jvm.Cond.arrayOver (Jvm.ClassFile.FieldType.object "ColdBox$Nature")) ∈ lw_tbl := lw_at lw_m1 154 rfl
theorem q322 : (Jvm.Cond.arrayOver (Jvm.ClassFile.FieldType.object "java/lang/String")) ∈ lw_tbl := lw_at lw_m2 0 rfl
theorem q406 : (Jvm.Cond.arrayClass Jvm.ClassFile.FieldType.byte) ∈ lw_all := lw_g (lw_at lw_m2 84 rfl) rfl
theorem q463 : (Jvm.Cond.arrayOver (Jvm.ClassFile.FieldType.object "ColdBox$Row")) ∈ lw_tbl := lw_at lw_m2 141 rfl
theorem q493 : (Jvm.Cond.arrayOver (Jvm.ClassFile.FieldType.object "ColdBox$Sheet")) ∈ lw_tbl := lw_at lw_m2 171 rfl
theorem q546 : (Jvm.Cond.arrayOver (Jvm.ClassFile.FieldType.object "ColdBox$Shelf")) ∈ lw_tbl := lw_at lw_m2 224 rfl
theorem q1249 : (Jvm.Cond.arrayClass Jvm.ClassFile.FieldType.short) ∈ lw_all := lw_g (lw_at lw_m5 207 rfl) rfl
theorem q1250 : (Jvm.Cond.arrayClass Jvm.ClassFile.FieldType.long) ∈ lw_all := lw_g (lw_at lw_m5 208 rfl) rfl
theorem q1821 : (Jvm.Cond.arrayClass Jvm.ClassFile.FieldType.boolean) ∈ lw_all := lw_g (lw_at lw_m8 59 rfl) rfl
