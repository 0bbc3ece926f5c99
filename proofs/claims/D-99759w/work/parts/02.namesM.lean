/-! DECODE ROWS BY BYTES: one lemma an opcode; a method's code is cut into short pieces once, and a row reads its own piece alone. -/
set_option maxRecDepth 100000
/-- the code has just these bytes from pc on -/
def DkAt (code : ByteArray) (pc : Nat) (bs : List UInt8) : Prop := ∀ (j : Nat) (b : UInt8), bs[j]? = some b → code.data.toList[pc + j]? = some b
/-- the piece W has the bytes bs from its place j on -/
def dkIn (W : List UInt8) (j : Nat) (bs : List UInt8) : Bool := decide ((W.drop j).take bs.length = bs)
theorem dk_seg {l W T : List UInt8} {o o2 : Nat} (h : l.drop o = W ++ T) (n : Nat) (hn : W.length = n) (ho : o + n = o2) : l.drop o2 = T := by
  subst ho
  rw [← List.drop_drop, h, List.drop_left' hn]
theorem dk_at {code : ByteArray} {W T bs : List UInt8} {o pc : Nat} (h : code.data.toList.drop o = W ++ T) (j : Nat) (hp : o + j = pc) (hw : dkIn W j bs = true) : DkAt code pc bs := by
  subst hp
  intro i b e
  have h1 := of_decide_eq_true hw
  have h2 : i < bs.length := (List.getElem?_eq_some_iff.mp e).1
  have h3 : W[j + i]? = some b := by
    rw [← h1, List.getElem?_take, if_pos h2, List.getElem?_drop] at e
    exact e
  have h4 : j + i < W.length := (List.getElem?_eq_some_iff.mp h3).1
  have h5 : (code.data.toList.drop o)[j + i]? = some b := by
    rw [h, List.getElem?_append_left h4]
    exact h3
  rw [List.getElem?_drop, ← Nat.add_assoc] at h5
  exact h5
theorem dk_u1 {A : ByteArray} {p : Nat} {b : UInt8} (h : A.data.toList[p]? = some b) : (Reader.u1 : Reader DecodeError Nat) A p = .ok (b.toNat, p + 1) := by
  obtain ⟨h1, h2⟩ := List.getElem?_eq_some_iff.mp h
  have h3 : p < A.size := by simpa using h1
  have h4 : A[p]'h3 = b := h2
  have e : (Reader.u1 : Reader DecodeError Nat) A p = (if h : p < A.size then .ok (A[p].toNat, p + 1) else .error (HasTruncated.truncated p)) := by
    show (do if h : p < A.size then do set (p + 1); Pure.pure A[p].toNat else MonadExcept.throw (HasTruncated.truncated p) : Reader DecodeError Nat) A p = _
    by_cases hi : p < A.size
    · rw [dif_pos hi, dif_pos hi]; rfl
    · rw [dif_neg hi, dif_neg hi]; rfl
  rw [e, dif_pos h3, h4]
theorem dk_bind {α β : Type} {r : Reader DecodeError α} {f : α → Reader DecodeError β} {A : ByteArray} {p s : Nat} {a : α} (h : r A p = .ok (a, s)) : (r >>= f) A p = f a A s := by
  show (do let (a, s) ← r A p; f a A s : Except DecodeError (β × Nat)) = _
  rw [h]
  rfl
theorem dk_map {α β : Type} {r : Reader DecodeError α} {g : α → β} {A : ByteArray} {p s : Nat} {a : α} (h : r A p = .ok (a, s)) : (g <$> r) A p = .ok (g a, s) := by
  show (do let (a, s) ← r A p; .ok (g a, s) : Except DecodeError (β × Nat)) = _
  rw [h]
  rfl
theorem dk_u2 {A : ByteArray} {p : Nat} {a b : UInt8} (h : A.data.toList[p]? = some a) (h2 : A.data.toList[p + 1]? = some b) : (Reader.u2 : Reader DecodeError Nat) A p = .ok (a.toNat * 256 + b.toNat, p + 2) := by
  show (Reader.u1 >>= fun hi => Reader.u1 >>= fun lo => Pure.pure (hi * 256 + lo) : Reader DecodeError Nat) A p = _
  rw [dk_bind (dk_u1 h), dk_bind (dk_u1 h2)]
  rfl
theorem dk_of {code : ByteArray} {pc n : Nat} {i : Instr} (h : Decoder.instr pc code pc = .ok (i, pc + n)) : decode code pc = .ok (i, n) := by
  have e : decode code pc = (match Decoder.instr pc code pc with | .error x => .error x | .ok (j, s) => .ok (j, s - pc)) := by
    show (do let (j, s) ← Decoder.instr pc code pc; Pure.pure (j, s - pc) : Except DecodeError (Instr × Nat)) = _
    cases Decoder.instr pc code pc <;> rfl
  rw [e, h]
  show Except.ok (i, pc + n - pc) = _
  rw [Nat.add_sub_cancel_left]
theorem dk_1 {code : ByteArray} {pc : Nat} (h : DkAt code pc [1]) : decode code pc = .ok (.aconst_null, 1) := dk_of ((dk_bind (dk_u1 (h 0 _ rfl))).trans rfl)
theorem dk_2 {code : ByteArray} {pc : Nat} (h : DkAt code pc [2]) : decode code pc = .ok (.iconst (-1), 1) := dk_of ((dk_bind (dk_u1 (h 0 _ rfl))).trans rfl)
theorem dk_3 {code : ByteArray} {pc : Nat} (h : DkAt code pc [3]) : decode code pc = .ok (.iconst 0, 1) := dk_of ((dk_bind (dk_u1 (h 0 _ rfl))).trans rfl)
theorem dk_4 {code : ByteArray} {pc : Nat} (h : DkAt code pc [4]) : decode code pc = .ok (.iconst 1, 1) := dk_of ((dk_bind (dk_u1 (h 0 _ rfl))).trans rfl)
theorem dk_5 {code : ByteArray} {pc : Nat} (h : DkAt code pc [5]) : decode code pc = .ok (.iconst 2, 1) := dk_of ((dk_bind (dk_u1 (h 0 _ rfl))).trans rfl)
theorem dk_6 {code : ByteArray} {pc : Nat} (h : DkAt code pc [6]) : decode code pc = .ok (.iconst 3, 1) := dk_of ((dk_bind (dk_u1 (h 0 _ rfl))).trans rfl)
theorem dk_7 {code : ByteArray} {pc : Nat} (h : DkAt code pc [7]) : decode code pc = .ok (.iconst 4, 1) := dk_of ((dk_bind (dk_u1 (h 0 _ rfl))).trans rfl)
theorem dk_8 {code : ByteArray} {pc : Nat} (h : DkAt code pc [8]) : decode code pc = .ok (.iconst 5, 1) := dk_of ((dk_bind (dk_u1 (h 0 _ rfl))).trans rfl)
theorem dk_9 {code : ByteArray} {pc : Nat} (h : DkAt code pc [9]) : decode code pc = .ok (.lconst 0, 1) := dk_of ((dk_bind (dk_u1 (h 0 _ rfl))).trans rfl)
theorem dk_10 {code : ByteArray} {pc : Nat} (h : DkAt code pc [10]) : decode code pc = .ok (.lconst 1, 1) := dk_of ((dk_bind (dk_u1 (h 0 _ rfl))).trans rfl)
theorem dk_16 {code : ByteArray} {pc : Nat} (a : UInt8) (h : DkAt code pc [16, a]) : decode code pc = .ok (.bipush (Reader.signed 8 a.toNat), 2) := dk_of ((dk_bind (dk_u1 (h 0 _ rfl))).trans ((dk_bind (dk_map (dk_u1 (h 1 _ rfl)))).trans rfl))
theorem dk_17 {code : ByteArray} {pc : Nat} (a b : UInt8) (h : DkAt code pc [17, a, b]) : decode code pc = .ok (.sipush (Reader.signed 16 (a.toNat * 256 + b.toNat)), 3) := dk_of ((dk_bind (dk_u1 (h 0 _ rfl))).trans ((dk_bind (dk_map (dk_u2 (h 1 _ rfl) (h 2 _ rfl)))).trans rfl))
theorem dk_18 {code : ByteArray} {pc : Nat} (a : UInt8) (h : DkAt code pc [18, a]) : decode code pc = .ok (.ldc a.toNat, 2) := dk_of ((dk_bind (dk_u1 (h 0 _ rfl))).trans ((dk_bind (dk_u1 (h 1 _ rfl))).trans rfl))
theorem dk_19 {code : ByteArray} {pc : Nat} (a b : UInt8) (h : DkAt code pc [19, a, b]) : decode code pc = .ok (.ldc_w (a.toNat * 256 + b.toNat), 3) := dk_of ((dk_bind (dk_u1 (h 0 _ rfl))).trans ((dk_bind (dk_u2 (h 1 _ rfl) (h 2 _ rfl))).trans rfl))
theorem dk_20 {code : ByteArray} {pc : Nat} (a b : UInt8) (h : DkAt code pc [20, a, b]) : decode code pc = .ok (.ldc2_w (a.toNat * 256 + b.toNat), 3) := dk_of ((dk_bind (dk_u1 (h 0 _ rfl))).trans ((dk_bind (dk_u2 (h 1 _ rfl) (h 2 _ rfl))).trans rfl))
theorem dk_21 {code : ByteArray} {pc : Nat} (a : UInt8) (h : DkAt code pc [21, a]) : decode code pc = .ok (.iload a.toNat, 2) := dk_of ((dk_bind (dk_u1 (h 0 _ rfl))).trans ((dk_bind (dk_u1 (h 1 _ rfl))).trans rfl))
theorem dk_22 {code : ByteArray} {pc : Nat} (a : UInt8) (h : DkAt code pc [22, a]) : decode code pc = .ok (.lload a.toNat, 2) := dk_of ((dk_bind (dk_u1 (h 0 _ rfl))).trans ((dk_bind (dk_u1 (h 1 _ rfl))).trans rfl))
theorem dk_25 {code : ByteArray} {pc : Nat} (a : UInt8) (h : DkAt code pc [25, a]) : decode code pc = .ok (.aload a.toNat, 2) := dk_of ((dk_bind (dk_u1 (h 0 _ rfl))).trans ((dk_bind (dk_u1 (h 1 _ rfl))).trans rfl))
theorem dk_26 {code : ByteArray} {pc : Nat} (h : DkAt code pc [26]) : decode code pc = .ok (.iload_n 0, 1) := dk_of ((dk_bind (dk_u1 (h 0 _ rfl))).trans rfl)
theorem dk_27 {code : ByteArray} {pc : Nat} (h : DkAt code pc [27]) : decode code pc = .ok (.iload_n 1, 1) := dk_of ((dk_bind (dk_u1 (h 0 _ rfl))).trans rfl)
theorem dk_28 {code : ByteArray} {pc : Nat} (h : DkAt code pc [28]) : decode code pc = .ok (.iload_n 2, 1) := dk_of ((dk_bind (dk_u1 (h 0 _ rfl))).trans rfl)
theorem dk_29 {code : ByteArray} {pc : Nat} (h : DkAt code pc [29]) : decode code pc = .ok (.iload_n 3, 1) := dk_of ((dk_bind (dk_u1 (h 0 _ rfl))).trans rfl)
theorem dk_30 {code : ByteArray} {pc : Nat} (h : DkAt code pc [30]) : decode code pc = .ok (.lload_n 0, 1) := dk_of ((dk_bind (dk_u1 (h 0 _ rfl))).trans rfl)
theorem dk_31 {code : ByteArray} {pc : Nat} (h : DkAt code pc [31]) : decode code pc = .ok (.lload_n 1, 1) := dk_of ((dk_bind (dk_u1 (h 0 _ rfl))).trans rfl)
theorem dk_32 {code : ByteArray} {pc : Nat} (h : DkAt code pc [32]) : decode code pc = .ok (.lload_n 2, 1) := dk_of ((dk_bind (dk_u1 (h 0 _ rfl))).trans rfl)
theorem dk_33 {code : ByteArray} {pc : Nat} (h : DkAt code pc [33]) : decode code pc = .ok (.lload_n 3, 1) := dk_of ((dk_bind (dk_u1 (h 0 _ rfl))).trans rfl)
theorem dk_42 {code : ByteArray} {pc : Nat} (h : DkAt code pc [42]) : decode code pc = .ok (.aload_n 0, 1) := dk_of ((dk_bind (dk_u1 (h 0 _ rfl))).trans rfl)
theorem dk_43 {code : ByteArray} {pc : Nat} (h : DkAt code pc [43]) : decode code pc = .ok (.aload_n 1, 1) := dk_of ((dk_bind (dk_u1 (h 0 _ rfl))).trans rfl)
theorem dk_44 {code : ByteArray} {pc : Nat} (h : DkAt code pc [44]) : decode code pc = .ok (.aload_n 2, 1) := dk_of ((dk_bind (dk_u1 (h 0 _ rfl))).trans rfl)
theorem dk_45 {code : ByteArray} {pc : Nat} (h : DkAt code pc [45]) : decode code pc = .ok (.aload_n 3, 1) := dk_of ((dk_bind (dk_u1 (h 0 _ rfl))).trans rfl)
theorem dk_46 {code : ByteArray} {pc : Nat} (h : DkAt code pc [46]) : decode code pc = .ok (.iaload, 1) := dk_of ((dk_bind (dk_u1 (h 0 _ rfl))).trans rfl)
theorem dk_47 {code : ByteArray} {pc : Nat} (h : DkAt code pc [47]) : decode code pc = .ok (.laload, 1) := dk_of ((dk_bind (dk_u1 (h 0 _ rfl))).trans rfl)
theorem dk_50 {code : ByteArray} {pc : Nat} (h : DkAt code pc [50]) : decode code pc = .ok (.aaload, 1) := dk_of ((dk_bind (dk_u1 (h 0 _ rfl))).trans rfl)
theorem dk_51 {code : ByteArray} {pc : Nat} (h : DkAt code pc [51]) : decode code pc = .ok (.baload, 1) := dk_of ((dk_bind (dk_u1 (h 0 _ rfl))).trans rfl)
theorem dk_54 {code : ByteArray} {pc : Nat} (a : UInt8) (h : DkAt code pc [54, a]) : decode code pc = .ok (.istore a.toNat, 2) := dk_of ((dk_bind (dk_u1 (h 0 _ rfl))).trans ((dk_bind (dk_u1 (h 1 _ rfl))).trans rfl))
theorem dk_55 {code : ByteArray} {pc : Nat} (a : UInt8) (h : DkAt code pc [55, a]) : decode code pc = .ok (.lstore a.toNat, 2) := dk_of ((dk_bind (dk_u1 (h 0 _ rfl))).trans ((dk_bind (dk_u1 (h 1 _ rfl))).trans rfl))
theorem dk_58 {code : ByteArray} {pc : Nat} (a : UInt8) (h : DkAt code pc [58, a]) : decode code pc = .ok (.astore a.toNat, 2) := dk_of ((dk_bind (dk_u1 (h 0 _ rfl))).trans ((dk_bind (dk_u1 (h 1 _ rfl))).trans rfl))
theorem dk_59 {code : ByteArray} {pc : Nat} (h : DkAt code pc [59]) : decode code pc = .ok (.istore_n 0, 1) := dk_of ((dk_bind (dk_u1 (h 0 _ rfl))).trans rfl)
theorem dk_60 {code : ByteArray} {pc : Nat} (h : DkAt code pc [60]) : decode code pc = .ok (.istore_n 1, 1) := dk_of ((dk_bind (dk_u1 (h 0 _ rfl))).trans rfl)
theorem dk_61 {code : ByteArray} {pc : Nat} (h : DkAt code pc [61]) : decode code pc = .ok (.istore_n 2, 1) := dk_of ((dk_bind (dk_u1 (h 0 _ rfl))).trans rfl)
theorem dk_62 {code : ByteArray} {pc : Nat} (h : DkAt code pc [62]) : decode code pc = .ok (.istore_n 3, 1) := dk_of ((dk_bind (dk_u1 (h 0 _ rfl))).trans rfl)
theorem dk_64 {code : ByteArray} {pc : Nat} (h : DkAt code pc [64]) : decode code pc = .ok (.lstore_n 1, 1) := dk_of ((dk_bind (dk_u1 (h 0 _ rfl))).trans rfl)
theorem dk_76 {code : ByteArray} {pc : Nat} (h : DkAt code pc [76]) : decode code pc = .ok (.astore_n 1, 1) := dk_of ((dk_bind (dk_u1 (h 0 _ rfl))).trans rfl)
theorem dk_77 {code : ByteArray} {pc : Nat} (h : DkAt code pc [77]) : decode code pc = .ok (.astore_n 2, 1) := dk_of ((dk_bind (dk_u1 (h 0 _ rfl))).trans rfl)
theorem dk_78 {code : ByteArray} {pc : Nat} (h : DkAt code pc [78]) : decode code pc = .ok (.astore_n 3, 1) := dk_of ((dk_bind (dk_u1 (h 0 _ rfl))).trans rfl)
theorem dk_79 {code : ByteArray} {pc : Nat} (h : DkAt code pc [79]) : decode code pc = .ok (.iastore, 1) := dk_of ((dk_bind (dk_u1 (h 0 _ rfl))).trans rfl)
theorem dk_80 {code : ByteArray} {pc : Nat} (h : DkAt code pc [80]) : decode code pc = .ok (.lastore, 1) := dk_of ((dk_bind (dk_u1 (h 0 _ rfl))).trans rfl)
theorem dk_83 {code : ByteArray} {pc : Nat} (h : DkAt code pc [83]) : decode code pc = .ok (.aastore, 1) := dk_of ((dk_bind (dk_u1 (h 0 _ rfl))).trans rfl)
theorem dk_84 {code : ByteArray} {pc : Nat} (h : DkAt code pc [84]) : decode code pc = .ok (.bastore, 1) := dk_of ((dk_bind (dk_u1 (h 0 _ rfl))).trans rfl)
theorem dk_87 {code : ByteArray} {pc : Nat} (h : DkAt code pc [87]) : decode code pc = .ok (.pop, 1) := dk_of ((dk_bind (dk_u1 (h 0 _ rfl))).trans rfl)
theorem dk_89 {code : ByteArray} {pc : Nat} (h : DkAt code pc [89]) : decode code pc = .ok (.dup, 1) := dk_of ((dk_bind (dk_u1 (h 0 _ rfl))).trans rfl)
theorem dk_90 {code : ByteArray} {pc : Nat} (h : DkAt code pc [90]) : decode code pc = .ok (.dup_x1, 1) := dk_of ((dk_bind (dk_u1 (h 0 _ rfl))).trans rfl)
theorem dk_92 {code : ByteArray} {pc : Nat} (h : DkAt code pc [92]) : decode code pc = .ok (.dup2, 1) := dk_of ((dk_bind (dk_u1 (h 0 _ rfl))).trans rfl)
theorem dk_96 {code : ByteArray} {pc : Nat} (h : DkAt code pc [96]) : decode code pc = .ok (.iadd, 1) := dk_of ((dk_bind (dk_u1 (h 0 _ rfl))).trans rfl)
theorem dk_97 {code : ByteArray} {pc : Nat} (h : DkAt code pc [97]) : decode code pc = .ok (.ladd, 1) := dk_of ((dk_bind (dk_u1 (h 0 _ rfl))).trans rfl)
theorem dk_100 {code : ByteArray} {pc : Nat} (h : DkAt code pc [100]) : decode code pc = .ok (.isub, 1) := dk_of ((dk_bind (dk_u1 (h 0 _ rfl))).trans rfl)
theorem dk_101 {code : ByteArray} {pc : Nat} (h : DkAt code pc [101]) : decode code pc = .ok (.lsub, 1) := dk_of ((dk_bind (dk_u1 (h 0 _ rfl))).trans rfl)
theorem dk_104 {code : ByteArray} {pc : Nat} (h : DkAt code pc [104]) : decode code pc = .ok (.imul, 1) := dk_of ((dk_bind (dk_u1 (h 0 _ rfl))).trans rfl)
theorem dk_105 {code : ByteArray} {pc : Nat} (h : DkAt code pc [105]) : decode code pc = .ok (.lmul, 1) := dk_of ((dk_bind (dk_u1 (h 0 _ rfl))).trans rfl)
theorem dk_108 {code : ByteArray} {pc : Nat} (h : DkAt code pc [108]) : decode code pc = .ok (.idiv, 1) := dk_of ((dk_bind (dk_u1 (h 0 _ rfl))).trans rfl)
theorem dk_109 {code : ByteArray} {pc : Nat} (h : DkAt code pc [109]) : decode code pc = .ok (.ldiv, 1) := dk_of ((dk_bind (dk_u1 (h 0 _ rfl))).trans rfl)
theorem dk_112 {code : ByteArray} {pc : Nat} (h : DkAt code pc [112]) : decode code pc = .ok (.irem, 1) := dk_of ((dk_bind (dk_u1 (h 0 _ rfl))).trans rfl)
theorem dk_116 {code : ByteArray} {pc : Nat} (h : DkAt code pc [116]) : decode code pc = .ok (.ineg, 1) := dk_of ((dk_bind (dk_u1 (h 0 _ rfl))).trans rfl)
theorem dk_120 {code : ByteArray} {pc : Nat} (h : DkAt code pc [120]) : decode code pc = .ok (.ishl, 1) := dk_of ((dk_bind (dk_u1 (h 0 _ rfl))).trans rfl)
theorem dk_121 {code : ByteArray} {pc : Nat} (h : DkAt code pc [121]) : decode code pc = .ok (.lshl, 1) := dk_of ((dk_bind (dk_u1 (h 0 _ rfl))).trans rfl)
theorem dk_122 {code : ByteArray} {pc : Nat} (h : DkAt code pc [122]) : decode code pc = .ok (.ishr, 1) := dk_of ((dk_bind (dk_u1 (h 0 _ rfl))).trans rfl)
theorem dk_124 {code : ByteArray} {pc : Nat} (h : DkAt code pc [124]) : decode code pc = .ok (.iushr, 1) := dk_of ((dk_bind (dk_u1 (h 0 _ rfl))).trans rfl)
theorem dk_126 {code : ByteArray} {pc : Nat} (h : DkAt code pc [126]) : decode code pc = .ok (.iand, 1) := dk_of ((dk_bind (dk_u1 (h 0 _ rfl))).trans rfl)
theorem dk_128 {code : ByteArray} {pc : Nat} (h : DkAt code pc [128]) : decode code pc = .ok (.ior, 1) := dk_of ((dk_bind (dk_u1 (h 0 _ rfl))).trans rfl)
theorem dk_129 {code : ByteArray} {pc : Nat} (h : DkAt code pc [129]) : decode code pc = .ok (.lor, 1) := dk_of ((dk_bind (dk_u1 (h 0 _ rfl))).trans rfl)
theorem dk_130 {code : ByteArray} {pc : Nat} (h : DkAt code pc [130]) : decode code pc = .ok (.ixor, 1) := dk_of ((dk_bind (dk_u1 (h 0 _ rfl))).trans rfl)
theorem dk_132 {code : ByteArray} {pc : Nat} (a b : UInt8) (h : DkAt code pc [132, a, b]) : decode code pc = .ok (.iinc a.toNat (Reader.signed 8 b.toNat), 3) := dk_of ((dk_bind (dk_u1 (h 0 _ rfl))).trans ((dk_bind (dk_u1 (h 1 _ rfl))).trans ((dk_bind (dk_map (dk_u1 (h 2 _ rfl)))).trans rfl)))
theorem dk_133 {code : ByteArray} {pc : Nat} (h : DkAt code pc [133]) : decode code pc = .ok (.i2l, 1) := dk_of ((dk_bind (dk_u1 (h 0 _ rfl))).trans rfl)
theorem dk_136 {code : ByteArray} {pc : Nat} (h : DkAt code pc [136]) : decode code pc = .ok (.l2i, 1) := dk_of ((dk_bind (dk_u1 (h 0 _ rfl))).trans rfl)
theorem dk_145 {code : ByteArray} {pc : Nat} (h : DkAt code pc [145]) : decode code pc = .ok (.i2b, 1) := dk_of ((dk_bind (dk_u1 (h 0 _ rfl))).trans rfl)
theorem dk_146 {code : ByteArray} {pc : Nat} (h : DkAt code pc [146]) : decode code pc = .ok (.i2c, 1) := dk_of ((dk_bind (dk_u1 (h 0 _ rfl))).trans rfl)
theorem dk_148 {code : ByteArray} {pc : Nat} (h : DkAt code pc [148]) : decode code pc = .ok (.lcmp, 1) := dk_of ((dk_bind (dk_u1 (h 0 _ rfl))).trans rfl)
theorem dk_153 {code : ByteArray} {pc : Nat} (a b : UInt8) (h : DkAt code pc [153, a, b]) : decode code pc = .ok (.ifCond .eq (Reader.signed 16 (a.toNat * 256 + b.toNat)), 3) := dk_of ((dk_bind (dk_u1 (h 0 _ rfl))).trans ((dk_bind (dk_map (dk_u2 (h 1 _ rfl) (h 2 _ rfl)))).trans rfl))
theorem dk_154 {code : ByteArray} {pc : Nat} (a b : UInt8) (h : DkAt code pc [154, a, b]) : decode code pc = .ok (.ifCond .ne (Reader.signed 16 (a.toNat * 256 + b.toNat)), 3) := dk_of ((dk_bind (dk_u1 (h 0 _ rfl))).trans ((dk_bind (dk_map (dk_u2 (h 1 _ rfl) (h 2 _ rfl)))).trans rfl))
theorem dk_155 {code : ByteArray} {pc : Nat} (a b : UInt8) (h : DkAt code pc [155, a, b]) : decode code pc = .ok (.ifCond .lt (Reader.signed 16 (a.toNat * 256 + b.toNat)), 3) := dk_of ((dk_bind (dk_u1 (h 0 _ rfl))).trans ((dk_bind (dk_map (dk_u2 (h 1 _ rfl) (h 2 _ rfl)))).trans rfl))
theorem dk_156 {code : ByteArray} {pc : Nat} (a b : UInt8) (h : DkAt code pc [156, a, b]) : decode code pc = .ok (.ifCond .ge (Reader.signed 16 (a.toNat * 256 + b.toNat)), 3) := dk_of ((dk_bind (dk_u1 (h 0 _ rfl))).trans ((dk_bind (dk_map (dk_u2 (h 1 _ rfl) (h 2 _ rfl)))).trans rfl))
theorem dk_157 {code : ByteArray} {pc : Nat} (a b : UInt8) (h : DkAt code pc [157, a, b]) : decode code pc = .ok (.ifCond .gt (Reader.signed 16 (a.toNat * 256 + b.toNat)), 3) := dk_of ((dk_bind (dk_u1 (h 0 _ rfl))).trans ((dk_bind (dk_map (dk_u2 (h 1 _ rfl) (h 2 _ rfl)))).trans rfl))
theorem dk_158 {code : ByteArray} {pc : Nat} (a b : UInt8) (h : DkAt code pc [158, a, b]) : decode code pc = .ok (.ifCond .le (Reader.signed 16 (a.toNat * 256 + b.toNat)), 3) := dk_of ((dk_bind (dk_u1 (h 0 _ rfl))).trans ((dk_bind (dk_map (dk_u2 (h 1 _ rfl) (h 2 _ rfl)))).trans rfl))
theorem dk_159 {code : ByteArray} {pc : Nat} (a b : UInt8) (h : DkAt code pc [159, a, b]) : decode code pc = .ok (.if_icmp .eq (Reader.signed 16 (a.toNat * 256 + b.toNat)), 3) := dk_of ((dk_bind (dk_u1 (h 0 _ rfl))).trans ((dk_bind (dk_map (dk_u2 (h 1 _ rfl) (h 2 _ rfl)))).trans rfl))
theorem dk_160 {code : ByteArray} {pc : Nat} (a b : UInt8) (h : DkAt code pc [160, a, b]) : decode code pc = .ok (.if_icmp .ne (Reader.signed 16 (a.toNat * 256 + b.toNat)), 3) := dk_of ((dk_bind (dk_u1 (h 0 _ rfl))).trans ((dk_bind (dk_map (dk_u2 (h 1 _ rfl) (h 2 _ rfl)))).trans rfl))
theorem dk_161 {code : ByteArray} {pc : Nat} (a b : UInt8) (h : DkAt code pc [161, a, b]) : decode code pc = .ok (.if_icmp .lt (Reader.signed 16 (a.toNat * 256 + b.toNat)), 3) := dk_of ((dk_bind (dk_u1 (h 0 _ rfl))).trans ((dk_bind (dk_map (dk_u2 (h 1 _ rfl) (h 2 _ rfl)))).trans rfl))
theorem dk_162 {code : ByteArray} {pc : Nat} (a b : UInt8) (h : DkAt code pc [162, a, b]) : decode code pc = .ok (.if_icmp .ge (Reader.signed 16 (a.toNat * 256 + b.toNat)), 3) := dk_of ((dk_bind (dk_u1 (h 0 _ rfl))).trans ((dk_bind (dk_map (dk_u2 (h 1 _ rfl) (h 2 _ rfl)))).trans rfl))
theorem dk_163 {code : ByteArray} {pc : Nat} (a b : UInt8) (h : DkAt code pc [163, a, b]) : decode code pc = .ok (.if_icmp .gt (Reader.signed 16 (a.toNat * 256 + b.toNat)), 3) := dk_of ((dk_bind (dk_u1 (h 0 _ rfl))).trans ((dk_bind (dk_map (dk_u2 (h 1 _ rfl) (h 2 _ rfl)))).trans rfl))
theorem dk_164 {code : ByteArray} {pc : Nat} (a b : UInt8) (h : DkAt code pc [164, a, b]) : decode code pc = .ok (.if_icmp .le (Reader.signed 16 (a.toNat * 256 + b.toNat)), 3) := dk_of ((dk_bind (dk_u1 (h 0 _ rfl))).trans ((dk_bind (dk_map (dk_u2 (h 1 _ rfl) (h 2 _ rfl)))).trans rfl))
theorem dk_165 {code : ByteArray} {pc : Nat} (a b : UInt8) (h : DkAt code pc [165, a, b]) : decode code pc = .ok (.if_acmp .eq (Reader.signed 16 (a.toNat * 256 + b.toNat)), 3) := dk_of ((dk_bind (dk_u1 (h 0 _ rfl))).trans ((dk_bind (dk_map (dk_u2 (h 1 _ rfl) (h 2 _ rfl)))).trans rfl))
theorem dk_166 {code : ByteArray} {pc : Nat} (a b : UInt8) (h : DkAt code pc [166, a, b]) : decode code pc = .ok (.if_acmp .ne (Reader.signed 16 (a.toNat * 256 + b.toNat)), 3) := dk_of ((dk_bind (dk_u1 (h 0 _ rfl))).trans ((dk_bind (dk_map (dk_u2 (h 1 _ rfl) (h 2 _ rfl)))).trans rfl))
theorem dk_167 {code : ByteArray} {pc : Nat} (a b : UInt8) (h : DkAt code pc [167, a, b]) : decode code pc = .ok (.goto (Reader.signed 16 (a.toNat * 256 + b.toNat)), 3) := dk_of ((dk_bind (dk_u1 (h 0 _ rfl))).trans ((dk_bind (dk_map (dk_u2 (h 1 _ rfl) (h 2 _ rfl)))).trans rfl))
theorem dk_172 {code : ByteArray} {pc : Nat} (h : DkAt code pc [172]) : decode code pc = .ok (.ireturn, 1) := dk_of ((dk_bind (dk_u1 (h 0 _ rfl))).trans rfl)
theorem dk_173 {code : ByteArray} {pc : Nat} (h : DkAt code pc [173]) : decode code pc = .ok (.lreturn, 1) := dk_of ((dk_bind (dk_u1 (h 0 _ rfl))).trans rfl)
theorem dk_176 {code : ByteArray} {pc : Nat} (h : DkAt code pc [176]) : decode code pc = .ok (.areturn, 1) := dk_of ((dk_bind (dk_u1 (h 0 _ rfl))).trans rfl)
theorem dk_177 {code : ByteArray} {pc : Nat} (h : DkAt code pc [177]) : decode code pc = .ok (.return_, 1) := dk_of ((dk_bind (dk_u1 (h 0 _ rfl))).trans rfl)
theorem dk_178 {code : ByteArray} {pc : Nat} (a b : UInt8) (h : DkAt code pc [178, a, b]) : decode code pc = .ok (.getstatic (a.toNat * 256 + b.toNat), 3) := dk_of ((dk_bind (dk_u1 (h 0 _ rfl))).trans ((dk_bind (dk_u2 (h 1 _ rfl) (h 2 _ rfl))).trans rfl))
theorem dk_180 {code : ByteArray} {pc : Nat} (a b : UInt8) (h : DkAt code pc [180, a, b]) : decode code pc = .ok (.getfield (a.toNat * 256 + b.toNat), 3) := dk_of ((dk_bind (dk_u1 (h 0 _ rfl))).trans ((dk_bind (dk_u2 (h 1 _ rfl) (h 2 _ rfl))).trans rfl))
theorem dk_181 {code : ByteArray} {pc : Nat} (a b : UInt8) (h : DkAt code pc [181, a, b]) : decode code pc = .ok (.putfield (a.toNat * 256 + b.toNat), 3) := dk_of ((dk_bind (dk_u1 (h 0 _ rfl))).trans ((dk_bind (dk_u2 (h 1 _ rfl) (h 2 _ rfl))).trans rfl))
theorem dk_182 {code : ByteArray} {pc : Nat} (a b : UInt8) (h : DkAt code pc [182, a, b]) : decode code pc = .ok (.invokevirtual (a.toNat * 256 + b.toNat), 3) := dk_of ((dk_bind (dk_u1 (h 0 _ rfl))).trans ((dk_bind (dk_u2 (h 1 _ rfl) (h 2 _ rfl))).trans rfl))
theorem dk_183 {code : ByteArray} {pc : Nat} (a b : UInt8) (h : DkAt code pc [183, a, b]) : decode code pc = .ok (.invokespecial (a.toNat * 256 + b.toNat), 3) := dk_of ((dk_bind (dk_u1 (h 0 _ rfl))).trans ((dk_bind (dk_u2 (h 1 _ rfl) (h 2 _ rfl))).trans rfl))
theorem dk_184 {code : ByteArray} {pc : Nat} (a b : UInt8) (h : DkAt code pc [184, a, b]) : decode code pc = .ok (.invokestatic (a.toNat * 256 + b.toNat), 3) := dk_of ((dk_bind (dk_u1 (h 0 _ rfl))).trans ((dk_bind (dk_u2 (h 1 _ rfl) (h 2 _ rfl))).trans rfl))
theorem dk_187 {code : ByteArray} {pc : Nat} (a b : UInt8) (h : DkAt code pc [187, a, b]) : decode code pc = .ok (.new (a.toNat * 256 + b.toNat), 3) := dk_of ((dk_bind (dk_u1 (h 0 _ rfl))).trans ((dk_bind (dk_u2 (h 1 _ rfl) (h 2 _ rfl))).trans rfl))
theorem dk_188_4 {code : ByteArray} {pc : Nat} (h : DkAt code pc [188, 4]) : decode code pc = .ok (.newarray .boolean, 2) := dk_of ((dk_bind (dk_u1 (h 0 _ rfl))).trans ((dk_bind (dk_u1 (h 1 _ rfl))).trans rfl))
theorem dk_188_8 {code : ByteArray} {pc : Nat} (h : DkAt code pc [188, 8]) : decode code pc = .ok (.newarray .byte, 2) := dk_of ((dk_bind (dk_u1 (h 0 _ rfl))).trans ((dk_bind (dk_u1 (h 1 _ rfl))).trans rfl))
theorem dk_188_10 {code : ByteArray} {pc : Nat} (h : DkAt code pc [188, 10]) : decode code pc = .ok (.newarray .int, 2) := dk_of ((dk_bind (dk_u1 (h 0 _ rfl))).trans ((dk_bind (dk_u1 (h 1 _ rfl))).trans rfl))
theorem dk_188_11 {code : ByteArray} {pc : Nat} (h : DkAt code pc [188, 11]) : decode code pc = .ok (.newarray .long, 2) := dk_of ((dk_bind (dk_u1 (h 0 _ rfl))).trans ((dk_bind (dk_u1 (h 1 _ rfl))).trans rfl))
theorem dk_189 {code : ByteArray} {pc : Nat} (a b : UInt8) (h : DkAt code pc [189, a, b]) : decode code pc = .ok (.anewarray (a.toNat * 256 + b.toNat), 3) := dk_of ((dk_bind (dk_u1 (h 0 _ rfl))).trans ((dk_bind (dk_u2 (h 1 _ rfl) (h 2 _ rfl))).trans rfl))
theorem dk_190 {code : ByteArray} {pc : Nat} (h : DkAt code pc [190]) : decode code pc = .ok (.arraylength, 1) := dk_of ((dk_bind (dk_u1 (h 0 _ rfl))).trans rfl)
theorem dk_191 {code : ByteArray} {pc : Nat} (h : DkAt code pc [191]) : decode code pc = .ok (.athrow, 1) := dk_of ((dk_bind (dk_u1 (h 0 _ rfl))).trans rfl)
theorem dk_192 {code : ByteArray} {pc : Nat} (a b : UInt8) (h : DkAt code pc [192, a, b]) : decode code pc = .ok (.checkcast (a.toNat * 256 + b.toNat), 3) := dk_of ((dk_bind (dk_u1 (h 0 _ rfl))).trans ((dk_bind (dk_u2 (h 1 _ rfl) (h 2 _ rfl))).trans rfl))
theorem dk_193 {code : ByteArray} {pc : Nat} (a b : UInt8) (h : DkAt code pc [193, a, b]) : decode code pc = .ok (.instanceof (a.toNat * 256 + b.toNat), 3) := dk_of ((dk_bind (dk_u1 (h 0 _ rfl))).trans ((dk_bind (dk_u2 (h 1 _ rfl) (h 2 _ rfl))).trans rfl))
theorem dk_198 {code : ByteArray} {pc : Nat} (a b : UInt8) (h : DkAt code pc [198, a, b]) : decode code pc = .ok (.ifnull (Reader.signed 16 (a.toNat * 256 + b.toNat)), 3) := dk_of ((dk_bind (dk_u1 (h 0 _ rfl))).trans ((dk_bind (dk_map (dk_u2 (h 1 _ rfl) (h 2 _ rfl)))).trans rfl))
theorem dk_199 {code : ByteArray} {pc : Nat} (a b : UInt8) (h : DkAt code pc [199, a, b]) : decode code pc = .ok (.ifnonnull (Reader.signed 16 (a.toNat * 256 + b.toNat)), 3) := dk_of ((dk_bind (dk_u1 (h 0 _ rfl))).trans ((dk_bind (dk_map (dk_u2 (h 1 _ rfl) (h 2 _ rfl)))).trans rfl))
/-! DripCupsModel -/
set_option maxRecDepth 100000
def RX4 : String := "DripCupsModel"
def TX4 : u_T := fun k => match k with
  | 0 => ("DripCupsModel", "thrown", "I", false)
  | 1 => ("DripCupsModel", "cups", "I", false)
  | 2 => ("DripCupsModel", "leaksAt", "I", false)
  | 3 => ("DripCupsModel", "frostAt", "I", false)
  | 4 => ("DripCupsModel", "spring", "[I", true)
  | 5 => ("DripCupsModel", "code", "[I", true)
  | 6 => ("DripCupsModel", "tape", "[I", true)
  | 7 => ("DripCupsModel", "taped", "I", false)
  | 8 => ("DripCupsModel", "faultKind", "I", false)
  | 9 => ("DripCupsModel", "faultPlace", "I", false)
  | 10 => ("DripCupsModel", "refused", "[I", true)
  | 11 => ("DripCupsModel", "long1", "I", false)
  | 12 => ("DripCupsModel", "next0", "I", false)
  | 13 => ("DripCupsModel", "sort", "I", false)
  | 14 => ("DripCupsModel", "place", "I", false)
  | 15 => ("DripCupsModel", "long0", "I", false)
  | 16 => ("DripCupsModel", "value", "I", false)
  | 17 => ("DripCupsModel", "sign", "I", false)
  | 18 => ("DripCupsModel", "word", "J", false)
  | 19 => ("DripCupsModel", "newCups", "I", false)
  | 20 => ("DripCupsModel", "newLeaksAt", "I", false)
  | 21 => ("DripCupsModel", "newFrostAt", "I", false)
  | 22 => ("DripCupsModel", "top", "I", false)
  | 23 => ("DripCupsModel", "waiting", "I", false)
  | 24 => ("DripCupsModel", "depth", "I", false)
  | 25 => ("DripCupsModel", "newSpring", "[I", true)
  | 26 => ("DripCupsModel", "newRow", "[I", true)
  | 27 => ("DripCupsModel", "readCode", "[I", true)
  | 28 => ("DripCupsModel", "waits", "[I", true)
  | 29 => ("DripCupsModel", "tested", "[Z", true)
  | 30 => ("DripCupsModel", "isPiped", "[Z", true)
  | 31 => ("DripCupsModel", "rows", "[I", true)
  | 32 => ("DripCupsModel", "ahead", "[I", true)
  | 33 => ("DripCupsModel", "acts", "I", false)
  | 34 => ("DripCupsModel", "told", "[I", true)
  | 35 => ("DripCupsModel", "pile", "[I", true)
  | 36 => ("DripCupsModel", "comes", "[I", true)
  | 37 => ("DripCupsModel", "times", "[I", true)
  | 38 => ("DripCupsModel", "tipped", "I", false)
  | 39 => ("DripCupsModel", "lost", "I", false)
  | 40 => ("DripCupsModel", "otherFrost", "I", false)
  | 41 => ("DripCupsModel", "deepOf", "[I", true)
  | 42 => ("DripCupsModel", "often", "[I", true)
  | 43 => ("DripCupsModel", "inflow", "[I", true)
  | 44 => ("DripCupsModel", "tipsOf", "[I", true)
  | 45 => ("DripCupsModel", "toFirst", "[I", true)
  | 46 => ("DripCupsModel", "toSecond", "[I", true)
  | 47 => ("DripCupsModel", "wereOf", "[I", true)
  | 48 => ("DripCupsModel", "waysTo", "[I", true)
  | 49 => ("DripCupsModel", "heardMany", "I", false)
  | 50 => ("DripCupsModel", "heard", "[I", true)
  | 51 => ("DripCupsModel", "tippedBy", "[I", true)
  | 52 => ("DripCupsModel", "kinds", "[I", true)
  | 53 => ("DripCupsModel", "its0", "I", false)
  | 54 => ("DripCupsModel", "hasImage", "Z", false)
  | 55 => ("DripCupsModel", "imageActs", "I", false)
  | 56 => ("DripCupsModel", "imageHeard", "I", false)
  | 57 => ("DripCupsModel", "imageRow", "[I", true)
  | 58 => ("DripCupsModel", "imageAhead", "[I", true)
  | _ => ("DripCupsModel", "imageHears", "[I", true)
def tyX4 : Nat → FieldType := fun k => match k with
  | 0 => .int
  | 1 => .int
  | 2 => .int
  | 3 => .int
  | 4 => .array .int
  | 5 => .array .int
  | 6 => .array .int
  | 7 => .int
  | 8 => .int
  | 9 => .int
  | 10 => .array .int
  | 11 => .int
  | 12 => .int
  | 13 => .int
  | 14 => .int
  | 15 => .int
  | 16 => .int
  | 17 => .int
  | 18 => .long
  | 19 => .int
  | 20 => .int
  | 21 => .int
  | 22 => .int
  | 23 => .int
  | 24 => .int
  | 25 => .array .int
  | 26 => .array .int
  | 27 => .array .int
  | 28 => .array .int
  | 29 => .array .boolean
  | 30 => .array .boolean
  | 31 => .array .int
  | 32 => .array .int
  | 33 => .int
  | 34 => .array .int
  | 35 => .array .int
  | 36 => .array .int
  | 37 => .array .int
  | 38 => .int
  | 39 => .int
  | 40 => .int
  | 41 => .array .int
  | 42 => .array .int
  | 43 => .array .int
  | 44 => .array .int
  | 45 => .array .int
  | 46 => .array .int
  | 47 => .array .int
  | 48 => .array .int
  | 49 => .int
  | 50 => .array .int
  | 51 => .array .int
  | 52 => .array .int
  | 53 => .int
  | 54 => .boolean
  | 55 => .int
  | 56 => .int
  | 57 => .array .int
  | 58 => .array .int
  | _ => .array .int
abbrev wsX40 : List Cond := u_ws RX4 TX4 60
set_option maxRecDepth 100000 in
theorem nmX4 : ∀ a, a < 60 → ∀ b, b < 60 → a ≠ b → (TX4 a).2.1 ≠ (TX4 b).2.1 := by decide +kernel
set_option maxRecDepth 100000 in
theorem tyX4_ok : ∀ k, k < 60 → parseFieldDescriptor (TX4 k).2.2.1 = some (tyX4 k) := by decide +kernel
abbrev cX4_init : ByteArray := prog_12_method_1_code
def yX4_init : MethodName := ⟨RX4, "<init>", "()V"⟩
def dkwX4_init_11 : List UInt8 := [17, 10, 0, 188, 10, 181, 0, 108, 42, 16, 24, 188, 10, 181, 0, 111, 177]
abbrev dktX4_init_11 : List UInt8 := dkwX4_init_11 ++ []
def dkwX4_init_10 : List UInt8 := [188, 10, 181, 0, 99, 42, 17, 80, 0, 188, 10, 181, 0, 102, 42, 16, 64, 188, 10, 181, 0, 105, 42]
abbrev dktX4_init_10 : List UInt8 := dkwX4_init_10 ++ dktX4_init_11
def dkwX4_init_9 : List UInt8 := [188, 10, 181, 0, 90, 42, 16, 9, 188, 10, 181, 0, 93, 42, 16, 24, 188, 10, 181, 0, 96, 42, 16, 40]
abbrev dktX4_init_9 : List UInt8 := dkwX4_init_9 ++ dktX4_init_10
def dkwX4_init_8 : List UInt8 := [188, 10, 181, 0, 81, 42, 16, 9, 188, 10, 181, 0, 84, 42, 16, 9, 188, 10, 181, 0, 87, 42, 16, 9]
abbrev dktX4_init_8 : List UInt8 := dkwX4_init_8 ++ dktX4_init_9
def dkwX4_init_7 : List UInt8 := [188, 10, 181, 0, 72, 42, 16, 9, 188, 10, 181, 0, 75, 42, 16, 9, 188, 10, 181, 0, 78, 42, 16, 9]
abbrev dktX4_init_7 : List UInt8 := dkwX4_init_7 ++ dktX4_init_8
def dkwX4_init_6 : List UInt8 := [16, 9, 188, 10, 181, 0, 63, 42, 16, 9, 188, 10, 181, 0, 66, 42, 2, 181, 0, 69, 42, 16, 9]
abbrev dktX4_init_6 : List UInt8 := dkwX4_init_6 ++ dktX4_init_7
def dkwX4_init_5 : List UInt8 := [188, 10, 181, 0, 54, 42, 16, 6, 188, 10, 181, 0, 57, 42, 17, 3, 182, 188, 10, 181, 0, 60, 42]
abbrev dktX4_init_5 : List UInt8 := dkwX4_init_5 ++ dktX4_init_6
def dkwX4_init_4 : List UInt8 := [181, 0, 44, 42, 16, 9, 188, 4, 181, 0, 48, 42, 17, 0, 128, 188, 10, 181, 0, 51, 42, 17, 10, 0]
abbrev dktX4_init_4 : List UInt8 := dkwX4_init_4 ++ dktX4_init_5
def dkwX4_init_3 : List UInt8 := [17, 5, 120, 188, 10, 181, 0, 38, 42, 17, 3, 182, 188, 10, 181, 0, 41, 42, 16, 9, 188, 4]
abbrev dktX4_init_3 : List UInt8 := dkwX4_init_3 ++ dktX4_init_4
def dkwX4_init_2 : List UInt8 := [188, 10, 181, 0, 29, 42, 16, 9, 188, 10, 181, 0, 32, 42, 16, 64, 188, 10, 181, 0, 35, 42]
abbrev dktX4_init_2 : List UInt8 := dkwX4_init_2 ++ dktX4_init_3
def dkwX4_init_1 : List UInt8 := [17, 5, 120, 188, 10, 181, 0, 20, 42, 17, 2, 188, 188, 10, 181, 0, 23, 42, 2, 181, 0, 26, 42, 6]
abbrev dktX4_init_1 : List UInt8 := dkwX4_init_1 ++ dktX4_init_2
def dkwX4_init_0 : List UInt8 := [42, 183, 0, 1, 42, 2, 181, 0, 9, 42, 2, 181, 0, 13, 42, 16, 9, 188, 10, 181, 0, 16, 42]
abbrev dktX4_init_0 : List UInt8 := dkwX4_init_0 ++ dktX4_init_1
theorem dksX4_init_0 : cX4_init.data.toList.drop 0 = dktX4_init_0 := by decide +kernel
theorem dksX4_init_1 : cX4_init.data.toList.drop 23 = dktX4_init_1 := dk_seg dksX4_init_0 23 rfl rfl
theorem dksX4_init_2 : cX4_init.data.toList.drop 47 = dktX4_init_2 := dk_seg dksX4_init_1 24 rfl rfl
theorem dksX4_init_3 : cX4_init.data.toList.drop 69 = dktX4_init_3 := dk_seg dksX4_init_2 22 rfl rfl
theorem dksX4_init_4 : cX4_init.data.toList.drop 91 = dktX4_init_4 := dk_seg dksX4_init_3 22 rfl rfl
theorem dksX4_init_5 : cX4_init.data.toList.drop 115 = dktX4_init_5 := dk_seg dksX4_init_4 24 rfl rfl
theorem dksX4_init_6 : cX4_init.data.toList.drop 138 = dktX4_init_6 := dk_seg dksX4_init_5 23 rfl rfl
theorem dksX4_init_7 : cX4_init.data.toList.drop 161 = dktX4_init_7 := dk_seg dksX4_init_6 23 rfl rfl
theorem dksX4_init_8 : cX4_init.data.toList.drop 185 = dktX4_init_8 := dk_seg dksX4_init_7 24 rfl rfl
theorem dksX4_init_9 : cX4_init.data.toList.drop 209 = dktX4_init_9 := dk_seg dksX4_init_8 24 rfl rfl
theorem dksX4_init_10 : cX4_init.data.toList.drop 233 = dktX4_init_10 := dk_seg dksX4_init_9 24 rfl rfl
theorem dksX4_init_11 : cX4_init.data.toList.drop 256 = dktX4_init_11 := dk_seg dksX4_init_10 23 rfl rfl
theorem dX4_init_0 : decode cX4_init 0 = .ok (.aload_n 0, 1) := dk_42 (dk_at dksX4_init_0 0 rfl rfl)
theorem dX4_init_1 : decode cX4_init 1 = .ok (.invokespecial 1, 3) := dk_183 0 1 (dk_at dksX4_init_0 1 rfl rfl)
theorem dX4_init_4 : decode cX4_init 4 = .ok (.aload_n 0, 1) := dk_42 (dk_at dksX4_init_0 4 rfl rfl)
theorem dX4_init_5 : decode cX4_init 5 = .ok (.iconst (-1), 1) := dk_2 (dk_at dksX4_init_0 5 rfl rfl)
theorem dX4_init_6 : decode cX4_init 6 = .ok (.putfield 9, 3) := dk_181 0 9 (dk_at dksX4_init_0 6 rfl rfl)
theorem dX4_init_9 : decode cX4_init 9 = .ok (.aload_n 0, 1) := dk_42 (dk_at dksX4_init_0 9 rfl rfl)
theorem dX4_init_10 : decode cX4_init 10 = .ok (.iconst (-1), 1) := dk_2 (dk_at dksX4_init_0 10 rfl rfl)
theorem dX4_init_11 : decode cX4_init 11 = .ok (.putfield 13, 3) := dk_181 0 13 (dk_at dksX4_init_0 11 rfl rfl)
theorem dX4_init_14 : decode cX4_init 14 = .ok (.aload_n 0, 1) := dk_42 (dk_at dksX4_init_0 14 rfl rfl)
theorem dX4_init_15 : decode cX4_init 15 = .ok (.bipush 9, 2) := dk_16 9 (dk_at dksX4_init_0 15 rfl rfl)
theorem dX4_init_17 : decode cX4_init 17 = .ok (.newarray .int, 2) := dk_188_10 (dk_at dksX4_init_0 17 rfl rfl)
theorem dX4_init_19 : decode cX4_init 19 = .ok (.putfield 16, 3) := dk_181 0 16 (dk_at dksX4_init_0 19 rfl rfl)
theorem dX4_init_22 : decode cX4_init 22 = .ok (.aload_n 0, 1) := dk_42 (dk_at dksX4_init_0 22 rfl rfl)
theorem dX4_init_23 : decode cX4_init 23 = .ok (.sipush 1400, 3) := dk_17 5 120 (dk_at dksX4_init_1 0 rfl rfl)
theorem dX4_init_26 : decode cX4_init 26 = .ok (.newarray .int, 2) := dk_188_10 (dk_at dksX4_init_1 3 rfl rfl)
theorem dX4_init_28 : decode cX4_init 28 = .ok (.putfield 20, 3) := dk_181 0 20 (dk_at dksX4_init_1 5 rfl rfl)
theorem dX4_init_31 : decode cX4_init 31 = .ok (.aload_n 0, 1) := dk_42 (dk_at dksX4_init_1 8 rfl rfl)
theorem dX4_init_32 : decode cX4_init 32 = .ok (.sipush 700, 3) := dk_17 2 188 (dk_at dksX4_init_1 9 rfl rfl)
theorem dX4_init_35 : decode cX4_init 35 = .ok (.newarray .int, 2) := dk_188_10 (dk_at dksX4_init_1 12 rfl rfl)
theorem dX4_init_37 : decode cX4_init 37 = .ok (.putfield 23, 3) := dk_181 0 23 (dk_at dksX4_init_1 14 rfl rfl)
theorem dX4_init_40 : decode cX4_init 40 = .ok (.aload_n 0, 1) := dk_42 (dk_at dksX4_init_1 17 rfl rfl)
theorem dX4_init_41 : decode cX4_init 41 = .ok (.iconst (-1), 1) := dk_2 (dk_at dksX4_init_1 18 rfl rfl)
theorem dX4_init_42 : decode cX4_init 42 = .ok (.putfield 26, 3) := dk_181 0 26 (dk_at dksX4_init_1 19 rfl rfl)
theorem dX4_init_45 : decode cX4_init 45 = .ok (.aload_n 0, 1) := dk_42 (dk_at dksX4_init_1 22 rfl rfl)
theorem dX4_init_46 : decode cX4_init 46 = .ok (.iconst 3, 1) := dk_6 (dk_at dksX4_init_1 23 rfl rfl)
theorem dX4_init_47 : decode cX4_init 47 = .ok (.newarray .int, 2) := dk_188_10 (dk_at dksX4_init_2 0 rfl rfl)
theorem dX4_init_49 : decode cX4_init 49 = .ok (.putfield 29, 3) := dk_181 0 29 (dk_at dksX4_init_2 2 rfl rfl)
theorem dX4_init_52 : decode cX4_init 52 = .ok (.aload_n 0, 1) := dk_42 (dk_at dksX4_init_2 5 rfl rfl)
theorem dX4_init_53 : decode cX4_init 53 = .ok (.bipush 9, 2) := dk_16 9 (dk_at dksX4_init_2 6 rfl rfl)
theorem dX4_init_55 : decode cX4_init 55 = .ok (.newarray .int, 2) := dk_188_10 (dk_at dksX4_init_2 8 rfl rfl)
theorem dX4_init_57 : decode cX4_init 57 = .ok (.putfield 32, 3) := dk_181 0 32 (dk_at dksX4_init_2 10 rfl rfl)
theorem dX4_init_60 : decode cX4_init 60 = .ok (.aload_n 0, 1) := dk_42 (dk_at dksX4_init_2 13 rfl rfl)
theorem dX4_init_61 : decode cX4_init 61 = .ok (.bipush 64, 2) := dk_16 64 (dk_at dksX4_init_2 14 rfl rfl)
theorem dX4_init_63 : decode cX4_init 63 = .ok (.newarray .int, 2) := dk_188_10 (dk_at dksX4_init_2 16 rfl rfl)
theorem dX4_init_65 : decode cX4_init 65 = .ok (.putfield 35, 3) := dk_181 0 35 (dk_at dksX4_init_2 18 rfl rfl)
theorem dX4_init_68 : decode cX4_init 68 = .ok (.aload_n 0, 1) := dk_42 (dk_at dksX4_init_2 21 rfl rfl)
theorem dX4_init_69 : decode cX4_init 69 = .ok (.sipush 1400, 3) := dk_17 5 120 (dk_at dksX4_init_3 0 rfl rfl)
theorem dX4_init_72 : decode cX4_init 72 = .ok (.newarray .int, 2) := dk_188_10 (dk_at dksX4_init_3 3 rfl rfl)
theorem dX4_init_74 : decode cX4_init 74 = .ok (.putfield 38, 3) := dk_181 0 38 (dk_at dksX4_init_3 5 rfl rfl)
theorem dX4_init_77 : decode cX4_init 77 = .ok (.aload_n 0, 1) := dk_42 (dk_at dksX4_init_3 8 rfl rfl)
theorem dX4_init_78 : decode cX4_init 78 = .ok (.sipush 950, 3) := dk_17 3 182 (dk_at dksX4_init_3 9 rfl rfl)
theorem dX4_init_81 : decode cX4_init 81 = .ok (.newarray .int, 2) := dk_188_10 (dk_at dksX4_init_3 12 rfl rfl)
theorem dX4_init_83 : decode cX4_init 83 = .ok (.putfield 41, 3) := dk_181 0 41 (dk_at dksX4_init_3 14 rfl rfl)
theorem dX4_init_86 : decode cX4_init 86 = .ok (.aload_n 0, 1) := dk_42 (dk_at dksX4_init_3 17 rfl rfl)
theorem dX4_init_87 : decode cX4_init 87 = .ok (.bipush 9, 2) := dk_16 9 (dk_at dksX4_init_3 18 rfl rfl)
theorem dX4_init_89 : decode cX4_init 89 = .ok (.newarray .boolean, 2) := dk_188_4 (dk_at dksX4_init_3 20 rfl rfl)
theorem dX4_init_91 : decode cX4_init 91 = .ok (.putfield 44, 3) := dk_181 0 44 (dk_at dksX4_init_4 0 rfl rfl)
theorem dX4_init_94 : decode cX4_init 94 = .ok (.aload_n 0, 1) := dk_42 (dk_at dksX4_init_4 3 rfl rfl)
theorem dX4_init_95 : decode cX4_init 95 = .ok (.bipush 9, 2) := dk_16 9 (dk_at dksX4_init_4 4 rfl rfl)
theorem dX4_init_97 : decode cX4_init 97 = .ok (.newarray .boolean, 2) := dk_188_4 (dk_at dksX4_init_4 6 rfl rfl)
theorem dX4_init_99 : decode cX4_init 99 = .ok (.putfield 48, 3) := dk_181 0 48 (dk_at dksX4_init_4 8 rfl rfl)
theorem dX4_init_102 : decode cX4_init 102 = .ok (.aload_n 0, 1) := dk_42 (dk_at dksX4_init_4 11 rfl rfl)
theorem dX4_init_103 : decode cX4_init 103 = .ok (.sipush 128, 3) := dk_17 0 128 (dk_at dksX4_init_4 12 rfl rfl)
theorem dX4_init_106 : decode cX4_init 106 = .ok (.newarray .int, 2) := dk_188_10 (dk_at dksX4_init_4 15 rfl rfl)
theorem dX4_init_108 : decode cX4_init 108 = .ok (.putfield 51, 3) := dk_181 0 51 (dk_at dksX4_init_4 17 rfl rfl)
theorem dX4_init_111 : decode cX4_init 111 = .ok (.aload_n 0, 1) := dk_42 (dk_at dksX4_init_4 20 rfl rfl)
theorem dX4_init_112 : decode cX4_init 112 = .ok (.sipush 2560, 3) := dk_17 10 0 (dk_at dksX4_init_4 21 rfl rfl)
theorem dX4_init_115 : decode cX4_init 115 = .ok (.newarray .int, 2) := dk_188_10 (dk_at dksX4_init_5 0 rfl rfl)
theorem dX4_init_117 : decode cX4_init 117 = .ok (.putfield 54, 3) := dk_181 0 54 (dk_at dksX4_init_5 2 rfl rfl)
theorem dX4_init_120 : decode cX4_init 120 = .ok (.aload_n 0, 1) := dk_42 (dk_at dksX4_init_5 5 rfl rfl)
theorem dX4_init_121 : decode cX4_init 121 = .ok (.bipush 6, 2) := dk_16 6 (dk_at dksX4_init_5 6 rfl rfl)
theorem dX4_init_123 : decode cX4_init 123 = .ok (.newarray .int, 2) := dk_188_10 (dk_at dksX4_init_5 8 rfl rfl)
theorem dX4_init_125 : decode cX4_init 125 = .ok (.putfield 57, 3) := dk_181 0 57 (dk_at dksX4_init_5 10 rfl rfl)
theorem dX4_init_128 : decode cX4_init 128 = .ok (.aload_n 0, 1) := dk_42 (dk_at dksX4_init_5 13 rfl rfl)
theorem dX4_init_129 : decode cX4_init 129 = .ok (.sipush 950, 3) := dk_17 3 182 (dk_at dksX4_init_5 14 rfl rfl)
theorem dX4_init_132 : decode cX4_init 132 = .ok (.newarray .int, 2) := dk_188_10 (dk_at dksX4_init_5 17 rfl rfl)
theorem dX4_init_134 : decode cX4_init 134 = .ok (.putfield 60, 3) := dk_181 0 60 (dk_at dksX4_init_5 19 rfl rfl)
theorem dX4_init_137 : decode cX4_init 137 = .ok (.aload_n 0, 1) := dk_42 (dk_at dksX4_init_5 22 rfl rfl)
theorem dX4_init_138 : decode cX4_init 138 = .ok (.bipush 9, 2) := dk_16 9 (dk_at dksX4_init_6 0 rfl rfl)
theorem dX4_init_140 : decode cX4_init 140 = .ok (.newarray .int, 2) := dk_188_10 (dk_at dksX4_init_6 2 rfl rfl)
theorem dX4_init_142 : decode cX4_init 142 = .ok (.putfield 63, 3) := dk_181 0 63 (dk_at dksX4_init_6 4 rfl rfl)
theorem dX4_init_145 : decode cX4_init 145 = .ok (.aload_n 0, 1) := dk_42 (dk_at dksX4_init_6 7 rfl rfl)
theorem dX4_init_146 : decode cX4_init 146 = .ok (.bipush 9, 2) := dk_16 9 (dk_at dksX4_init_6 8 rfl rfl)
theorem dX4_init_148 : decode cX4_init 148 = .ok (.newarray .int, 2) := dk_188_10 (dk_at dksX4_init_6 10 rfl rfl)
theorem dX4_init_150 : decode cX4_init 150 = .ok (.putfield 66, 3) := dk_181 0 66 (dk_at dksX4_init_6 12 rfl rfl)
theorem dX4_init_153 : decode cX4_init 153 = .ok (.aload_n 0, 1) := dk_42 (dk_at dksX4_init_6 15 rfl rfl)
theorem dX4_init_154 : decode cX4_init 154 = .ok (.iconst (-1), 1) := dk_2 (dk_at dksX4_init_6 16 rfl rfl)
theorem dX4_init_155 : decode cX4_init 155 = .ok (.putfield 69, 3) := dk_181 0 69 (dk_at dksX4_init_6 17 rfl rfl)
theorem dX4_init_158 : decode cX4_init 158 = .ok (.aload_n 0, 1) := dk_42 (dk_at dksX4_init_6 20 rfl rfl)
theorem dX4_init_159 : decode cX4_init 159 = .ok (.bipush 9, 2) := dk_16 9 (dk_at dksX4_init_6 21 rfl rfl)
theorem dX4_init_161 : decode cX4_init 161 = .ok (.newarray .int, 2) := dk_188_10 (dk_at dksX4_init_7 0 rfl rfl)
theorem dX4_init_163 : decode cX4_init 163 = .ok (.putfield 72, 3) := dk_181 0 72 (dk_at dksX4_init_7 2 rfl rfl)
theorem dX4_init_166 : decode cX4_init 166 = .ok (.aload_n 0, 1) := dk_42 (dk_at dksX4_init_7 5 rfl rfl)
theorem dX4_init_167 : decode cX4_init 167 = .ok (.bipush 9, 2) := dk_16 9 (dk_at dksX4_init_7 6 rfl rfl)
theorem dX4_init_169 : decode cX4_init 169 = .ok (.newarray .int, 2) := dk_188_10 (dk_at dksX4_init_7 8 rfl rfl)
theorem dX4_init_171 : decode cX4_init 171 = .ok (.putfield 75, 3) := dk_181 0 75 (dk_at dksX4_init_7 10 rfl rfl)
theorem dX4_init_174 : decode cX4_init 174 = .ok (.aload_n 0, 1) := dk_42 (dk_at dksX4_init_7 13 rfl rfl)
theorem dX4_init_175 : decode cX4_init 175 = .ok (.bipush 9, 2) := dk_16 9 (dk_at dksX4_init_7 14 rfl rfl)
theorem dX4_init_177 : decode cX4_init 177 = .ok (.newarray .int, 2) := dk_188_10 (dk_at dksX4_init_7 16 rfl rfl)
theorem dX4_init_179 : decode cX4_init 179 = .ok (.putfield 78, 3) := dk_181 0 78 (dk_at dksX4_init_7 18 rfl rfl)
theorem dX4_init_182 : decode cX4_init 182 = .ok (.aload_n 0, 1) := dk_42 (dk_at dksX4_init_7 21 rfl rfl)
theorem dX4_init_183 : decode cX4_init 183 = .ok (.bipush 9, 2) := dk_16 9 (dk_at dksX4_init_7 22 rfl rfl)
theorem dX4_init_185 : decode cX4_init 185 = .ok (.newarray .int, 2) := dk_188_10 (dk_at dksX4_init_8 0 rfl rfl)
theorem dX4_init_187 : decode cX4_init 187 = .ok (.putfield 81, 3) := dk_181 0 81 (dk_at dksX4_init_8 2 rfl rfl)
theorem dX4_init_190 : decode cX4_init 190 = .ok (.aload_n 0, 1) := dk_42 (dk_at dksX4_init_8 5 rfl rfl)
theorem dX4_init_191 : decode cX4_init 191 = .ok (.bipush 9, 2) := dk_16 9 (dk_at dksX4_init_8 6 rfl rfl)
theorem dX4_init_193 : decode cX4_init 193 = .ok (.newarray .int, 2) := dk_188_10 (dk_at dksX4_init_8 8 rfl rfl)
theorem dX4_init_195 : decode cX4_init 195 = .ok (.putfield 84, 3) := dk_181 0 84 (dk_at dksX4_init_8 10 rfl rfl)
theorem dX4_init_198 : decode cX4_init 198 = .ok (.aload_n 0, 1) := dk_42 (dk_at dksX4_init_8 13 rfl rfl)
theorem dX4_init_199 : decode cX4_init 199 = .ok (.bipush 9, 2) := dk_16 9 (dk_at dksX4_init_8 14 rfl rfl)
theorem dX4_init_201 : decode cX4_init 201 = .ok (.newarray .int, 2) := dk_188_10 (dk_at dksX4_init_8 16 rfl rfl)
theorem dX4_init_203 : decode cX4_init 203 = .ok (.putfield 87, 3) := dk_181 0 87 (dk_at dksX4_init_8 18 rfl rfl)
theorem dX4_init_206 : decode cX4_init 206 = .ok (.aload_n 0, 1) := dk_42 (dk_at dksX4_init_8 21 rfl rfl)
theorem dX4_init_207 : decode cX4_init 207 = .ok (.bipush 9, 2) := dk_16 9 (dk_at dksX4_init_8 22 rfl rfl)
theorem dX4_init_209 : decode cX4_init 209 = .ok (.newarray .int, 2) := dk_188_10 (dk_at dksX4_init_9 0 rfl rfl)
theorem dX4_init_211 : decode cX4_init 211 = .ok (.putfield 90, 3) := dk_181 0 90 (dk_at dksX4_init_9 2 rfl rfl)
theorem dX4_init_214 : decode cX4_init 214 = .ok (.aload_n 0, 1) := dk_42 (dk_at dksX4_init_9 5 rfl rfl)
theorem dX4_init_215 : decode cX4_init 215 = .ok (.bipush 9, 2) := dk_16 9 (dk_at dksX4_init_9 6 rfl rfl)
theorem dX4_init_217 : decode cX4_init 217 = .ok (.newarray .int, 2) := dk_188_10 (dk_at dksX4_init_9 8 rfl rfl)
theorem dX4_init_219 : decode cX4_init 219 = .ok (.putfield 93, 3) := dk_181 0 93 (dk_at dksX4_init_9 10 rfl rfl)
theorem dX4_init_222 : decode cX4_init 222 = .ok (.aload_n 0, 1) := dk_42 (dk_at dksX4_init_9 13 rfl rfl)
theorem dX4_init_223 : decode cX4_init 223 = .ok (.bipush 24, 2) := dk_16 24 (dk_at dksX4_init_9 14 rfl rfl)
theorem dX4_init_225 : decode cX4_init 225 = .ok (.newarray .int, 2) := dk_188_10 (dk_at dksX4_init_9 16 rfl rfl)
theorem dX4_init_227 : decode cX4_init 227 = .ok (.putfield 96, 3) := dk_181 0 96 (dk_at dksX4_init_9 18 rfl rfl)
theorem dX4_init_230 : decode cX4_init 230 = .ok (.aload_n 0, 1) := dk_42 (dk_at dksX4_init_9 21 rfl rfl)
theorem dX4_init_231 : decode cX4_init 231 = .ok (.bipush 40, 2) := dk_16 40 (dk_at dksX4_init_9 22 rfl rfl)
theorem dX4_init_233 : decode cX4_init 233 = .ok (.newarray .int, 2) := dk_188_10 (dk_at dksX4_init_10 0 rfl rfl)
theorem dX4_init_235 : decode cX4_init 235 = .ok (.putfield 99, 3) := dk_181 0 99 (dk_at dksX4_init_10 2 rfl rfl)
theorem dX4_init_238 : decode cX4_init 238 = .ok (.aload_n 0, 1) := dk_42 (dk_at dksX4_init_10 5 rfl rfl)
theorem dX4_init_239 : decode cX4_init 239 = .ok (.sipush 20480, 3) := dk_17 80 0 (dk_at dksX4_init_10 6 rfl rfl)
theorem dX4_init_242 : decode cX4_init 242 = .ok (.newarray .int, 2) := dk_188_10 (dk_at dksX4_init_10 9 rfl rfl)
theorem dX4_init_244 : decode cX4_init 244 = .ok (.putfield 102, 3) := dk_181 0 102 (dk_at dksX4_init_10 11 rfl rfl)
theorem dX4_init_247 : decode cX4_init 247 = .ok (.aload_n 0, 1) := dk_42 (dk_at dksX4_init_10 14 rfl rfl)
theorem dX4_init_248 : decode cX4_init 248 = .ok (.bipush 64, 2) := dk_16 64 (dk_at dksX4_init_10 15 rfl rfl)
theorem dX4_init_250 : decode cX4_init 250 = .ok (.newarray .int, 2) := dk_188_10 (dk_at dksX4_init_10 17 rfl rfl)
theorem dX4_init_252 : decode cX4_init 252 = .ok (.putfield 105, 3) := dk_181 0 105 (dk_at dksX4_init_10 19 rfl rfl)
theorem dX4_init_255 : decode cX4_init 255 = .ok (.aload_n 0, 1) := dk_42 (dk_at dksX4_init_10 22 rfl rfl)
theorem dX4_init_256 : decode cX4_init 256 = .ok (.sipush 2560, 3) := dk_17 10 0 (dk_at dksX4_init_11 0 rfl rfl)
theorem dX4_init_259 : decode cX4_init 259 = .ok (.newarray .int, 2) := dk_188_10 (dk_at dksX4_init_11 3 rfl rfl)
theorem dX4_init_261 : decode cX4_init 261 = .ok (.putfield 108, 3) := dk_181 0 108 (dk_at dksX4_init_11 5 rfl rfl)
theorem dX4_init_264 : decode cX4_init 264 = .ok (.aload_n 0, 1) := dk_42 (dk_at dksX4_init_11 8 rfl rfl)
theorem dX4_init_265 : decode cX4_init 265 = .ok (.bipush 24, 2) := dk_16 24 (dk_at dksX4_init_11 9 rfl rfl)
theorem dX4_init_267 : decode cX4_init 267 = .ok (.newarray .int, 2) := dk_188_10 (dk_at dksX4_init_11 11 rfl rfl)
theorem dX4_init_269 : decode cX4_init 269 = .ok (.putfield 111, 3) := dk_181 0 111 (dk_at dksX4_init_11 13 rfl rfl)
theorem dX4_init_272 : decode cX4_init 272 = .ok (.return_, 1) := dk_177 (dk_at dksX4_init_11 16 rfl rfl)
abbrev cX4_thrown : ByteArray := prog_12_method_2_code
def yX4_thrown : MethodName := ⟨RX4, "thrown", "()I"⟩
theorem dX4_thrown_0 : decode cX4_thrown 0 = .ok (.aload_n 0, 1) := by decide +kernel
theorem dX4_thrown_1 : decode cX4_thrown 1 = .ok (.getfield 114, 3) := by decide +kernel
theorem dX4_thrown_4 : decode cX4_thrown 4 = .ok (.ireturn, 1) := by decide +kernel
abbrev cX4_feed : ByteArray := prog_12_method_10_code
def yX4_feed : MethodName := ⟨RX4, "feed", "(IIIII)I"⟩
def dkwX4_feed_2 : List UInt8 := [182, 0, 120, 42, 180, 0, 117, 172]
abbrev dktX4_feed_2 : List UInt8 := dkwX4_feed_2 ++ []
def dkwX4_feed_1 : List UInt8 := [182, 0, 120, 42, 28, 182, 0, 120, 42, 29, 182, 0, 120, 42, 21, 4, 182, 0, 120, 42, 21, 5]
abbrev dktX4_feed_1 : List UInt8 := dkwX4_feed_1 ++ dktX4_feed_2
def dkwX4_feed_0 : List UInt8 := [42, 3, 181, 0, 114, 42, 180, 0, 117, 16, 20, 96, 17, 2, 188, 164, 0, 5, 2, 172, 42, 27]
abbrev dktX4_feed_0 : List UInt8 := dkwX4_feed_0 ++ dktX4_feed_1
theorem dksX4_feed_0 : cX4_feed.data.toList.drop 0 = dktX4_feed_0 := by decide +kernel
theorem dksX4_feed_1 : cX4_feed.data.toList.drop 22 = dktX4_feed_1 := dk_seg dksX4_feed_0 22 rfl rfl
theorem dksX4_feed_2 : cX4_feed.data.toList.drop 44 = dktX4_feed_2 := dk_seg dksX4_feed_1 22 rfl rfl
theorem dX4_feed_0 : decode cX4_feed 0 = .ok (.aload_n 0, 1) := dk_42 (dk_at dksX4_feed_0 0 rfl rfl)
theorem dX4_feed_1 : decode cX4_feed 1 = .ok (.iconst 0, 1) := dk_3 (dk_at dksX4_feed_0 1 rfl rfl)
theorem dX4_feed_2 : decode cX4_feed 2 = .ok (.putfield 114, 3) := dk_181 0 114 (dk_at dksX4_feed_0 2 rfl rfl)
theorem dX4_feed_5 : decode cX4_feed 5 = .ok (.aload_n 0, 1) := dk_42 (dk_at dksX4_feed_0 5 rfl rfl)
theorem dX4_feed_6 : decode cX4_feed 6 = .ok (.getfield 117, 3) := dk_180 0 117 (dk_at dksX4_feed_0 6 rfl rfl)
theorem dX4_feed_9 : decode cX4_feed 9 = .ok (.bipush 20, 2) := dk_16 20 (dk_at dksX4_feed_0 9 rfl rfl)
theorem dX4_feed_11 : decode cX4_feed 11 = .ok (.iadd, 1) := dk_96 (dk_at dksX4_feed_0 11 rfl rfl)
theorem dX4_feed_12 : decode cX4_feed 12 = .ok (.sipush 700, 3) := dk_17 2 188 (dk_at dksX4_feed_0 12 rfl rfl)
theorem dX4_feed_15 : decode cX4_feed 15 = .ok (.if_icmp .le 5, 3) := dk_164 0 5 (dk_at dksX4_feed_0 15 rfl rfl)
theorem dX4_feed_18 : decode cX4_feed 18 = .ok (.iconst (-1), 1) := dk_2 (dk_at dksX4_feed_0 18 rfl rfl)
theorem dX4_feed_19 : decode cX4_feed 19 = .ok (.ireturn, 1) := dk_172 (dk_at dksX4_feed_0 19 rfl rfl)
theorem dX4_feed_20 : decode cX4_feed 20 = .ok (.aload_n 0, 1) := dk_42 (dk_at dksX4_feed_0 20 rfl rfl)
theorem dX4_feed_21 : decode cX4_feed 21 = .ok (.iload_n 1, 1) := dk_27 (dk_at dksX4_feed_0 21 rfl rfl)
theorem dX4_feed_22 : decode cX4_feed 22 = .ok (.invokevirtual 120, 3) := dk_182 0 120 (dk_at dksX4_feed_1 0 rfl rfl)
theorem dX4_feed_25 : decode cX4_feed 25 = .ok (.aload_n 0, 1) := dk_42 (dk_at dksX4_feed_1 3 rfl rfl)
theorem dX4_feed_26 : decode cX4_feed 26 = .ok (.iload_n 2, 1) := dk_28 (dk_at dksX4_feed_1 4 rfl rfl)
theorem dX4_feed_27 : decode cX4_feed 27 = .ok (.invokevirtual 120, 3) := dk_182 0 120 (dk_at dksX4_feed_1 5 rfl rfl)
theorem dX4_feed_30 : decode cX4_feed 30 = .ok (.aload_n 0, 1) := dk_42 (dk_at dksX4_feed_1 8 rfl rfl)
theorem dX4_feed_31 : decode cX4_feed 31 = .ok (.iload_n 3, 1) := dk_29 (dk_at dksX4_feed_1 9 rfl rfl)
theorem dX4_feed_32 : decode cX4_feed 32 = .ok (.invokevirtual 120, 3) := dk_182 0 120 (dk_at dksX4_feed_1 10 rfl rfl)
theorem dX4_feed_35 : decode cX4_feed 35 = .ok (.aload_n 0, 1) := dk_42 (dk_at dksX4_feed_1 13 rfl rfl)
theorem dX4_feed_36 : decode cX4_feed 36 = .ok (.iload 4, 2) := dk_21 4 (dk_at dksX4_feed_1 14 rfl rfl)
theorem dX4_feed_38 : decode cX4_feed 38 = .ok (.invokevirtual 120, 3) := dk_182 0 120 (dk_at dksX4_feed_1 16 rfl rfl)
theorem dX4_feed_41 : decode cX4_feed 41 = .ok (.aload_n 0, 1) := dk_42 (dk_at dksX4_feed_1 19 rfl rfl)
theorem dX4_feed_42 : decode cX4_feed 42 = .ok (.iload 5, 2) := dk_21 5 (dk_at dksX4_feed_1 20 rfl rfl)
theorem dX4_feed_44 : decode cX4_feed 44 = .ok (.invokevirtual 120, 3) := dk_182 0 120 (dk_at dksX4_feed_2 0 rfl rfl)
theorem dX4_feed_47 : decode cX4_feed 47 = .ok (.aload_n 0, 1) := dk_42 (dk_at dksX4_feed_2 3 rfl rfl)
theorem dX4_feed_48 : decode cX4_feed 48 = .ok (.getfield 117, 3) := dk_180 0 117 (dk_at dksX4_feed_2 4 rfl rfl)
theorem dX4_feed_51 : decode cX4_feed 51 = .ok (.ireturn, 1) := dk_172 (dk_at dksX4_feed_2 7 rfl rfl)
abbrev cX4_lays : ByteArray := prog_12_method_11_code
def yX4_lays : MethodName := ⟨RX4, "lays", "(I)V"⟩
def dkwX4_lays_1 : List UInt8 := [89, 180, 0, 117, 4, 96, 181, 0, 117, 132, 2, 248, 167, 255, 223, 177]
abbrev dktX4_lays_1 : List UInt8 := dkwX4_lays_1 ++ []
def dkwX4_lays_0 : List UInt8 := [16, 24, 61, 28, 155, 0, 35, 42, 180, 0, 23, 42, 180, 0, 117, 27, 28, 122, 17, 0, 255, 126, 79, 42]
abbrev dktX4_lays_0 : List UInt8 := dkwX4_lays_0 ++ dktX4_lays_1
theorem dksX4_lays_0 : cX4_lays.data.toList.drop 0 = dktX4_lays_0 := by decide +kernel
theorem dksX4_lays_1 : cX4_lays.data.toList.drop 24 = dktX4_lays_1 := dk_seg dksX4_lays_0 24 rfl rfl
theorem dX4_lays_0 : decode cX4_lays 0 = .ok (.bipush 24, 2) := dk_16 24 (dk_at dksX4_lays_0 0 rfl rfl)
theorem dX4_lays_2 : decode cX4_lays 2 = .ok (.istore_n 2, 1) := dk_61 (dk_at dksX4_lays_0 2 rfl rfl)
theorem dX4_lays_3 : decode cX4_lays 3 = .ok (.iload_n 2, 1) := dk_28 (dk_at dksX4_lays_0 3 rfl rfl)
theorem dX4_lays_4 : decode cX4_lays 4 = .ok (.ifCond .lt 35, 3) := dk_155 0 35 (dk_at dksX4_lays_0 4 rfl rfl)
theorem dX4_lays_7 : decode cX4_lays 7 = .ok (.aload_n 0, 1) := dk_42 (dk_at dksX4_lays_0 7 rfl rfl)
theorem dX4_lays_8 : decode cX4_lays 8 = .ok (.getfield 23, 3) := dk_180 0 23 (dk_at dksX4_lays_0 8 rfl rfl)
theorem dX4_lays_11 : decode cX4_lays 11 = .ok (.aload_n 0, 1) := dk_42 (dk_at dksX4_lays_0 11 rfl rfl)
theorem dX4_lays_12 : decode cX4_lays 12 = .ok (.getfield 117, 3) := dk_180 0 117 (dk_at dksX4_lays_0 12 rfl rfl)
theorem dX4_lays_15 : decode cX4_lays 15 = .ok (.iload_n 1, 1) := dk_27 (dk_at dksX4_lays_0 15 rfl rfl)
theorem dX4_lays_16 : decode cX4_lays 16 = .ok (.iload_n 2, 1) := dk_28 (dk_at dksX4_lays_0 16 rfl rfl)
theorem dX4_lays_17 : decode cX4_lays 17 = .ok (.ishr, 1) := dk_122 (dk_at dksX4_lays_0 17 rfl rfl)
theorem dX4_lays_18 : decode cX4_lays 18 = .ok (.sipush 255, 3) := dk_17 0 255 (dk_at dksX4_lays_0 18 rfl rfl)
theorem dX4_lays_21 : decode cX4_lays 21 = .ok (.iand, 1) := dk_126 (dk_at dksX4_lays_0 21 rfl rfl)
theorem dX4_lays_22 : decode cX4_lays 22 = .ok (.iastore, 1) := dk_79 (dk_at dksX4_lays_0 22 rfl rfl)
theorem dX4_lays_23 : decode cX4_lays 23 = .ok (.aload_n 0, 1) := dk_42 (dk_at dksX4_lays_0 23 rfl rfl)
theorem dX4_lays_24 : decode cX4_lays 24 = .ok (.dup, 1) := dk_89 (dk_at dksX4_lays_1 0 rfl rfl)
theorem dX4_lays_25 : decode cX4_lays 25 = .ok (.getfield 117, 3) := dk_180 0 117 (dk_at dksX4_lays_1 1 rfl rfl)
theorem dX4_lays_28 : decode cX4_lays 28 = .ok (.iconst 1, 1) := dk_4 (dk_at dksX4_lays_1 4 rfl rfl)
theorem dX4_lays_29 : decode cX4_lays 29 = .ok (.iadd, 1) := dk_96 (dk_at dksX4_lays_1 5 rfl rfl)
theorem dX4_lays_30 : decode cX4_lays 30 = .ok (.putfield 117, 3) := dk_181 0 117 (dk_at dksX4_lays_1 6 rfl rfl)
theorem dX4_lays_33 : decode cX4_lays 33 = .ok (.iinc 2 (-8), 3) := dk_132 2 248 (dk_at dksX4_lays_1 9 rfl rfl)
theorem dX4_lays_36 : decode cX4_lays 36 = .ok (.goto (-33), 3) := dk_167 255 223 (dk_at dksX4_lays_1 12 rfl rfl)
theorem dX4_lays_39 : decode cX4_lays 39 = .ok (.return_, 1) := dk_177 (dk_at dksX4_lays_1 15 rfl rfl)
abbrev cX4_cave : ByteArray := prog_12_method_40_code
def yX4_cave : MethodName := ⟨RX4, "cave", "(I)I"⟩
def dkwX4_cave_10 : List UInt8 := [172]
abbrev dktX4_cave_10 : List UInt8 := dkwX4_cave_10 ++ []
def dkwX4_cave_9 : List UInt8 := [46, 79, 132, 2, 1, 167, 255, 235, 42, 3, 181, 1, 20, 42, 3, 181, 1, 23, 42, 3, 181, 1, 26, 3]
abbrev dktX4_cave_9 : List UInt8 := dkwX4_cave_9 ++ dktX4_cave_10
def dkwX4_cave_8 : List UInt8 := [180, 0, 20, 182, 1, 16, 3, 61, 28, 16, 64, 162, 0, 21, 42, 180, 0, 51, 28, 42, 180, 0, 35, 28]
abbrev dktX4_cave_8 : List UInt8 := dkwX4_cave_8 ++ dktX4_cave_9
def dkwX4_cave_7 : List UInt8 := [180, 1, 0, 181, 0, 13, 42, 42, 180, 0, 32, 42, 180, 0, 16, 182, 1, 16, 42, 42, 180, 0, 38, 42]
abbrev dktX4_cave_7 : List UInt8 := dkwX4_cave_7 ++ dktX4_cave_8
def dkwX4_cave_6 : List UInt8 := [180, 0, 170, 172, 42, 42, 180, 0, 183, 181, 1, 13, 42, 42, 180, 0, 250, 181, 0, 9, 42, 42]
abbrev dktX4_cave_6 : List UInt8 := dkwX4_cave_6 ++ dktX4_cave_7
def dkwX4_cave_5 : List UInt8 := [182, 1, 10, 167, 255, 238, 42, 182, 0, 173, 154, 0, 18, 42, 180, 0, 29, 3, 92, 46, 4, 96, 79, 42]
abbrev dktX4_cave_5 : List UInt8 := dkwX4_cave_5 ++ dktX4_cave_6
def dkwX4_cave_4 : List UInt8 := [181, 0, 186, 42, 182, 0, 177, 42, 182, 0, 173, 153, 0, 17, 42, 180, 0, 147, 153, 0, 10, 42]
abbrev dktX4_cave_4 : List UInt8 := dkwX4_cave_4 ++ dktX4_cave_5
def dkwX4_cave_3 : List UInt8 := [3, 61, 28, 16, 64, 162, 0, 16, 42, 180, 0, 35, 28, 3, 79, 132, 2, 1, 167, 255, 240, 42, 3]
abbrev dktX4_cave_3 : List UInt8 := dkwX4_cave_3 ++ dktX4_cave_4
def dkwX4_cave_2 : List UInt8 := [27, 181, 0, 124, 42, 3, 181, 0, 127, 42, 3, 181, 0, 183, 42, 2, 181, 0, 250, 42, 2, 181, 1, 0]
abbrev dktX4_cave_2 : List UInt8 := dkwX4_cave_2 ++ dktX4_cave_3
def dkwX4_cave_1 : List UInt8 := [182, 1, 6, 154, 0, 5, 3, 172, 42, 3, 181, 0, 117, 42, 2, 181, 0, 26, 42, 3, 181, 0, 170, 42]
abbrev dktX4_cave_1 : List UInt8 := dkwX4_cave_1 ++ dktX4_cave_2
def dkwX4_cave_0 : List UInt8 := [42, 3, 181, 0, 114, 42, 27, 155, 0, 15, 27, 42, 180, 0, 117, 163, 0, 7, 4, 167, 0, 4, 3, 4]
abbrev dktX4_cave_0 : List UInt8 := dkwX4_cave_0 ++ dktX4_cave_1
theorem dksX4_cave_0 : cX4_cave.data.toList.drop 0 = dktX4_cave_0 := by decide +kernel
theorem dksX4_cave_1 : cX4_cave.data.toList.drop 24 = dktX4_cave_1 := dk_seg dksX4_cave_0 24 rfl rfl
theorem dksX4_cave_2 : cX4_cave.data.toList.drop 48 = dktX4_cave_2 := dk_seg dksX4_cave_1 24 rfl rfl
theorem dksX4_cave_3 : cX4_cave.data.toList.drop 72 = dktX4_cave_3 := dk_seg dksX4_cave_2 24 rfl rfl
theorem dksX4_cave_4 : cX4_cave.data.toList.drop 95 = dktX4_cave_4 := dk_seg dksX4_cave_3 23 rfl rfl
theorem dksX4_cave_5 : cX4_cave.data.toList.drop 117 = dktX4_cave_5 := dk_seg dksX4_cave_4 22 rfl rfl
theorem dksX4_cave_6 : cX4_cave.data.toList.drop 141 = dktX4_cave_6 := dk_seg dksX4_cave_5 24 rfl rfl
theorem dksX4_cave_7 : cX4_cave.data.toList.drop 163 = dktX4_cave_7 := dk_seg dksX4_cave_6 22 rfl rfl
theorem dksX4_cave_8 : cX4_cave.data.toList.drop 187 = dktX4_cave_8 := dk_seg dksX4_cave_7 24 rfl rfl
theorem dksX4_cave_9 : cX4_cave.data.toList.drop 211 = dktX4_cave_9 := dk_seg dksX4_cave_8 24 rfl rfl
theorem dksX4_cave_10 : cX4_cave.data.toList.drop 235 = dktX4_cave_10 := dk_seg dksX4_cave_9 24 rfl rfl
theorem dX4_cave_0 : decode cX4_cave 0 = .ok (.aload_n 0, 1) := dk_42 (dk_at dksX4_cave_0 0 rfl rfl)
theorem dX4_cave_1 : decode cX4_cave 1 = .ok (.iconst 0, 1) := dk_3 (dk_at dksX4_cave_0 1 rfl rfl)
theorem dX4_cave_2 : decode cX4_cave 2 = .ok (.putfield 114, 3) := dk_181 0 114 (dk_at dksX4_cave_0 2 rfl rfl)
theorem dX4_cave_5 : decode cX4_cave 5 = .ok (.aload_n 0, 1) := dk_42 (dk_at dksX4_cave_0 5 rfl rfl)
theorem dX4_cave_6 : decode cX4_cave 6 = .ok (.iload_n 1, 1) := dk_27 (dk_at dksX4_cave_0 6 rfl rfl)
theorem dX4_cave_7 : decode cX4_cave 7 = .ok (.ifCond .lt 15, 3) := dk_155 0 15 (dk_at dksX4_cave_0 7 rfl rfl)
theorem dX4_cave_10 : decode cX4_cave 10 = .ok (.iload_n 1, 1) := dk_27 (dk_at dksX4_cave_0 10 rfl rfl)
theorem dX4_cave_11 : decode cX4_cave 11 = .ok (.aload_n 0, 1) := dk_42 (dk_at dksX4_cave_0 11 rfl rfl)
theorem dX4_cave_12 : decode cX4_cave 12 = .ok (.getfield 117, 3) := dk_180 0 117 (dk_at dksX4_cave_0 12 rfl rfl)
theorem dX4_cave_15 : decode cX4_cave 15 = .ok (.if_icmp .gt 7, 3) := dk_163 0 7 (dk_at dksX4_cave_0 15 rfl rfl)
theorem dX4_cave_18 : decode cX4_cave 18 = .ok (.iconst 1, 1) := dk_4 (dk_at dksX4_cave_0 18 rfl rfl)
theorem dX4_cave_19 : decode cX4_cave 19 = .ok (.goto 4, 3) := dk_167 0 4 (dk_at dksX4_cave_0 19 rfl rfl)
theorem dX4_cave_22 : decode cX4_cave 22 = .ok (.iconst 0, 1) := dk_3 (dk_at dksX4_cave_0 22 rfl rfl)
theorem dX4_cave_23 : decode cX4_cave 23 = .ok (.iconst 1, 1) := dk_4 (dk_at dksX4_cave_0 23 rfl rfl)
theorem dX4_cave_24 : decode cX4_cave 24 = .ok (.invokevirtual 262, 3) := dk_182 1 6 (dk_at dksX4_cave_1 0 rfl rfl)
theorem dX4_cave_27 : decode cX4_cave 27 = .ok (.ifCond .ne 5, 3) := dk_154 0 5 (dk_at dksX4_cave_1 3 rfl rfl)
theorem dX4_cave_30 : decode cX4_cave 30 = .ok (.iconst 0, 1) := dk_3 (dk_at dksX4_cave_1 6 rfl rfl)
theorem dX4_cave_31 : decode cX4_cave 31 = .ok (.ireturn, 1) := dk_172 (dk_at dksX4_cave_1 7 rfl rfl)
theorem dX4_cave_32 : decode cX4_cave 32 = .ok (.aload_n 0, 1) := dk_42 (dk_at dksX4_cave_1 8 rfl rfl)
theorem dX4_cave_33 : decode cX4_cave 33 = .ok (.iconst 0, 1) := dk_3 (dk_at dksX4_cave_1 9 rfl rfl)
theorem dX4_cave_34 : decode cX4_cave 34 = .ok (.putfield 117, 3) := dk_181 0 117 (dk_at dksX4_cave_1 10 rfl rfl)
theorem dX4_cave_37 : decode cX4_cave 37 = .ok (.aload_n 0, 1) := dk_42 (dk_at dksX4_cave_1 13 rfl rfl)
theorem dX4_cave_38 : decode cX4_cave 38 = .ok (.iconst (-1), 1) := dk_2 (dk_at dksX4_cave_1 14 rfl rfl)
theorem dX4_cave_39 : decode cX4_cave 39 = .ok (.putfield 26, 3) := dk_181 0 26 (dk_at dksX4_cave_1 15 rfl rfl)
theorem dX4_cave_42 : decode cX4_cave 42 = .ok (.aload_n 0, 1) := dk_42 (dk_at dksX4_cave_1 18 rfl rfl)
theorem dX4_cave_43 : decode cX4_cave 43 = .ok (.iconst 0, 1) := dk_3 (dk_at dksX4_cave_1 19 rfl rfl)
theorem dX4_cave_44 : decode cX4_cave 44 = .ok (.putfield 170, 3) := dk_181 0 170 (dk_at dksX4_cave_1 20 rfl rfl)
theorem dX4_cave_47 : decode cX4_cave 47 = .ok (.aload_n 0, 1) := dk_42 (dk_at dksX4_cave_1 23 rfl rfl)
theorem dX4_cave_48 : decode cX4_cave 48 = .ok (.iload_n 1, 1) := dk_27 (dk_at dksX4_cave_2 0 rfl rfl)
theorem dX4_cave_49 : decode cX4_cave 49 = .ok (.putfield 124, 3) := dk_181 0 124 (dk_at dksX4_cave_2 1 rfl rfl)
theorem dX4_cave_52 : decode cX4_cave 52 = .ok (.aload_n 0, 1) := dk_42 (dk_at dksX4_cave_2 4 rfl rfl)
theorem dX4_cave_53 : decode cX4_cave 53 = .ok (.iconst 0, 1) := dk_3 (dk_at dksX4_cave_2 5 rfl rfl)
theorem dX4_cave_54 : decode cX4_cave 54 = .ok (.putfield 127, 3) := dk_181 0 127 (dk_at dksX4_cave_2 6 rfl rfl)
theorem dX4_cave_57 : decode cX4_cave 57 = .ok (.aload_n 0, 1) := dk_42 (dk_at dksX4_cave_2 9 rfl rfl)
theorem dX4_cave_58 : decode cX4_cave 58 = .ok (.iconst 0, 1) := dk_3 (dk_at dksX4_cave_2 10 rfl rfl)
theorem dX4_cave_59 : decode cX4_cave 59 = .ok (.putfield 183, 3) := dk_181 0 183 (dk_at dksX4_cave_2 11 rfl rfl)
theorem dX4_cave_62 : decode cX4_cave 62 = .ok (.aload_n 0, 1) := dk_42 (dk_at dksX4_cave_2 14 rfl rfl)
theorem dX4_cave_63 : decode cX4_cave 63 = .ok (.iconst (-1), 1) := dk_2 (dk_at dksX4_cave_2 15 rfl rfl)
theorem dX4_cave_64 : decode cX4_cave 64 = .ok (.putfield 250, 3) := dk_181 0 250 (dk_at dksX4_cave_2 16 rfl rfl)
theorem dX4_cave_67 : decode cX4_cave 67 = .ok (.aload_n 0, 1) := dk_42 (dk_at dksX4_cave_2 19 rfl rfl)
theorem dX4_cave_68 : decode cX4_cave 68 = .ok (.iconst (-1), 1) := dk_2 (dk_at dksX4_cave_2 20 rfl rfl)
theorem dX4_cave_69 : decode cX4_cave 69 = .ok (.putfield 256, 3) := dk_181 1 0 (dk_at dksX4_cave_2 21 rfl rfl)
theorem dX4_cave_72 : decode cX4_cave 72 = .ok (.iconst 0, 1) := dk_3 (dk_at dksX4_cave_3 0 rfl rfl)
theorem dX4_cave_73 : decode cX4_cave 73 = .ok (.istore_n 2, 1) := dk_61 (dk_at dksX4_cave_3 1 rfl rfl)
theorem dX4_cave_74 : decode cX4_cave 74 = .ok (.iload_n 2, 1) := dk_28 (dk_at dksX4_cave_3 2 rfl rfl)
theorem dX4_cave_75 : decode cX4_cave 75 = .ok (.bipush 64, 2) := dk_16 64 (dk_at dksX4_cave_3 3 rfl rfl)
theorem dX4_cave_77 : decode cX4_cave 77 = .ok (.if_icmp .ge 16, 3) := dk_162 0 16 (dk_at dksX4_cave_3 5 rfl rfl)
theorem dX4_cave_80 : decode cX4_cave 80 = .ok (.aload_n 0, 1) := dk_42 (dk_at dksX4_cave_3 8 rfl rfl)
theorem dX4_cave_81 : decode cX4_cave 81 = .ok (.getfield 35, 3) := dk_180 0 35 (dk_at dksX4_cave_3 9 rfl rfl)
theorem dX4_cave_84 : decode cX4_cave 84 = .ok (.iload_n 2, 1) := dk_28 (dk_at dksX4_cave_3 12 rfl rfl)
theorem dX4_cave_85 : decode cX4_cave 85 = .ok (.iconst 0, 1) := dk_3 (dk_at dksX4_cave_3 13 rfl rfl)
theorem dX4_cave_86 : decode cX4_cave 86 = .ok (.iastore, 1) := dk_79 (dk_at dksX4_cave_3 14 rfl rfl)
theorem dX4_cave_87 : decode cX4_cave 87 = .ok (.iinc 2 1, 3) := dk_132 2 1 (dk_at dksX4_cave_3 15 rfl rfl)
theorem dX4_cave_90 : decode cX4_cave 90 = .ok (.goto (-16), 3) := dk_167 255 240 (dk_at dksX4_cave_3 18 rfl rfl)
theorem dX4_cave_93 : decode cX4_cave 93 = .ok (.aload_n 0, 1) := dk_42 (dk_at dksX4_cave_3 21 rfl rfl)
theorem dX4_cave_94 : decode cX4_cave 94 = .ok (.iconst 0, 1) := dk_3 (dk_at dksX4_cave_3 22 rfl rfl)
theorem dX4_cave_95 : decode cX4_cave 95 = .ok (.putfield 186, 3) := dk_181 0 186 (dk_at dksX4_cave_4 0 rfl rfl)
theorem dX4_cave_98 : decode cX4_cave 98 = .ok (.aload_n 0, 1) := dk_42 (dk_at dksX4_cave_4 3 rfl rfl)
theorem dX4_cave_99 : decode cX4_cave 99 = .ok (.invokevirtual 177, 3) := dk_182 0 177 (dk_at dksX4_cave_4 4 rfl rfl)
theorem dX4_cave_102 : decode cX4_cave 102 = .ok (.aload_n 0, 1) := dk_42 (dk_at dksX4_cave_4 7 rfl rfl)
theorem dX4_cave_103 : decode cX4_cave 103 = .ok (.invokevirtual 173, 3) := dk_182 0 173 (dk_at dksX4_cave_4 8 rfl rfl)
theorem dX4_cave_106 : decode cX4_cave 106 = .ok (.ifCond .eq 17, 3) := dk_153 0 17 (dk_at dksX4_cave_4 11 rfl rfl)
theorem dX4_cave_109 : decode cX4_cave 109 = .ok (.aload_n 0, 1) := dk_42 (dk_at dksX4_cave_4 14 rfl rfl)
theorem dX4_cave_110 : decode cX4_cave 110 = .ok (.getfield 147, 3) := dk_180 0 147 (dk_at dksX4_cave_4 15 rfl rfl)
theorem dX4_cave_113 : decode cX4_cave 113 = .ok (.ifCond .eq 10, 3) := dk_153 0 10 (dk_at dksX4_cave_4 18 rfl rfl)
theorem dX4_cave_116 : decode cX4_cave 116 = .ok (.aload_n 0, 1) := dk_42 (dk_at dksX4_cave_4 21 rfl rfl)
theorem dX4_cave_117 : decode cX4_cave 117 = .ok (.invokevirtual 266, 3) := dk_182 1 10 (dk_at dksX4_cave_5 0 rfl rfl)
theorem dX4_cave_120 : decode cX4_cave 120 = .ok (.goto (-18), 3) := dk_167 255 238 (dk_at dksX4_cave_5 3 rfl rfl)
theorem dX4_cave_123 : decode cX4_cave 123 = .ok (.aload_n 0, 1) := dk_42 (dk_at dksX4_cave_5 6 rfl rfl)
theorem dX4_cave_124 : decode cX4_cave 124 = .ok (.invokevirtual 173, 3) := dk_182 0 173 (dk_at dksX4_cave_5 7 rfl rfl)
theorem dX4_cave_127 : decode cX4_cave 127 = .ok (.ifCond .ne 18, 3) := dk_154 0 18 (dk_at dksX4_cave_5 10 rfl rfl)
theorem dX4_cave_130 : decode cX4_cave 130 = .ok (.aload_n 0, 1) := dk_42 (dk_at dksX4_cave_5 13 rfl rfl)
theorem dX4_cave_131 : decode cX4_cave 131 = .ok (.getfield 29, 3) := dk_180 0 29 (dk_at dksX4_cave_5 14 rfl rfl)
theorem dX4_cave_134 : decode cX4_cave 134 = .ok (.iconst 0, 1) := dk_3 (dk_at dksX4_cave_5 17 rfl rfl)
theorem dX4_cave_135 : decode cX4_cave 135 = .ok (.dup2, 1) := dk_92 (dk_at dksX4_cave_5 18 rfl rfl)
theorem dX4_cave_136 : decode cX4_cave 136 = .ok (.iaload, 1) := dk_46 (dk_at dksX4_cave_5 19 rfl rfl)
theorem dX4_cave_137 : decode cX4_cave 137 = .ok (.iconst 1, 1) := dk_4 (dk_at dksX4_cave_5 20 rfl rfl)
theorem dX4_cave_138 : decode cX4_cave 138 = .ok (.iadd, 1) := dk_96 (dk_at dksX4_cave_5 21 rfl rfl)
theorem dX4_cave_139 : decode cX4_cave 139 = .ok (.iastore, 1) := dk_79 (dk_at dksX4_cave_5 22 rfl rfl)
theorem dX4_cave_140 : decode cX4_cave 140 = .ok (.aload_n 0, 1) := dk_42 (dk_at dksX4_cave_5 23 rfl rfl)
theorem dX4_cave_141 : decode cX4_cave 141 = .ok (.getfield 170, 3) := dk_180 0 170 (dk_at dksX4_cave_6 0 rfl rfl)
theorem dX4_cave_144 : decode cX4_cave 144 = .ok (.ireturn, 1) := dk_172 (dk_at dksX4_cave_6 3 rfl rfl)
theorem dX4_cave_145 : decode cX4_cave 145 = .ok (.aload_n 0, 1) := dk_42 (dk_at dksX4_cave_6 4 rfl rfl)
theorem dX4_cave_146 : decode cX4_cave 146 = .ok (.aload_n 0, 1) := dk_42 (dk_at dksX4_cave_6 5 rfl rfl)
theorem dX4_cave_147 : decode cX4_cave 147 = .ok (.getfield 183, 3) := dk_180 0 183 (dk_at dksX4_cave_6 6 rfl rfl)
theorem dX4_cave_150 : decode cX4_cave 150 = .ok (.putfield 269, 3) := dk_181 1 13 (dk_at dksX4_cave_6 9 rfl rfl)
theorem dX4_cave_153 : decode cX4_cave 153 = .ok (.aload_n 0, 1) := dk_42 (dk_at dksX4_cave_6 12 rfl rfl)
theorem dX4_cave_154 : decode cX4_cave 154 = .ok (.aload_n 0, 1) := dk_42 (dk_at dksX4_cave_6 13 rfl rfl)
theorem dX4_cave_155 : decode cX4_cave 155 = .ok (.getfield 250, 3) := dk_180 0 250 (dk_at dksX4_cave_6 14 rfl rfl)
theorem dX4_cave_158 : decode cX4_cave 158 = .ok (.putfield 9, 3) := dk_181 0 9 (dk_at dksX4_cave_6 17 rfl rfl)
theorem dX4_cave_161 : decode cX4_cave 161 = .ok (.aload_n 0, 1) := dk_42 (dk_at dksX4_cave_6 20 rfl rfl)
theorem dX4_cave_162 : decode cX4_cave 162 = .ok (.aload_n 0, 1) := dk_42 (dk_at dksX4_cave_6 21 rfl rfl)
theorem dX4_cave_163 : decode cX4_cave 163 = .ok (.getfield 256, 3) := dk_180 1 0 (dk_at dksX4_cave_7 0 rfl rfl)
theorem dX4_cave_166 : decode cX4_cave 166 = .ok (.putfield 13, 3) := dk_181 0 13 (dk_at dksX4_cave_7 3 rfl rfl)
theorem dX4_cave_169 : decode cX4_cave 169 = .ok (.aload_n 0, 1) := dk_42 (dk_at dksX4_cave_7 6 rfl rfl)
theorem dX4_cave_170 : decode cX4_cave 170 = .ok (.aload_n 0, 1) := dk_42 (dk_at dksX4_cave_7 7 rfl rfl)
theorem dX4_cave_171 : decode cX4_cave 171 = .ok (.getfield 32, 3) := dk_180 0 32 (dk_at dksX4_cave_7 8 rfl rfl)
theorem dX4_cave_174 : decode cX4_cave 174 = .ok (.aload_n 0, 1) := dk_42 (dk_at dksX4_cave_7 11 rfl rfl)
theorem dX4_cave_175 : decode cX4_cave 175 = .ok (.getfield 16, 3) := dk_180 0 16 (dk_at dksX4_cave_7 12 rfl rfl)
theorem dX4_cave_178 : decode cX4_cave 178 = .ok (.invokevirtual 272, 3) := dk_182 1 16 (dk_at dksX4_cave_7 15 rfl rfl)
theorem dX4_cave_181 : decode cX4_cave 181 = .ok (.aload_n 0, 1) := dk_42 (dk_at dksX4_cave_7 18 rfl rfl)
theorem dX4_cave_182 : decode cX4_cave 182 = .ok (.aload_n 0, 1) := dk_42 (dk_at dksX4_cave_7 19 rfl rfl)
theorem dX4_cave_183 : decode cX4_cave 183 = .ok (.getfield 38, 3) := dk_180 0 38 (dk_at dksX4_cave_7 20 rfl rfl)
theorem dX4_cave_186 : decode cX4_cave 186 = .ok (.aload_n 0, 1) := dk_42 (dk_at dksX4_cave_7 23 rfl rfl)
theorem dX4_cave_187 : decode cX4_cave 187 = .ok (.getfield 20, 3) := dk_180 0 20 (dk_at dksX4_cave_8 0 rfl rfl)
theorem dX4_cave_190 : decode cX4_cave 190 = .ok (.invokevirtual 272, 3) := dk_182 1 16 (dk_at dksX4_cave_8 3 rfl rfl)
theorem dX4_cave_193 : decode cX4_cave 193 = .ok (.iconst 0, 1) := dk_3 (dk_at dksX4_cave_8 6 rfl rfl)
theorem dX4_cave_194 : decode cX4_cave 194 = .ok (.istore_n 2, 1) := dk_61 (dk_at dksX4_cave_8 7 rfl rfl)
theorem dX4_cave_195 : decode cX4_cave 195 = .ok (.iload_n 2, 1) := dk_28 (dk_at dksX4_cave_8 8 rfl rfl)
theorem dX4_cave_196 : decode cX4_cave 196 = .ok (.bipush 64, 2) := dk_16 64 (dk_at dksX4_cave_8 9 rfl rfl)
theorem dX4_cave_198 : decode cX4_cave 198 = .ok (.if_icmp .ge 21, 3) := dk_162 0 21 (dk_at dksX4_cave_8 11 rfl rfl)
theorem dX4_cave_201 : decode cX4_cave 201 = .ok (.aload_n 0, 1) := dk_42 (dk_at dksX4_cave_8 14 rfl rfl)
theorem dX4_cave_202 : decode cX4_cave 202 = .ok (.getfield 51, 3) := dk_180 0 51 (dk_at dksX4_cave_8 15 rfl rfl)
theorem dX4_cave_205 : decode cX4_cave 205 = .ok (.iload_n 2, 1) := dk_28 (dk_at dksX4_cave_8 18 rfl rfl)
theorem dX4_cave_206 : decode cX4_cave 206 = .ok (.aload_n 0, 1) := dk_42 (dk_at dksX4_cave_8 19 rfl rfl)
theorem dX4_cave_207 : decode cX4_cave 207 = .ok (.getfield 35, 3) := dk_180 0 35 (dk_at dksX4_cave_8 20 rfl rfl)
theorem dX4_cave_210 : decode cX4_cave 210 = .ok (.iload_n 2, 1) := dk_28 (dk_at dksX4_cave_8 23 rfl rfl)
theorem dX4_cave_211 : decode cX4_cave 211 = .ok (.iaload, 1) := dk_46 (dk_at dksX4_cave_9 0 rfl rfl)
theorem dX4_cave_212 : decode cX4_cave 212 = .ok (.iastore, 1) := dk_79 (dk_at dksX4_cave_9 1 rfl rfl)
theorem dX4_cave_213 : decode cX4_cave 213 = .ok (.iinc 2 1, 3) := dk_132 2 1 (dk_at dksX4_cave_9 2 rfl rfl)
theorem dX4_cave_216 : decode cX4_cave 216 = .ok (.goto (-21), 3) := dk_167 255 235 (dk_at dksX4_cave_9 5 rfl rfl)
theorem dX4_cave_219 : decode cX4_cave 219 = .ok (.aload_n 0, 1) := dk_42 (dk_at dksX4_cave_9 8 rfl rfl)
theorem dX4_cave_220 : decode cX4_cave 220 = .ok (.iconst 0, 1) := dk_3 (dk_at dksX4_cave_9 9 rfl rfl)
theorem dX4_cave_221 : decode cX4_cave 221 = .ok (.putfield 276, 3) := dk_181 1 20 (dk_at dksX4_cave_9 10 rfl rfl)
theorem dX4_cave_224 : decode cX4_cave 224 = .ok (.aload_n 0, 1) := dk_42 (dk_at dksX4_cave_9 13 rfl rfl)
theorem dX4_cave_225 : decode cX4_cave 225 = .ok (.iconst 0, 1) := dk_3 (dk_at dksX4_cave_9 14 rfl rfl)
theorem dX4_cave_226 : decode cX4_cave 226 = .ok (.putfield 279, 3) := dk_181 1 23 (dk_at dksX4_cave_9 15 rfl rfl)
theorem dX4_cave_229 : decode cX4_cave 229 = .ok (.aload_n 0, 1) := dk_42 (dk_at dksX4_cave_9 18 rfl rfl)
theorem dX4_cave_230 : decode cX4_cave 230 = .ok (.iconst 0, 1) := dk_3 (dk_at dksX4_cave_9 19 rfl rfl)
theorem dX4_cave_231 : decode cX4_cave 231 = .ok (.putfield 282, 3) := dk_181 1 26 (dk_at dksX4_cave_9 20 rfl rfl)
theorem dX4_cave_234 : decode cX4_cave 234 = .ok (.iconst 0, 1) := dk_3 (dk_at dksX4_cave_9 23 rfl rfl)
theorem dX4_cave_235 : decode cX4_cave 235 = .ok (.ireturn, 1) := dk_172 (dk_at dksX4_cave_10 0 rfl rfl)
abbrev cX4_right : ByteArray := prog_12_method_3_code
def yX4_right : MethodName := ⟨RX4, "right", "(ZI)Z"⟩
def dkwX4_right_1 : List UInt8 := [167, 0, 4, 3, 172]
abbrev dktX4_right_1 : List UInt8 := dkwX4_right_1 ++ []
def dkwX4_right_0 : List UInt8 := [42, 180, 0, 114, 154, 0, 12, 27, 154, 0, 8, 42, 28, 181, 0, 114, 42, 180, 0, 114, 154, 0, 7, 4]
abbrev dktX4_right_0 : List UInt8 := dkwX4_right_0 ++ dktX4_right_1
theorem dksX4_right_0 : cX4_right.data.toList.drop 0 = dktX4_right_0 := by decide +kernel
theorem dksX4_right_1 : cX4_right.data.toList.drop 24 = dktX4_right_1 := dk_seg dksX4_right_0 24 rfl rfl
theorem dX4_right_0 : decode cX4_right 0 = .ok (.aload_n 0, 1) := dk_42 (dk_at dksX4_right_0 0 rfl rfl)
theorem dX4_right_1 : decode cX4_right 1 = .ok (.getfield 114, 3) := dk_180 0 114 (dk_at dksX4_right_0 1 rfl rfl)
theorem dX4_right_4 : decode cX4_right 4 = .ok (.ifCond .ne 12, 3) := dk_154 0 12 (dk_at dksX4_right_0 4 rfl rfl)
theorem dX4_right_7 : decode cX4_right 7 = .ok (.iload_n 1, 1) := dk_27 (dk_at dksX4_right_0 7 rfl rfl)
theorem dX4_right_8 : decode cX4_right 8 = .ok (.ifCond .ne 8, 3) := dk_154 0 8 (dk_at dksX4_right_0 8 rfl rfl)
theorem dX4_right_11 : decode cX4_right 11 = .ok (.aload_n 0, 1) := dk_42 (dk_at dksX4_right_0 11 rfl rfl)
theorem dX4_right_12 : decode cX4_right 12 = .ok (.iload_n 2, 1) := dk_28 (dk_at dksX4_right_0 12 rfl rfl)
theorem dX4_right_13 : decode cX4_right 13 = .ok (.putfield 114, 3) := dk_181 0 114 (dk_at dksX4_right_0 13 rfl rfl)
theorem dX4_right_16 : decode cX4_right 16 = .ok (.aload_n 0, 1) := dk_42 (dk_at dksX4_right_0 16 rfl rfl)
theorem dX4_right_17 : decode cX4_right 17 = .ok (.getfield 114, 3) := dk_180 0 114 (dk_at dksX4_right_0 17 rfl rfl)
theorem dX4_right_20 : decode cX4_right 20 = .ok (.ifCond .ne 7, 3) := dk_154 0 7 (dk_at dksX4_right_0 20 rfl rfl)
theorem dX4_right_23 : decode cX4_right 23 = .ok (.iconst 1, 1) := dk_4 (dk_at dksX4_right_0 23 rfl rfl)
theorem dX4_right_24 : decode cX4_right 24 = .ok (.goto 4, 3) := dk_167 0 4 (dk_at dksX4_right_1 0 rfl rfl)
theorem dX4_right_27 : decode cX4_right 27 = .ok (.iconst 0, 1) := dk_3 (dk_at dksX4_right_1 3 rfl rfl)
theorem dX4_right_28 : decode cX4_right 28 = .ok (.ireturn, 1) := dk_172 (dk_at dksX4_right_1 4 rfl rfl)
abbrev cX4_goes : ByteArray := prog_12_method_15_code
def yX4_goes : MethodName := ⟨RX4, "goes", "()V"⟩
def dkwX4_goes_14 : List UInt8 := [167, 0, 4, 7, 181, 0, 147, 42, 42, 180, 0, 127, 42, 180, 0, 134, 100, 181, 0, 157, 177]
abbrev dktX4_goes_14 : List UInt8 := dkwX4_goes_14 ++ []
def dkwX4_goes_13 : List UInt8 := [16, 42, 159, 0, 21, 27, 16, 47, 159, 0, 15, 27, 16, 60, 159, 0, 9, 27, 16, 61, 160, 0, 7, 6]
abbrev dktX4_goes_13 : List UInt8 := dkwX4_goes_13 ++ dktX4_goes_14
def dkwX4_goes_12 : List UInt8 := [16, 40, 159, 0, 45, 27, 16, 41, 159, 0, 39, 27, 16, 43, 159, 0, 33, 27, 16, 45, 159, 0, 27, 27]
abbrev dktX4_goes_12 : List UInt8 := dkwX4_goes_12 ++ dktX4_goes_13
def dkwX4_goes_11 : List UInt8 := [181, 0, 147, 167, 0, 76, 42, 89, 180, 0, 127, 4, 96, 181, 0, 127, 42, 27, 16, 59, 159, 0, 51, 27]
abbrev dktX4_goes_11 : List UInt8 := dkwX4_goes_11 ++ dktX4_goes_12
def dkwX4_goes_10 : List UInt8 := [96, 16, 48, 100, 181, 0, 141, 42, 89, 180, 0, 127, 4, 96, 181, 0, 127, 167, 255, 196, 42, 5]
abbrev dktX4_goes_10 : List UInt8 := dkwX4_goes_10 ++ dktX4_goes_11
def dkwX4_goes_9 : List UInt8 := [180, 0, 134, 100, 7, 162, 0, 26, 42, 16, 10, 42, 180, 0, 141, 104, 42, 42, 180, 0, 127, 182, 0, 130]
abbrev dktX4_goes_9 : List UInt8 := dkwX4_goes_9 ++ dktX4_goes_10
def dkwX4_goes_8 : List UInt8 := [153, 0, 74, 42, 42, 180, 0, 127, 182, 0, 130, 184, 0, 154, 153, 0, 52, 42, 180, 0, 127, 42]
abbrev dktX4_goes_8 : List UInt8 := dkwX4_goes_8 ++ dktX4_goes_9
def dkwX4_goes_7 : List UInt8 := [180, 0, 127, 4, 96, 181, 0, 127, 167, 255, 195, 42, 4, 181, 0, 147, 167, 0, 154, 27, 184, 0, 154]
abbrev dktX4_goes_7 : List UInt8 := dkwX4_goes_7 ++ dktX4_goes_8
def dkwX4_goes_6 : List UInt8 := [180, 0, 137, 8, 121, 42, 42, 180, 0, 127, 182, 0, 130, 16, 96, 100, 133, 129, 181, 0, 137, 42, 89]
abbrev dktX4_goes_6 : List UInt8 := dkwX4_goes_6 ++ dktX4_goes_7
def dkwX4_goes_5 : List UInt8 := [184, 0, 150, 153, 0, 53, 42, 180, 0, 127, 42, 180, 0, 134, 100, 16, 6, 162, 0, 26, 42, 42]
abbrev dktX4_goes_5 : List UInt8 := dkwX4_goes_5 ++ dktX4_goes_6
def dkwX4_goes_4 : List UInt8 := [3, 181, 0, 147, 167, 0, 233, 27, 184, 0, 150, 153, 0, 75, 42, 42, 180, 0, 127, 182, 0, 130]
abbrev dktX4_goes_4 : List UInt8 := dkwX4_goes_4 ++ dktX4_goes_5
def dkwX4_goes_3 : List UInt8 := [180, 0, 127, 182, 0, 130, 60, 42, 27, 181, 0, 144, 42, 180, 0, 127, 42, 180, 0, 124, 161, 0, 11, 42]
abbrev dktX4_goes_3 : List UInt8 := dkwX4_goes_3 ++ dktX4_goes_4
def dkwX4_goes_2 : List UInt8 := [167, 255, 209, 42, 42, 180, 0, 127, 181, 0, 134, 42, 9, 181, 0, 137, 42, 3, 181, 0, 141, 42, 42]
abbrev dktX4_goes_2 : List UInt8 := dkwX4_goes_2 ++ dktX4_goes_3
def dkwX4_goes_1 : List UInt8 := [42, 42, 180, 0, 127, 182, 0, 130, 16, 10, 160, 0, 16, 42, 89, 180, 0, 127, 4, 96, 181, 0, 127]
abbrev dktX4_goes_1 : List UInt8 := dkwX4_goes_1 ++ dktX4_goes_2
def dkwX4_goes_0 : List UInt8 := [42, 180, 0, 127, 42, 180, 0, 124, 162, 0, 42, 42, 42, 180, 0, 127, 182, 0, 130, 16, 32, 159, 0, 16]
abbrev dktX4_goes_0 : List UInt8 := dkwX4_goes_0 ++ dktX4_goes_1
theorem dksX4_goes_0 : cX4_goes.data.toList.drop 0 = dktX4_goes_0 := by decide +kernel
theorem dksX4_goes_1 : cX4_goes.data.toList.drop 24 = dktX4_goes_1 := dk_seg dksX4_goes_0 24 rfl rfl
theorem dksX4_goes_2 : cX4_goes.data.toList.drop 47 = dktX4_goes_2 := dk_seg dksX4_goes_1 23 rfl rfl
theorem dksX4_goes_3 : cX4_goes.data.toList.drop 70 = dktX4_goes_3 := dk_seg dksX4_goes_2 23 rfl rfl
theorem dksX4_goes_4 : cX4_goes.data.toList.drop 94 = dktX4_goes_4 := dk_seg dksX4_goes_3 24 rfl rfl
theorem dksX4_goes_5 : cX4_goes.data.toList.drop 116 = dktX4_goes_5 := dk_seg dksX4_goes_4 22 rfl rfl
theorem dksX4_goes_6 : cX4_goes.data.toList.drop 138 = dktX4_goes_6 := dk_seg dksX4_goes_5 22 rfl rfl
theorem dksX4_goes_7 : cX4_goes.data.toList.drop 161 = dktX4_goes_7 := dk_seg dksX4_goes_6 23 rfl rfl
theorem dksX4_goes_8 : cX4_goes.data.toList.drop 184 = dktX4_goes_8 := dk_seg dksX4_goes_7 23 rfl rfl
theorem dksX4_goes_9 : cX4_goes.data.toList.drop 206 = dktX4_goes_9 := dk_seg dksX4_goes_8 22 rfl rfl
theorem dksX4_goes_10 : cX4_goes.data.toList.drop 230 = dktX4_goes_10 := dk_seg dksX4_goes_9 24 rfl rfl
theorem dksX4_goes_11 : cX4_goes.data.toList.drop 252 = dktX4_goes_11 := dk_seg dksX4_goes_10 22 rfl rfl
theorem dksX4_goes_12 : cX4_goes.data.toList.drop 276 = dktX4_goes_12 := dk_seg dksX4_goes_11 24 rfl rfl
theorem dksX4_goes_13 : cX4_goes.data.toList.drop 300 = dktX4_goes_13 := dk_seg dksX4_goes_12 24 rfl rfl
theorem dksX4_goes_14 : cX4_goes.data.toList.drop 324 = dktX4_goes_14 := dk_seg dksX4_goes_13 24 rfl rfl
theorem dX4_goes_0 : decode cX4_goes 0 = .ok (.aload_n 0, 1) := dk_42 (dk_at dksX4_goes_0 0 rfl rfl)
theorem dX4_goes_1 : decode cX4_goes 1 = .ok (.getfield 127, 3) := dk_180 0 127 (dk_at dksX4_goes_0 1 rfl rfl)
theorem dX4_goes_4 : decode cX4_goes 4 = .ok (.aload_n 0, 1) := dk_42 (dk_at dksX4_goes_0 4 rfl rfl)
theorem dX4_goes_5 : decode cX4_goes 5 = .ok (.getfield 124, 3) := dk_180 0 124 (dk_at dksX4_goes_0 5 rfl rfl)
theorem dX4_goes_8 : decode cX4_goes 8 = .ok (.if_icmp .ge 42, 3) := dk_162 0 42 (dk_at dksX4_goes_0 8 rfl rfl)
theorem dX4_goes_11 : decode cX4_goes 11 = .ok (.aload_n 0, 1) := dk_42 (dk_at dksX4_goes_0 11 rfl rfl)
theorem dX4_goes_12 : decode cX4_goes 12 = .ok (.aload_n 0, 1) := dk_42 (dk_at dksX4_goes_0 12 rfl rfl)
theorem dX4_goes_13 : decode cX4_goes 13 = .ok (.getfield 127, 3) := dk_180 0 127 (dk_at dksX4_goes_0 13 rfl rfl)
theorem dX4_goes_16 : decode cX4_goes 16 = .ok (.invokevirtual 130, 3) := dk_182 0 130 (dk_at dksX4_goes_0 16 rfl rfl)
theorem dX4_goes_19 : decode cX4_goes 19 = .ok (.bipush 32, 2) := dk_16 32 (dk_at dksX4_goes_0 19 rfl rfl)
theorem dX4_goes_21 : decode cX4_goes 21 = .ok (.if_icmp .eq 16, 3) := dk_159 0 16 (dk_at dksX4_goes_0 21 rfl rfl)
theorem dX4_goes_24 : decode cX4_goes 24 = .ok (.aload_n 0, 1) := dk_42 (dk_at dksX4_goes_1 0 rfl rfl)
theorem dX4_goes_25 : decode cX4_goes 25 = .ok (.aload_n 0, 1) := dk_42 (dk_at dksX4_goes_1 1 rfl rfl)
theorem dX4_goes_26 : decode cX4_goes 26 = .ok (.getfield 127, 3) := dk_180 0 127 (dk_at dksX4_goes_1 2 rfl rfl)
theorem dX4_goes_29 : decode cX4_goes 29 = .ok (.invokevirtual 130, 3) := dk_182 0 130 (dk_at dksX4_goes_1 5 rfl rfl)
theorem dX4_goes_32 : decode cX4_goes 32 = .ok (.bipush 10, 2) := dk_16 10 (dk_at dksX4_goes_1 8 rfl rfl)
theorem dX4_goes_34 : decode cX4_goes 34 = .ok (.if_icmp .ne 16, 3) := dk_160 0 16 (dk_at dksX4_goes_1 10 rfl rfl)
theorem dX4_goes_37 : decode cX4_goes 37 = .ok (.aload_n 0, 1) := dk_42 (dk_at dksX4_goes_1 13 rfl rfl)
theorem dX4_goes_38 : decode cX4_goes 38 = .ok (.dup, 1) := dk_89 (dk_at dksX4_goes_1 14 rfl rfl)
theorem dX4_goes_39 : decode cX4_goes 39 = .ok (.getfield 127, 3) := dk_180 0 127 (dk_at dksX4_goes_1 15 rfl rfl)
theorem dX4_goes_42 : decode cX4_goes 42 = .ok (.iconst 1, 1) := dk_4 (dk_at dksX4_goes_1 18 rfl rfl)
theorem dX4_goes_43 : decode cX4_goes 43 = .ok (.iadd, 1) := dk_96 (dk_at dksX4_goes_1 19 rfl rfl)
theorem dX4_goes_44 : decode cX4_goes 44 = .ok (.putfield 127, 3) := dk_181 0 127 (dk_at dksX4_goes_1 20 rfl rfl)
theorem dX4_goes_47 : decode cX4_goes 47 = .ok (.goto (-47), 3) := dk_167 255 209 (dk_at dksX4_goes_2 0 rfl rfl)
theorem dX4_goes_50 : decode cX4_goes 50 = .ok (.aload_n 0, 1) := dk_42 (dk_at dksX4_goes_2 3 rfl rfl)
theorem dX4_goes_51 : decode cX4_goes 51 = .ok (.aload_n 0, 1) := dk_42 (dk_at dksX4_goes_2 4 rfl rfl)
theorem dX4_goes_52 : decode cX4_goes 52 = .ok (.getfield 127, 3) := dk_180 0 127 (dk_at dksX4_goes_2 5 rfl rfl)
theorem dX4_goes_55 : decode cX4_goes 55 = .ok (.putfield 134, 3) := dk_181 0 134 (dk_at dksX4_goes_2 8 rfl rfl)
theorem dX4_goes_58 : decode cX4_goes 58 = .ok (.aload_n 0, 1) := dk_42 (dk_at dksX4_goes_2 11 rfl rfl)
theorem dX4_goes_59 : decode cX4_goes 59 = .ok (.lconst 0, 1) := dk_9 (dk_at dksX4_goes_2 12 rfl rfl)
theorem dX4_goes_60 : decode cX4_goes 60 = .ok (.putfield 137, 3) := dk_181 0 137 (dk_at dksX4_goes_2 13 rfl rfl)
theorem dX4_goes_63 : decode cX4_goes 63 = .ok (.aload_n 0, 1) := dk_42 (dk_at dksX4_goes_2 16 rfl rfl)
theorem dX4_goes_64 : decode cX4_goes 64 = .ok (.iconst 0, 1) := dk_3 (dk_at dksX4_goes_2 17 rfl rfl)
theorem dX4_goes_65 : decode cX4_goes 65 = .ok (.putfield 141, 3) := dk_181 0 141 (dk_at dksX4_goes_2 18 rfl rfl)
theorem dX4_goes_68 : decode cX4_goes 68 = .ok (.aload_n 0, 1) := dk_42 (dk_at dksX4_goes_2 21 rfl rfl)
theorem dX4_goes_69 : decode cX4_goes 69 = .ok (.aload_n 0, 1) := dk_42 (dk_at dksX4_goes_2 22 rfl rfl)
theorem dX4_goes_70 : decode cX4_goes 70 = .ok (.getfield 127, 3) := dk_180 0 127 (dk_at dksX4_goes_3 0 rfl rfl)
theorem dX4_goes_73 : decode cX4_goes 73 = .ok (.invokevirtual 130, 3) := dk_182 0 130 (dk_at dksX4_goes_3 3 rfl rfl)
theorem dX4_goes_76 : decode cX4_goes 76 = .ok (.istore_n 1, 1) := dk_60 (dk_at dksX4_goes_3 6 rfl rfl)
theorem dX4_goes_77 : decode cX4_goes 77 = .ok (.aload_n 0, 1) := dk_42 (dk_at dksX4_goes_3 7 rfl rfl)
theorem dX4_goes_78 : decode cX4_goes 78 = .ok (.iload_n 1, 1) := dk_27 (dk_at dksX4_goes_3 8 rfl rfl)
theorem dX4_goes_79 : decode cX4_goes 79 = .ok (.putfield 144, 3) := dk_181 0 144 (dk_at dksX4_goes_3 9 rfl rfl)
theorem dX4_goes_82 : decode cX4_goes 82 = .ok (.aload_n 0, 1) := dk_42 (dk_at dksX4_goes_3 12 rfl rfl)
theorem dX4_goes_83 : decode cX4_goes 83 = .ok (.getfield 127, 3) := dk_180 0 127 (dk_at dksX4_goes_3 13 rfl rfl)
theorem dX4_goes_86 : decode cX4_goes 86 = .ok (.aload_n 0, 1) := dk_42 (dk_at dksX4_goes_3 16 rfl rfl)
theorem dX4_goes_87 : decode cX4_goes 87 = .ok (.getfield 124, 3) := dk_180 0 124 (dk_at dksX4_goes_3 17 rfl rfl)
theorem dX4_goes_90 : decode cX4_goes 90 = .ok (.if_icmp .lt 11, 3) := dk_161 0 11 (dk_at dksX4_goes_3 20 rfl rfl)
theorem dX4_goes_93 : decode cX4_goes 93 = .ok (.aload_n 0, 1) := dk_42 (dk_at dksX4_goes_3 23 rfl rfl)
theorem dX4_goes_94 : decode cX4_goes 94 = .ok (.iconst 0, 1) := dk_3 (dk_at dksX4_goes_4 0 rfl rfl)
theorem dX4_goes_95 : decode cX4_goes 95 = .ok (.putfield 147, 3) := dk_181 0 147 (dk_at dksX4_goes_4 1 rfl rfl)
theorem dX4_goes_98 : decode cX4_goes 98 = .ok (.goto 233, 3) := dk_167 0 233 (dk_at dksX4_goes_4 4 rfl rfl)
theorem dX4_goes_101 : decode cX4_goes 101 = .ok (.iload_n 1, 1) := dk_27 (dk_at dksX4_goes_4 7 rfl rfl)
theorem dX4_goes_102 : decode cX4_goes 102 = .ok (.invokestatic 150, 3) := dk_184 0 150 (dk_at dksX4_goes_4 8 rfl rfl)
theorem dX4_goes_105 : decode cX4_goes 105 = .ok (.ifCond .eq 75, 3) := dk_153 0 75 (dk_at dksX4_goes_4 11 rfl rfl)
theorem dX4_goes_108 : decode cX4_goes 108 = .ok (.aload_n 0, 1) := dk_42 (dk_at dksX4_goes_4 14 rfl rfl)
theorem dX4_goes_109 : decode cX4_goes 109 = .ok (.aload_n 0, 1) := dk_42 (dk_at dksX4_goes_4 15 rfl rfl)
theorem dX4_goes_110 : decode cX4_goes 110 = .ok (.getfield 127, 3) := dk_180 0 127 (dk_at dksX4_goes_4 16 rfl rfl)
theorem dX4_goes_113 : decode cX4_goes 113 = .ok (.invokevirtual 130, 3) := dk_182 0 130 (dk_at dksX4_goes_4 19 rfl rfl)
theorem dX4_goes_116 : decode cX4_goes 116 = .ok (.invokestatic 150, 3) := dk_184 0 150 (dk_at dksX4_goes_5 0 rfl rfl)
theorem dX4_goes_119 : decode cX4_goes 119 = .ok (.ifCond .eq 53, 3) := dk_153 0 53 (dk_at dksX4_goes_5 3 rfl rfl)
theorem dX4_goes_122 : decode cX4_goes 122 = .ok (.aload_n 0, 1) := dk_42 (dk_at dksX4_goes_5 6 rfl rfl)
theorem dX4_goes_123 : decode cX4_goes 123 = .ok (.getfield 127, 3) := dk_180 0 127 (dk_at dksX4_goes_5 7 rfl rfl)
theorem dX4_goes_126 : decode cX4_goes 126 = .ok (.aload_n 0, 1) := dk_42 (dk_at dksX4_goes_5 10 rfl rfl)
theorem dX4_goes_127 : decode cX4_goes 127 = .ok (.getfield 134, 3) := dk_180 0 134 (dk_at dksX4_goes_5 11 rfl rfl)
theorem dX4_goes_130 : decode cX4_goes 130 = .ok (.isub, 1) := dk_100 (dk_at dksX4_goes_5 14 rfl rfl)
theorem dX4_goes_131 : decode cX4_goes 131 = .ok (.bipush 6, 2) := dk_16 6 (dk_at dksX4_goes_5 15 rfl rfl)
theorem dX4_goes_133 : decode cX4_goes 133 = .ok (.if_icmp .ge 26, 3) := dk_162 0 26 (dk_at dksX4_goes_5 17 rfl rfl)
theorem dX4_goes_136 : decode cX4_goes 136 = .ok (.aload_n 0, 1) := dk_42 (dk_at dksX4_goes_5 20 rfl rfl)
theorem dX4_goes_137 : decode cX4_goes 137 = .ok (.aload_n 0, 1) := dk_42 (dk_at dksX4_goes_5 21 rfl rfl)
theorem dX4_goes_138 : decode cX4_goes 138 = .ok (.getfield 137, 3) := dk_180 0 137 (dk_at dksX4_goes_6 0 rfl rfl)
theorem dX4_goes_141 : decode cX4_goes 141 = .ok (.iconst 5, 1) := dk_8 (dk_at dksX4_goes_6 3 rfl rfl)
theorem dX4_goes_142 : decode cX4_goes 142 = .ok (.lshl, 1) := dk_121 (dk_at dksX4_goes_6 4 rfl rfl)
theorem dX4_goes_143 : decode cX4_goes 143 = .ok (.aload_n 0, 1) := dk_42 (dk_at dksX4_goes_6 5 rfl rfl)
theorem dX4_goes_144 : decode cX4_goes 144 = .ok (.aload_n 0, 1) := dk_42 (dk_at dksX4_goes_6 6 rfl rfl)
theorem dX4_goes_145 : decode cX4_goes 145 = .ok (.getfield 127, 3) := dk_180 0 127 (dk_at dksX4_goes_6 7 rfl rfl)
theorem dX4_goes_148 : decode cX4_goes 148 = .ok (.invokevirtual 130, 3) := dk_182 0 130 (dk_at dksX4_goes_6 10 rfl rfl)
theorem dX4_goes_151 : decode cX4_goes 151 = .ok (.bipush 96, 2) := dk_16 96 (dk_at dksX4_goes_6 13 rfl rfl)
theorem dX4_goes_153 : decode cX4_goes 153 = .ok (.isub, 1) := dk_100 (dk_at dksX4_goes_6 15 rfl rfl)
theorem dX4_goes_154 : decode cX4_goes 154 = .ok (.i2l, 1) := dk_133 (dk_at dksX4_goes_6 16 rfl rfl)
theorem dX4_goes_155 : decode cX4_goes 155 = .ok (.lor, 1) := dk_129 (dk_at dksX4_goes_6 17 rfl rfl)
theorem dX4_goes_156 : decode cX4_goes 156 = .ok (.putfield 137, 3) := dk_181 0 137 (dk_at dksX4_goes_6 18 rfl rfl)
theorem dX4_goes_159 : decode cX4_goes 159 = .ok (.aload_n 0, 1) := dk_42 (dk_at dksX4_goes_6 21 rfl rfl)
theorem dX4_goes_160 : decode cX4_goes 160 = .ok (.dup, 1) := dk_89 (dk_at dksX4_goes_6 22 rfl rfl)
theorem dX4_goes_161 : decode cX4_goes 161 = .ok (.getfield 127, 3) := dk_180 0 127 (dk_at dksX4_goes_7 0 rfl rfl)
theorem dX4_goes_164 : decode cX4_goes 164 = .ok (.iconst 1, 1) := dk_4 (dk_at dksX4_goes_7 3 rfl rfl)
theorem dX4_goes_165 : decode cX4_goes 165 = .ok (.iadd, 1) := dk_96 (dk_at dksX4_goes_7 4 rfl rfl)
theorem dX4_goes_166 : decode cX4_goes 166 = .ok (.putfield 127, 3) := dk_181 0 127 (dk_at dksX4_goes_7 5 rfl rfl)
theorem dX4_goes_169 : decode cX4_goes 169 = .ok (.goto (-61), 3) := dk_167 255 195 (dk_at dksX4_goes_7 8 rfl rfl)
theorem dX4_goes_172 : decode cX4_goes 172 = .ok (.aload_n 0, 1) := dk_42 (dk_at dksX4_goes_7 11 rfl rfl)
theorem dX4_goes_173 : decode cX4_goes 173 = .ok (.iconst 1, 1) := dk_4 (dk_at dksX4_goes_7 12 rfl rfl)
theorem dX4_goes_174 : decode cX4_goes 174 = .ok (.putfield 147, 3) := dk_181 0 147 (dk_at dksX4_goes_7 13 rfl rfl)
theorem dX4_goes_177 : decode cX4_goes 177 = .ok (.goto 154, 3) := dk_167 0 154 (dk_at dksX4_goes_7 16 rfl rfl)
theorem dX4_goes_180 : decode cX4_goes 180 = .ok (.iload_n 1, 1) := dk_27 (dk_at dksX4_goes_7 19 rfl rfl)
theorem dX4_goes_181 : decode cX4_goes 181 = .ok (.invokestatic 154, 3) := dk_184 0 154 (dk_at dksX4_goes_7 20 rfl rfl)
theorem dX4_goes_184 : decode cX4_goes 184 = .ok (.ifCond .eq 74, 3) := dk_153 0 74 (dk_at dksX4_goes_8 0 rfl rfl)
theorem dX4_goes_187 : decode cX4_goes 187 = .ok (.aload_n 0, 1) := dk_42 (dk_at dksX4_goes_8 3 rfl rfl)
theorem dX4_goes_188 : decode cX4_goes 188 = .ok (.aload_n 0, 1) := dk_42 (dk_at dksX4_goes_8 4 rfl rfl)
theorem dX4_goes_189 : decode cX4_goes 189 = .ok (.getfield 127, 3) := dk_180 0 127 (dk_at dksX4_goes_8 5 rfl rfl)
theorem dX4_goes_192 : decode cX4_goes 192 = .ok (.invokevirtual 130, 3) := dk_182 0 130 (dk_at dksX4_goes_8 8 rfl rfl)
theorem dX4_goes_195 : decode cX4_goes 195 = .ok (.invokestatic 154, 3) := dk_184 0 154 (dk_at dksX4_goes_8 11 rfl rfl)
theorem dX4_goes_198 : decode cX4_goes 198 = .ok (.ifCond .eq 52, 3) := dk_153 0 52 (dk_at dksX4_goes_8 14 rfl rfl)
theorem dX4_goes_201 : decode cX4_goes 201 = .ok (.aload_n 0, 1) := dk_42 (dk_at dksX4_goes_8 17 rfl rfl)
theorem dX4_goes_202 : decode cX4_goes 202 = .ok (.getfield 127, 3) := dk_180 0 127 (dk_at dksX4_goes_8 18 rfl rfl)
theorem dX4_goes_205 : decode cX4_goes 205 = .ok (.aload_n 0, 1) := dk_42 (dk_at dksX4_goes_8 21 rfl rfl)
theorem dX4_goes_206 : decode cX4_goes 206 = .ok (.getfield 134, 3) := dk_180 0 134 (dk_at dksX4_goes_9 0 rfl rfl)
theorem dX4_goes_209 : decode cX4_goes 209 = .ok (.isub, 1) := dk_100 (dk_at dksX4_goes_9 3 rfl rfl)
theorem dX4_goes_210 : decode cX4_goes 210 = .ok (.iconst 4, 1) := dk_7 (dk_at dksX4_goes_9 4 rfl rfl)
theorem dX4_goes_211 : decode cX4_goes 211 = .ok (.if_icmp .ge 26, 3) := dk_162 0 26 (dk_at dksX4_goes_9 5 rfl rfl)
theorem dX4_goes_214 : decode cX4_goes 214 = .ok (.aload_n 0, 1) := dk_42 (dk_at dksX4_goes_9 8 rfl rfl)
theorem dX4_goes_215 : decode cX4_goes 215 = .ok (.bipush 10, 2) := dk_16 10 (dk_at dksX4_goes_9 9 rfl rfl)
theorem dX4_goes_217 : decode cX4_goes 217 = .ok (.aload_n 0, 1) := dk_42 (dk_at dksX4_goes_9 11 rfl rfl)
theorem dX4_goes_218 : decode cX4_goes 218 = .ok (.getfield 141, 3) := dk_180 0 141 (dk_at dksX4_goes_9 12 rfl rfl)
theorem dX4_goes_221 : decode cX4_goes 221 = .ok (.imul, 1) := dk_104 (dk_at dksX4_goes_9 15 rfl rfl)
theorem dX4_goes_222 : decode cX4_goes 222 = .ok (.aload_n 0, 1) := dk_42 (dk_at dksX4_goes_9 16 rfl rfl)
theorem dX4_goes_223 : decode cX4_goes 223 = .ok (.aload_n 0, 1) := dk_42 (dk_at dksX4_goes_9 17 rfl rfl)
theorem dX4_goes_224 : decode cX4_goes 224 = .ok (.getfield 127, 3) := dk_180 0 127 (dk_at dksX4_goes_9 18 rfl rfl)
theorem dX4_goes_227 : decode cX4_goes 227 = .ok (.invokevirtual 130, 3) := dk_182 0 130 (dk_at dksX4_goes_9 21 rfl rfl)
theorem dX4_goes_230 : decode cX4_goes 230 = .ok (.iadd, 1) := dk_96 (dk_at dksX4_goes_10 0 rfl rfl)
theorem dX4_goes_231 : decode cX4_goes 231 = .ok (.bipush 48, 2) := dk_16 48 (dk_at dksX4_goes_10 1 rfl rfl)
theorem dX4_goes_233 : decode cX4_goes 233 = .ok (.isub, 1) := dk_100 (dk_at dksX4_goes_10 3 rfl rfl)
theorem dX4_goes_234 : decode cX4_goes 234 = .ok (.putfield 141, 3) := dk_181 0 141 (dk_at dksX4_goes_10 4 rfl rfl)
theorem dX4_goes_237 : decode cX4_goes 237 = .ok (.aload_n 0, 1) := dk_42 (dk_at dksX4_goes_10 7 rfl rfl)
theorem dX4_goes_238 : decode cX4_goes 238 = .ok (.dup, 1) := dk_89 (dk_at dksX4_goes_10 8 rfl rfl)
theorem dX4_goes_239 : decode cX4_goes 239 = .ok (.getfield 127, 3) := dk_180 0 127 (dk_at dksX4_goes_10 9 rfl rfl)
theorem dX4_goes_242 : decode cX4_goes 242 = .ok (.iconst 1, 1) := dk_4 (dk_at dksX4_goes_10 12 rfl rfl)
theorem dX4_goes_243 : decode cX4_goes 243 = .ok (.iadd, 1) := dk_96 (dk_at dksX4_goes_10 13 rfl rfl)
theorem dX4_goes_244 : decode cX4_goes 244 = .ok (.putfield 127, 3) := dk_181 0 127 (dk_at dksX4_goes_10 14 rfl rfl)
theorem dX4_goes_247 : decode cX4_goes 247 = .ok (.goto (-60), 3) := dk_167 255 196 (dk_at dksX4_goes_10 17 rfl rfl)
theorem dX4_goes_250 : decode cX4_goes 250 = .ok (.aload_n 0, 1) := dk_42 (dk_at dksX4_goes_10 20 rfl rfl)
theorem dX4_goes_251 : decode cX4_goes 251 = .ok (.iconst 2, 1) := dk_5 (dk_at dksX4_goes_10 21 rfl rfl)
theorem dX4_goes_252 : decode cX4_goes 252 = .ok (.putfield 147, 3) := dk_181 0 147 (dk_at dksX4_goes_11 0 rfl rfl)
theorem dX4_goes_255 : decode cX4_goes 255 = .ok (.goto 76, 3) := dk_167 0 76 (dk_at dksX4_goes_11 3 rfl rfl)
theorem dX4_goes_258 : decode cX4_goes 258 = .ok (.aload_n 0, 1) := dk_42 (dk_at dksX4_goes_11 6 rfl rfl)
theorem dX4_goes_259 : decode cX4_goes 259 = .ok (.dup, 1) := dk_89 (dk_at dksX4_goes_11 7 rfl rfl)
theorem dX4_goes_260 : decode cX4_goes 260 = .ok (.getfield 127, 3) := dk_180 0 127 (dk_at dksX4_goes_11 8 rfl rfl)
theorem dX4_goes_263 : decode cX4_goes 263 = .ok (.iconst 1, 1) := dk_4 (dk_at dksX4_goes_11 11 rfl rfl)
theorem dX4_goes_264 : decode cX4_goes 264 = .ok (.iadd, 1) := dk_96 (dk_at dksX4_goes_11 12 rfl rfl)
theorem dX4_goes_265 : decode cX4_goes 265 = .ok (.putfield 127, 3) := dk_181 0 127 (dk_at dksX4_goes_11 13 rfl rfl)
theorem dX4_goes_268 : decode cX4_goes 268 = .ok (.aload_n 0, 1) := dk_42 (dk_at dksX4_goes_11 16 rfl rfl)
theorem dX4_goes_269 : decode cX4_goes 269 = .ok (.iload_n 1, 1) := dk_27 (dk_at dksX4_goes_11 17 rfl rfl)
theorem dX4_goes_270 : decode cX4_goes 270 = .ok (.bipush 59, 2) := dk_16 59 (dk_at dksX4_goes_11 18 rfl rfl)
theorem dX4_goes_272 : decode cX4_goes 272 = .ok (.if_icmp .eq 51, 3) := dk_159 0 51 (dk_at dksX4_goes_11 20 rfl rfl)
theorem dX4_goes_275 : decode cX4_goes 275 = .ok (.iload_n 1, 1) := dk_27 (dk_at dksX4_goes_11 23 rfl rfl)
theorem dX4_goes_276 : decode cX4_goes 276 = .ok (.bipush 40, 2) := dk_16 40 (dk_at dksX4_goes_12 0 rfl rfl)
theorem dX4_goes_278 : decode cX4_goes 278 = .ok (.if_icmp .eq 45, 3) := dk_159 0 45 (dk_at dksX4_goes_12 2 rfl rfl)
theorem dX4_goes_281 : decode cX4_goes 281 = .ok (.iload_n 1, 1) := dk_27 (dk_at dksX4_goes_12 5 rfl rfl)
theorem dX4_goes_282 : decode cX4_goes 282 = .ok (.bipush 41, 2) := dk_16 41 (dk_at dksX4_goes_12 6 rfl rfl)
theorem dX4_goes_284 : decode cX4_goes 284 = .ok (.if_icmp .eq 39, 3) := dk_159 0 39 (dk_at dksX4_goes_12 8 rfl rfl)
theorem dX4_goes_287 : decode cX4_goes 287 = .ok (.iload_n 1, 1) := dk_27 (dk_at dksX4_goes_12 11 rfl rfl)
theorem dX4_goes_288 : decode cX4_goes 288 = .ok (.bipush 43, 2) := dk_16 43 (dk_at dksX4_goes_12 12 rfl rfl)
theorem dX4_goes_290 : decode cX4_goes 290 = .ok (.if_icmp .eq 33, 3) := dk_159 0 33 (dk_at dksX4_goes_12 14 rfl rfl)
theorem dX4_goes_293 : decode cX4_goes 293 = .ok (.iload_n 1, 1) := dk_27 (dk_at dksX4_goes_12 17 rfl rfl)
theorem dX4_goes_294 : decode cX4_goes 294 = .ok (.bipush 45, 2) := dk_16 45 (dk_at dksX4_goes_12 18 rfl rfl)
theorem dX4_goes_296 : decode cX4_goes 296 = .ok (.if_icmp .eq 27, 3) := dk_159 0 27 (dk_at dksX4_goes_12 20 rfl rfl)
theorem dX4_goes_299 : decode cX4_goes 299 = .ok (.iload_n 1, 1) := dk_27 (dk_at dksX4_goes_12 23 rfl rfl)
theorem dX4_goes_300 : decode cX4_goes 300 = .ok (.bipush 42, 2) := dk_16 42 (dk_at dksX4_goes_13 0 rfl rfl)
theorem dX4_goes_302 : decode cX4_goes 302 = .ok (.if_icmp .eq 21, 3) := dk_159 0 21 (dk_at dksX4_goes_13 2 rfl rfl)
theorem dX4_goes_305 : decode cX4_goes 305 = .ok (.iload_n 1, 1) := dk_27 (dk_at dksX4_goes_13 5 rfl rfl)
theorem dX4_goes_306 : decode cX4_goes 306 = .ok (.bipush 47, 2) := dk_16 47 (dk_at dksX4_goes_13 6 rfl rfl)
theorem dX4_goes_308 : decode cX4_goes 308 = .ok (.if_icmp .eq 15, 3) := dk_159 0 15 (dk_at dksX4_goes_13 8 rfl rfl)
theorem dX4_goes_311 : decode cX4_goes 311 = .ok (.iload_n 1, 1) := dk_27 (dk_at dksX4_goes_13 11 rfl rfl)
theorem dX4_goes_312 : decode cX4_goes 312 = .ok (.bipush 60, 2) := dk_16 60 (dk_at dksX4_goes_13 12 rfl rfl)
theorem dX4_goes_314 : decode cX4_goes 314 = .ok (.if_icmp .eq 9, 3) := dk_159 0 9 (dk_at dksX4_goes_13 14 rfl rfl)
theorem dX4_goes_317 : decode cX4_goes 317 = .ok (.iload_n 1, 1) := dk_27 (dk_at dksX4_goes_13 17 rfl rfl)
theorem dX4_goes_318 : decode cX4_goes 318 = .ok (.bipush 61, 2) := dk_16 61 (dk_at dksX4_goes_13 18 rfl rfl)
theorem dX4_goes_320 : decode cX4_goes 320 = .ok (.if_icmp .ne 7, 3) := dk_160 0 7 (dk_at dksX4_goes_13 20 rfl rfl)
theorem dX4_goes_323 : decode cX4_goes 323 = .ok (.iconst 3, 1) := dk_6 (dk_at dksX4_goes_13 23 rfl rfl)
theorem dX4_goes_324 : decode cX4_goes 324 = .ok (.goto 4, 3) := dk_167 0 4 (dk_at dksX4_goes_14 0 rfl rfl)
theorem dX4_goes_327 : decode cX4_goes 327 = .ok (.iconst 4, 1) := dk_7 (dk_at dksX4_goes_14 3 rfl rfl)
theorem dX4_goes_328 : decode cX4_goes 328 = .ok (.putfield 147, 3) := dk_181 0 147 (dk_at dksX4_goes_14 4 rfl rfl)
theorem dX4_goes_331 : decode cX4_goes 331 = .ok (.aload_n 0, 1) := dk_42 (dk_at dksX4_goes_14 7 rfl rfl)
theorem dX4_goes_332 : decode cX4_goes 332 = .ok (.aload_n 0, 1) := dk_42 (dk_at dksX4_goes_14 8 rfl rfl)
theorem dX4_goes_333 : decode cX4_goes 333 = .ok (.getfield 127, 3) := dk_180 0 127 (dk_at dksX4_goes_14 9 rfl rfl)
theorem dX4_goes_336 : decode cX4_goes 336 = .ok (.aload_n 0, 1) := dk_42 (dk_at dksX4_goes_14 12 rfl rfl)
theorem dX4_goes_337 : decode cX4_goes 337 = .ok (.getfield 134, 3) := dk_180 0 134 (dk_at dksX4_goes_14 13 rfl rfl)
theorem dX4_goes_340 : decode cX4_goes 340 = .ok (.isub, 1) := dk_100 (dk_at dksX4_goes_14 16 rfl rfl)
theorem dX4_goes_341 : decode cX4_goes 341 = .ok (.putfield 157, 3) := dk_181 0 157 (dk_at dksX4_goes_14 17 rfl rfl)
theorem dX4_goes_344 : decode cX4_goes 344 = .ok (.return_, 1) := dk_177 (dk_at dksX4_goes_14 20 rfl rfl)
abbrev cX4_byteAt : ByteArray := prog_12_method_12_code
def yX4_byteAt : MethodName := ⟨RX4, "byteAt", "(I)I"⟩
def dkwX4_byteAt_0 : List UInt8 := [27, 42, 180, 0, 124, 162, 0, 12, 42, 180, 0, 23, 27, 46, 167, 0, 4, 3, 172]
abbrev dktX4_byteAt_0 : List UInt8 := dkwX4_byteAt_0 ++ []
theorem dksX4_byteAt_0 : cX4_byteAt.data.toList.drop 0 = dktX4_byteAt_0 := by decide +kernel
theorem dX4_byteAt_0 : decode cX4_byteAt 0 = .ok (.iload_n 1, 1) := dk_27 (dk_at dksX4_byteAt_0 0 rfl rfl)
theorem dX4_byteAt_1 : decode cX4_byteAt 1 = .ok (.aload_n 0, 1) := dk_42 (dk_at dksX4_byteAt_0 1 rfl rfl)
theorem dX4_byteAt_2 : decode cX4_byteAt 2 = .ok (.getfield 124, 3) := dk_180 0 124 (dk_at dksX4_byteAt_0 2 rfl rfl)
theorem dX4_byteAt_5 : decode cX4_byteAt 5 = .ok (.if_icmp .ge 12, 3) := dk_162 0 12 (dk_at dksX4_byteAt_0 5 rfl rfl)
theorem dX4_byteAt_8 : decode cX4_byteAt 8 = .ok (.aload_n 0, 1) := dk_42 (dk_at dksX4_byteAt_0 8 rfl rfl)
theorem dX4_byteAt_9 : decode cX4_byteAt 9 = .ok (.getfield 23, 3) := dk_180 0 23 (dk_at dksX4_byteAt_0 9 rfl rfl)
theorem dX4_byteAt_12 : decode cX4_byteAt 12 = .ok (.iload_n 1, 1) := dk_27 (dk_at dksX4_byteAt_0 12 rfl rfl)
theorem dX4_byteAt_13 : decode cX4_byteAt 13 = .ok (.iaload, 1) := dk_46 (dk_at dksX4_byteAt_0 13 rfl rfl)
theorem dX4_byteAt_14 : decode cX4_byteAt 14 = .ok (.goto 4, 3) := dk_167 0 4 (dk_at dksX4_byteAt_0 14 rfl rfl)
theorem dX4_byteAt_17 : decode cX4_byteAt 17 = .ok (.iconst 0, 1) := dk_3 (dk_at dksX4_byteAt_0 17 rfl rfl)
theorem dX4_byteAt_18 : decode cX4_byteAt 18 = .ok (.ireturn, 1) := dk_172 (dk_at dksX4_byteAt_0 18 rfl rfl)
abbrev cX4_isLetter : ByteArray := prog_12_method_13_code
def yX4_isLetter : MethodName := ⟨RX4, "isLetter", "(I)Z"⟩
def dkwX4_isLetter_0 : List UInt8 := [26, 16, 97, 161, 0, 13, 26, 16, 122, 163, 0, 7, 4, 167, 0, 4, 3, 172]
abbrev dktX4_isLetter_0 : List UInt8 := dkwX4_isLetter_0 ++ []
theorem dksX4_isLetter_0 : cX4_isLetter.data.toList.drop 0 = dktX4_isLetter_0 := by decide +kernel
theorem dX4_isLetter_0 : decode cX4_isLetter 0 = .ok (.iload_n 0, 1) := dk_26 (dk_at dksX4_isLetter_0 0 rfl rfl)
theorem dX4_isLetter_1 : decode cX4_isLetter 1 = .ok (.bipush 97, 2) := dk_16 97 (dk_at dksX4_isLetter_0 1 rfl rfl)
theorem dX4_isLetter_3 : decode cX4_isLetter 3 = .ok (.if_icmp .lt 13, 3) := dk_161 0 13 (dk_at dksX4_isLetter_0 3 rfl rfl)
theorem dX4_isLetter_6 : decode cX4_isLetter 6 = .ok (.iload_n 0, 1) := dk_26 (dk_at dksX4_isLetter_0 6 rfl rfl)
theorem dX4_isLetter_7 : decode cX4_isLetter 7 = .ok (.bipush 122, 2) := dk_16 122 (dk_at dksX4_isLetter_0 7 rfl rfl)
theorem dX4_isLetter_9 : decode cX4_isLetter 9 = .ok (.if_icmp .gt 7, 3) := dk_163 0 7 (dk_at dksX4_isLetter_0 9 rfl rfl)
theorem dX4_isLetter_12 : decode cX4_isLetter 12 = .ok (.iconst 1, 1) := dk_4 (dk_at dksX4_isLetter_0 12 rfl rfl)
theorem dX4_isLetter_13 : decode cX4_isLetter 13 = .ok (.goto 4, 3) := dk_167 0 4 (dk_at dksX4_isLetter_0 13 rfl rfl)
theorem dX4_isLetter_16 : decode cX4_isLetter 16 = .ok (.iconst 0, 1) := dk_3 (dk_at dksX4_isLetter_0 16 rfl rfl)
theorem dX4_isLetter_17 : decode cX4_isLetter 17 = .ok (.ireturn, 1) := dk_172 (dk_at dksX4_isLetter_0 17 rfl rfl)
abbrev cX4_isDigit : ByteArray := prog_12_method_14_code
def yX4_isDigit : MethodName := ⟨RX4, "isDigit", "(I)Z"⟩
def dkwX4_isDigit_0 : List UInt8 := [26, 16, 48, 161, 0, 13, 26, 16, 57, 163, 0, 7, 4, 167, 0, 4, 3, 172]
abbrev dktX4_isDigit_0 : List UInt8 := dkwX4_isDigit_0 ++ []
theorem dksX4_isDigit_0 : cX4_isDigit.data.toList.drop 0 = dktX4_isDigit_0 := by decide +kernel
theorem dX4_isDigit_0 : decode cX4_isDigit 0 = .ok (.iload_n 0, 1) := dk_26 (dk_at dksX4_isDigit_0 0 rfl rfl)
theorem dX4_isDigit_1 : decode cX4_isDigit 1 = .ok (.bipush 48, 2) := dk_16 48 (dk_at dksX4_isDigit_0 1 rfl rfl)
theorem dX4_isDigit_3 : decode cX4_isDigit 3 = .ok (.if_icmp .lt 13, 3) := dk_161 0 13 (dk_at dksX4_isDigit_0 3 rfl rfl)
theorem dX4_isDigit_6 : decode cX4_isDigit 6 = .ok (.iload_n 0, 1) := dk_26 (dk_at dksX4_isDigit_0 6 rfl rfl)
theorem dX4_isDigit_7 : decode cX4_isDigit 7 = .ok (.bipush 57, 2) := dk_16 57 (dk_at dksX4_isDigit_0 7 rfl rfl)
theorem dX4_isDigit_9 : decode cX4_isDigit 9 = .ok (.if_icmp .gt 7, 3) := dk_163 0 7 (dk_at dksX4_isDigit_0 9 rfl rfl)
theorem dX4_isDigit_12 : decode cX4_isDigit 12 = .ok (.iconst 1, 1) := dk_4 (dk_at dksX4_isDigit_0 12 rfl rfl)
theorem dX4_isDigit_13 : decode cX4_isDigit 13 = .ok (.goto 4, 3) := dk_167 0 4 (dk_at dksX4_isDigit_0 13 rfl rfl)
theorem dX4_isDigit_16 : decode cX4_isDigit 16 = .ok (.iconst 0, 1) := dk_3 (dk_at dksX4_isDigit_0 16 rfl rfl)
theorem dX4_isDigit_17 : decode cX4_isDigit 17 = .ok (.ireturn, 1) := dk_172 (dk_at dksX4_isDigit_0 17 rfl rfl)
abbrev cX4_isGood : ByteArray := prog_12_method_20_code
def yX4_isGood : MethodName := ⟨RX4, "isGood", "()Z"⟩
def dkwX4_isGood_0 : List UInt8 := [42, 180, 0, 170, 154, 0, 7, 4, 167, 0, 4, 3, 172]
abbrev dktX4_isGood_0 : List UInt8 := dkwX4_isGood_0 ++ []
theorem dksX4_isGood_0 : cX4_isGood.data.toList.drop 0 = dktX4_isGood_0 := by decide +kernel
theorem dX4_isGood_0 : decode cX4_isGood 0 = .ok (.aload_n 0, 1) := dk_42 (dk_at dksX4_isGood_0 0 rfl rfl)
theorem dX4_isGood_1 : decode cX4_isGood 1 = .ok (.getfield 170, 3) := dk_180 0 170 (dk_at dksX4_isGood_0 1 rfl rfl)
theorem dX4_isGood_4 : decode cX4_isGood 4 = .ok (.ifCond .ne 7, 3) := dk_154 0 7 (dk_at dksX4_isGood_0 4 rfl rfl)
theorem dX4_isGood_7 : decode cX4_isGood 7 = .ok (.iconst 1, 1) := dk_4 (dk_at dksX4_isGood_0 7 rfl rfl)
theorem dX4_isGood_8 : decode cX4_isGood 8 = .ok (.goto 4, 3) := dk_167 0 4 (dk_at dksX4_isGood_0 8 rfl rfl)
theorem dX4_isGood_11 : decode cX4_isGood 11 = .ok (.iconst 0, 1) := dk_3 (dk_at dksX4_isGood_0 11 rfl rfl)
theorem dX4_isGood_12 : decode cX4_isGood 12 = .ok (.ireturn, 1) := dk_172 (dk_at dksX4_isGood_0 12 rfl rfl)
abbrev cX4_line : ByteArray := prog_12_method_39_code
def yX4_line : MethodName := ⟨RX4, "line", "()V"⟩
def dkwX4_line_6 : List UInt8 := [182, 0, 253, 167, 0, 8, 42, 4, 182, 0, 180, 42, 42, 16, 59, 182, 0, 208, 182, 1, 3, 177]
abbrev dktX4_line_6 : List UInt8 := dkwX4_line_6 ++ []
def dkwX4_line_5 : List UInt8 := [159, 0, 7, 4, 167, 0, 4, 3, 182, 0, 240, 153, 0, 23, 42, 42, 180, 0, 186, 181, 1, 0, 42]
abbrev dktX4_line_5 : List UInt8 := dkwX4_line_5 ++ dktX4_line_6
def dkwX4_line_4 : List UInt8 := [181, 0, 250, 42, 182, 0, 253, 167, 0, 50, 27, 16, 8, 160, 0, 39, 42, 3, 42, 180, 1, 0, 2]
abbrev dktX4_line_4 : List UInt8 := dkwX4_line_4 ++ dktX4_line_5
def dkwX4_line_3 : List UInt8 := [180, 0, 250, 2, 159, 0, 7, 4, 167, 0, 4, 3, 182, 0, 240, 153, 0, 65, 42, 42, 180, 0, 186]
abbrev dktX4_line_3 : List UInt8 := dkwX4_line_3 ++ dktX4_line_4
def dkwX4_line_2 : List UInt8 := [182, 0, 240, 153, 0, 99, 42, 182, 0, 247, 167, 0, 92, 27, 16, 7, 160, 0, 39, 42, 3, 42]
abbrev dktX4_line_2 : List UInt8 := dkwX4_line_2 ++ dktX4_line_3
def dkwX4_line_1 : List UInt8 := [3, 3, 182, 0, 240, 153, 0, 121, 42, 182, 0, 244, 167, 0, 114, 27, 16, 6, 160, 0, 19, 42, 3, 3]
abbrev dktX4_line_1 : List UInt8 := dkwX4_line_1 ++ dktX4_line_2
def dkwX4_line_0 : List UInt8 := [42, 182, 0, 201, 60, 27, 8, 160, 0, 32, 42, 42, 180, 0, 183, 16, 9, 160, 0, 7, 4, 167, 0, 4]
abbrev dktX4_line_0 : List UInt8 := dkwX4_line_0 ++ dktX4_line_1
theorem dksX4_line_0 : cX4_line.data.toList.drop 0 = dktX4_line_0 := by decide +kernel
theorem dksX4_line_1 : cX4_line.data.toList.drop 24 = dktX4_line_1 := dk_seg dksX4_line_0 24 rfl rfl
theorem dksX4_line_2 : cX4_line.data.toList.drop 48 = dktX4_line_2 := dk_seg dksX4_line_1 24 rfl rfl
theorem dksX4_line_3 : cX4_line.data.toList.drop 70 = dktX4_line_3 := dk_seg dksX4_line_2 22 rfl rfl
theorem dksX4_line_4 : cX4_line.data.toList.drop 93 = dktX4_line_4 := dk_seg dksX4_line_3 23 rfl rfl
theorem dksX4_line_5 : cX4_line.data.toList.drop 116 = dktX4_line_5 := dk_seg dksX4_line_4 23 rfl rfl
theorem dksX4_line_6 : cX4_line.data.toList.drop 139 = dktX4_line_6 := dk_seg dksX4_line_5 23 rfl rfl
theorem dX4_line_0 : decode cX4_line 0 = .ok (.aload_n 0, 1) := dk_42 (dk_at dksX4_line_0 0 rfl rfl)
theorem dX4_line_1 : decode cX4_line 1 = .ok (.invokevirtual 201, 3) := dk_182 0 201 (dk_at dksX4_line_0 1 rfl rfl)
theorem dX4_line_4 : decode cX4_line 4 = .ok (.istore_n 1, 1) := dk_60 (dk_at dksX4_line_0 4 rfl rfl)
theorem dX4_line_5 : decode cX4_line 5 = .ok (.iload_n 1, 1) := dk_27 (dk_at dksX4_line_0 5 rfl rfl)
theorem dX4_line_6 : decode cX4_line 6 = .ok (.iconst 5, 1) := dk_8 (dk_at dksX4_line_0 6 rfl rfl)
theorem dX4_line_7 : decode cX4_line 7 = .ok (.if_icmp .ne 32, 3) := dk_160 0 32 (dk_at dksX4_line_0 7 rfl rfl)
theorem dX4_line_10 : decode cX4_line 10 = .ok (.aload_n 0, 1) := dk_42 (dk_at dksX4_line_0 10 rfl rfl)
theorem dX4_line_11 : decode cX4_line 11 = .ok (.aload_n 0, 1) := dk_42 (dk_at dksX4_line_0 11 rfl rfl)
theorem dX4_line_12 : decode cX4_line 12 = .ok (.getfield 183, 3) := dk_180 0 183 (dk_at dksX4_line_0 12 rfl rfl)
theorem dX4_line_15 : decode cX4_line 15 = .ok (.bipush 9, 2) := dk_16 9 (dk_at dksX4_line_0 15 rfl rfl)
theorem dX4_line_17 : decode cX4_line 17 = .ok (.if_icmp .ne 7, 3) := dk_160 0 7 (dk_at dksX4_line_0 17 rfl rfl)
theorem dX4_line_20 : decode cX4_line 20 = .ok (.iconst 1, 1) := dk_4 (dk_at dksX4_line_0 20 rfl rfl)
theorem dX4_line_21 : decode cX4_line 21 = .ok (.goto 4, 3) := dk_167 0 4 (dk_at dksX4_line_0 21 rfl rfl)
theorem dX4_line_24 : decode cX4_line 24 = .ok (.iconst 0, 1) := dk_3 (dk_at dksX4_line_1 0 rfl rfl)
theorem dX4_line_25 : decode cX4_line 25 = .ok (.iconst 0, 1) := dk_3 (dk_at dksX4_line_1 1 rfl rfl)
theorem dX4_line_26 : decode cX4_line 26 = .ok (.invokevirtual 240, 3) := dk_182 0 240 (dk_at dksX4_line_1 2 rfl rfl)
theorem dX4_line_29 : decode cX4_line 29 = .ok (.ifCond .eq 121, 3) := dk_153 0 121 (dk_at dksX4_line_1 5 rfl rfl)
theorem dX4_line_32 : decode cX4_line 32 = .ok (.aload_n 0, 1) := dk_42 (dk_at dksX4_line_1 8 rfl rfl)
theorem dX4_line_33 : decode cX4_line 33 = .ok (.invokevirtual 244, 3) := dk_182 0 244 (dk_at dksX4_line_1 9 rfl rfl)
theorem dX4_line_36 : decode cX4_line 36 = .ok (.goto 114, 3) := dk_167 0 114 (dk_at dksX4_line_1 12 rfl rfl)
theorem dX4_line_39 : decode cX4_line 39 = .ok (.iload_n 1, 1) := dk_27 (dk_at dksX4_line_1 15 rfl rfl)
theorem dX4_line_40 : decode cX4_line 40 = .ok (.bipush 6, 2) := dk_16 6 (dk_at dksX4_line_1 16 rfl rfl)
theorem dX4_line_42 : decode cX4_line 42 = .ok (.if_icmp .ne 19, 3) := dk_160 0 19 (dk_at dksX4_line_1 18 rfl rfl)
theorem dX4_line_45 : decode cX4_line 45 = .ok (.aload_n 0, 1) := dk_42 (dk_at dksX4_line_1 21 rfl rfl)
theorem dX4_line_46 : decode cX4_line 46 = .ok (.iconst 0, 1) := dk_3 (dk_at dksX4_line_1 22 rfl rfl)
theorem dX4_line_47 : decode cX4_line 47 = .ok (.iconst 0, 1) := dk_3 (dk_at dksX4_line_1 23 rfl rfl)
theorem dX4_line_48 : decode cX4_line 48 = .ok (.invokevirtual 240, 3) := dk_182 0 240 (dk_at dksX4_line_2 0 rfl rfl)
theorem dX4_line_51 : decode cX4_line 51 = .ok (.ifCond .eq 99, 3) := dk_153 0 99 (dk_at dksX4_line_2 3 rfl rfl)
theorem dX4_line_54 : decode cX4_line 54 = .ok (.aload_n 0, 1) := dk_42 (dk_at dksX4_line_2 6 rfl rfl)
theorem dX4_line_55 : decode cX4_line 55 = .ok (.invokevirtual 247, 3) := dk_182 0 247 (dk_at dksX4_line_2 7 rfl rfl)
theorem dX4_line_58 : decode cX4_line 58 = .ok (.goto 92, 3) := dk_167 0 92 (dk_at dksX4_line_2 10 rfl rfl)
theorem dX4_line_61 : decode cX4_line 61 = .ok (.iload_n 1, 1) := dk_27 (dk_at dksX4_line_2 13 rfl rfl)
theorem dX4_line_62 : decode cX4_line 62 = .ok (.bipush 7, 2) := dk_16 7 (dk_at dksX4_line_2 14 rfl rfl)
theorem dX4_line_64 : decode cX4_line 64 = .ok (.if_icmp .ne 39, 3) := dk_160 0 39 (dk_at dksX4_line_2 16 rfl rfl)
theorem dX4_line_67 : decode cX4_line 67 = .ok (.aload_n 0, 1) := dk_42 (dk_at dksX4_line_2 19 rfl rfl)
theorem dX4_line_68 : decode cX4_line 68 = .ok (.iconst 0, 1) := dk_3 (dk_at dksX4_line_2 20 rfl rfl)
theorem dX4_line_69 : decode cX4_line 69 = .ok (.aload_n 0, 1) := dk_42 (dk_at dksX4_line_2 21 rfl rfl)
theorem dX4_line_70 : decode cX4_line 70 = .ok (.getfield 250, 3) := dk_180 0 250 (dk_at dksX4_line_3 0 rfl rfl)
theorem dX4_line_73 : decode cX4_line 73 = .ok (.iconst (-1), 1) := dk_2 (dk_at dksX4_line_3 3 rfl rfl)
theorem dX4_line_74 : decode cX4_line 74 = .ok (.if_icmp .eq 7, 3) := dk_159 0 7 (dk_at dksX4_line_3 4 rfl rfl)
theorem dX4_line_77 : decode cX4_line 77 = .ok (.iconst 1, 1) := dk_4 (dk_at dksX4_line_3 7 rfl rfl)
theorem dX4_line_78 : decode cX4_line 78 = .ok (.goto 4, 3) := dk_167 0 4 (dk_at dksX4_line_3 8 rfl rfl)
theorem dX4_line_81 : decode cX4_line 81 = .ok (.iconst 0, 1) := dk_3 (dk_at dksX4_line_3 11 rfl rfl)
theorem dX4_line_82 : decode cX4_line 82 = .ok (.invokevirtual 240, 3) := dk_182 0 240 (dk_at dksX4_line_3 12 rfl rfl)
theorem dX4_line_85 : decode cX4_line 85 = .ok (.ifCond .eq 65, 3) := dk_153 0 65 (dk_at dksX4_line_3 15 rfl rfl)
theorem dX4_line_88 : decode cX4_line 88 = .ok (.aload_n 0, 1) := dk_42 (dk_at dksX4_line_3 18 rfl rfl)
theorem dX4_line_89 : decode cX4_line 89 = .ok (.aload_n 0, 1) := dk_42 (dk_at dksX4_line_3 19 rfl rfl)
theorem dX4_line_90 : decode cX4_line 90 = .ok (.getfield 186, 3) := dk_180 0 186 (dk_at dksX4_line_3 20 rfl rfl)
theorem dX4_line_93 : decode cX4_line 93 = .ok (.putfield 250, 3) := dk_181 0 250 (dk_at dksX4_line_4 0 rfl rfl)
theorem dX4_line_96 : decode cX4_line 96 = .ok (.aload_n 0, 1) := dk_42 (dk_at dksX4_line_4 3 rfl rfl)
theorem dX4_line_97 : decode cX4_line 97 = .ok (.invokevirtual 253, 3) := dk_182 0 253 (dk_at dksX4_line_4 4 rfl rfl)
theorem dX4_line_100 : decode cX4_line 100 = .ok (.goto 50, 3) := dk_167 0 50 (dk_at dksX4_line_4 7 rfl rfl)
theorem dX4_line_103 : decode cX4_line 103 = .ok (.iload_n 1, 1) := dk_27 (dk_at dksX4_line_4 10 rfl rfl)
theorem dX4_line_104 : decode cX4_line 104 = .ok (.bipush 8, 2) := dk_16 8 (dk_at dksX4_line_4 11 rfl rfl)
theorem dX4_line_106 : decode cX4_line 106 = .ok (.if_icmp .ne 39, 3) := dk_160 0 39 (dk_at dksX4_line_4 13 rfl rfl)
theorem dX4_line_109 : decode cX4_line 109 = .ok (.aload_n 0, 1) := dk_42 (dk_at dksX4_line_4 16 rfl rfl)
theorem dX4_line_110 : decode cX4_line 110 = .ok (.iconst 0, 1) := dk_3 (dk_at dksX4_line_4 17 rfl rfl)
theorem dX4_line_111 : decode cX4_line 111 = .ok (.aload_n 0, 1) := dk_42 (dk_at dksX4_line_4 18 rfl rfl)
theorem dX4_line_112 : decode cX4_line 112 = .ok (.getfield 256, 3) := dk_180 1 0 (dk_at dksX4_line_4 19 rfl rfl)
theorem dX4_line_115 : decode cX4_line 115 = .ok (.iconst (-1), 1) := dk_2 (dk_at dksX4_line_4 22 rfl rfl)
theorem dX4_line_116 : decode cX4_line 116 = .ok (.if_icmp .eq 7, 3) := dk_159 0 7 (dk_at dksX4_line_5 0 rfl rfl)
theorem dX4_line_119 : decode cX4_line 119 = .ok (.iconst 1, 1) := dk_4 (dk_at dksX4_line_5 3 rfl rfl)
theorem dX4_line_120 : decode cX4_line 120 = .ok (.goto 4, 3) := dk_167 0 4 (dk_at dksX4_line_5 4 rfl rfl)
theorem dX4_line_123 : decode cX4_line 123 = .ok (.iconst 0, 1) := dk_3 (dk_at dksX4_line_5 7 rfl rfl)
theorem dX4_line_124 : decode cX4_line 124 = .ok (.invokevirtual 240, 3) := dk_182 0 240 (dk_at dksX4_line_5 8 rfl rfl)
theorem dX4_line_127 : decode cX4_line 127 = .ok (.ifCond .eq 23, 3) := dk_153 0 23 (dk_at dksX4_line_5 11 rfl rfl)
theorem dX4_line_130 : decode cX4_line 130 = .ok (.aload_n 0, 1) := dk_42 (dk_at dksX4_line_5 14 rfl rfl)
theorem dX4_line_131 : decode cX4_line 131 = .ok (.aload_n 0, 1) := dk_42 (dk_at dksX4_line_5 15 rfl rfl)
theorem dX4_line_132 : decode cX4_line 132 = .ok (.getfield 186, 3) := dk_180 0 186 (dk_at dksX4_line_5 16 rfl rfl)
theorem dX4_line_135 : decode cX4_line 135 = .ok (.putfield 256, 3) := dk_181 1 0 (dk_at dksX4_line_5 19 rfl rfl)
theorem dX4_line_138 : decode cX4_line 138 = .ok (.aload_n 0, 1) := dk_42 (dk_at dksX4_line_5 22 rfl rfl)
theorem dX4_line_139 : decode cX4_line 139 = .ok (.invokevirtual 253, 3) := dk_182 0 253 (dk_at dksX4_line_6 0 rfl rfl)
theorem dX4_line_142 : decode cX4_line 142 = .ok (.goto 8, 3) := dk_167 0 8 (dk_at dksX4_line_6 3 rfl rfl)
theorem dX4_line_145 : decode cX4_line 145 = .ok (.aload_n 0, 1) := dk_42 (dk_at dksX4_line_6 6 rfl rfl)
theorem dX4_line_146 : decode cX4_line 146 = .ok (.iconst 1, 1) := dk_4 (dk_at dksX4_line_6 7 rfl rfl)
theorem dX4_line_147 : decode cX4_line 147 = .ok (.invokevirtual 180, 3) := dk_182 0 180 (dk_at dksX4_line_6 8 rfl rfl)
theorem dX4_line_150 : decode cX4_line 150 = .ok (.aload_n 0, 1) := dk_42 (dk_at dksX4_line_6 11 rfl rfl)
theorem dX4_line_151 : decode cX4_line 151 = .ok (.aload_n 0, 1) := dk_42 (dk_at dksX4_line_6 12 rfl rfl)
theorem dX4_line_152 : decode cX4_line 152 = .ok (.bipush 59, 2) := dk_16 59 (dk_at dksX4_line_6 13 rfl rfl)
theorem dX4_line_154 : decode cX4_line 154 = .ok (.invokevirtual 208, 3) := dk_182 0 208 (dk_at dksX4_line_6 15 rfl rfl)
theorem dX4_line_157 : decode cX4_line 157 = .ok (.invokevirtual 259, 3) := dk_182 1 3 (dk_at dksX4_line_6 18 rfl rfl)
theorem dX4_line_160 : decode cX4_line 160 = .ok (.return_, 1) := dk_177 (dk_at dksX4_line_6 21 rfl rfl)
abbrev cX4_knownWord : ByteArray := prog_12_method_18_code
def yX4_knownWord : MethodName := ⟨RX4, "knownWord", "()I"⟩
def dkwX4_knownWord_2 : List UInt8 := [172]
abbrev dktX4_knownWord_2 : List UInt8 := dkwX4_knownWord_2 ++ []
def dkwX4_knownWord_1 : List UInt8 := [162, 0, 23, 27, 184, 0, 166, 42, 180, 0, 137, 148, 154, 0, 5, 27, 172, 132, 1, 1, 167, 255, 233, 2]
abbrev dktX4_knownWord_1 : List UInt8 := dkwX4_knownWord_1 ++ dktX4_knownWord_2
def dkwX4_knownWord_0 : List UInt8 := [42, 180, 0, 147, 4, 160, 0, 12, 42, 180, 0, 157, 16, 6, 164, 0, 5, 2, 172, 3, 60, 27, 16, 12]
abbrev dktX4_knownWord_0 : List UInt8 := dkwX4_knownWord_0 ++ dktX4_knownWord_1
theorem dksX4_knownWord_0 : cX4_knownWord.data.toList.drop 0 = dktX4_knownWord_0 := by decide +kernel
theorem dksX4_knownWord_1 : cX4_knownWord.data.toList.drop 24 = dktX4_knownWord_1 := dk_seg dksX4_knownWord_0 24 rfl rfl
theorem dksX4_knownWord_2 : cX4_knownWord.data.toList.drop 48 = dktX4_knownWord_2 := dk_seg dksX4_knownWord_1 24 rfl rfl
theorem dX4_knownWord_0 : decode cX4_knownWord 0 = .ok (.aload_n 0, 1) := dk_42 (dk_at dksX4_knownWord_0 0 rfl rfl)
theorem dX4_knownWord_1 : decode cX4_knownWord 1 = .ok (.getfield 147, 3) := dk_180 0 147 (dk_at dksX4_knownWord_0 1 rfl rfl)
theorem dX4_knownWord_4 : decode cX4_knownWord 4 = .ok (.iconst 1, 1) := dk_4 (dk_at dksX4_knownWord_0 4 rfl rfl)
theorem dX4_knownWord_5 : decode cX4_knownWord 5 = .ok (.if_icmp .ne 12, 3) := dk_160 0 12 (dk_at dksX4_knownWord_0 5 rfl rfl)
theorem dX4_knownWord_8 : decode cX4_knownWord 8 = .ok (.aload_n 0, 1) := dk_42 (dk_at dksX4_knownWord_0 8 rfl rfl)
theorem dX4_knownWord_9 : decode cX4_knownWord 9 = .ok (.getfield 157, 3) := dk_180 0 157 (dk_at dksX4_knownWord_0 9 rfl rfl)
theorem dX4_knownWord_12 : decode cX4_knownWord 12 = .ok (.bipush 6, 2) := dk_16 6 (dk_at dksX4_knownWord_0 12 rfl rfl)
theorem dX4_knownWord_14 : decode cX4_knownWord 14 = .ok (.if_icmp .le 5, 3) := dk_164 0 5 (dk_at dksX4_knownWord_0 14 rfl rfl)
theorem dX4_knownWord_17 : decode cX4_knownWord 17 = .ok (.iconst (-1), 1) := dk_2 (dk_at dksX4_knownWord_0 17 rfl rfl)
theorem dX4_knownWord_18 : decode cX4_knownWord 18 = .ok (.ireturn, 1) := dk_172 (dk_at dksX4_knownWord_0 18 rfl rfl)
theorem dX4_knownWord_19 : decode cX4_knownWord 19 = .ok (.iconst 0, 1) := dk_3 (dk_at dksX4_knownWord_0 19 rfl rfl)
theorem dX4_knownWord_20 : decode cX4_knownWord 20 = .ok (.istore_n 1, 1) := dk_60 (dk_at dksX4_knownWord_0 20 rfl rfl)
theorem dX4_knownWord_21 : decode cX4_knownWord 21 = .ok (.iload_n 1, 1) := dk_27 (dk_at dksX4_knownWord_0 21 rfl rfl)
theorem dX4_knownWord_22 : decode cX4_knownWord 22 = .ok (.bipush 12, 2) := dk_16 12 (dk_at dksX4_knownWord_0 22 rfl rfl)
theorem dX4_knownWord_24 : decode cX4_knownWord 24 = .ok (.if_icmp .ge 23, 3) := dk_162 0 23 (dk_at dksX4_knownWord_1 0 rfl rfl)
theorem dX4_knownWord_27 : decode cX4_knownWord 27 = .ok (.iload_n 1, 1) := dk_27 (dk_at dksX4_knownWord_1 3 rfl rfl)
theorem dX4_knownWord_28 : decode cX4_knownWord 28 = .ok (.invokestatic 166, 3) := dk_184 0 166 (dk_at dksX4_knownWord_1 4 rfl rfl)
theorem dX4_knownWord_31 : decode cX4_knownWord 31 = .ok (.aload_n 0, 1) := dk_42 (dk_at dksX4_knownWord_1 7 rfl rfl)
theorem dX4_knownWord_32 : decode cX4_knownWord 32 = .ok (.getfield 137, 3) := dk_180 0 137 (dk_at dksX4_knownWord_1 8 rfl rfl)
theorem dX4_knownWord_35 : decode cX4_knownWord 35 = .ok (.lcmp, 1) := dk_148 (dk_at dksX4_knownWord_1 11 rfl rfl)
theorem dX4_knownWord_36 : decode cX4_knownWord 36 = .ok (.ifCond .ne 5, 3) := dk_154 0 5 (dk_at dksX4_knownWord_1 12 rfl rfl)
theorem dX4_knownWord_39 : decode cX4_knownWord 39 = .ok (.iload_n 1, 1) := dk_27 (dk_at dksX4_knownWord_1 15 rfl rfl)
theorem dX4_knownWord_40 : decode cX4_knownWord 40 = .ok (.ireturn, 1) := dk_172 (dk_at dksX4_knownWord_1 16 rfl rfl)
theorem dX4_knownWord_41 : decode cX4_knownWord 41 = .ok (.iinc 1 1, 3) := dk_132 1 1 (dk_at dksX4_knownWord_1 17 rfl rfl)
theorem dX4_knownWord_44 : decode cX4_knownWord 44 = .ok (.goto (-23), 3) := dk_167 255 233 (dk_at dksX4_knownWord_1 20 rfl rfl)
theorem dX4_knownWord_47 : decode cX4_knownWord 47 = .ok (.iconst (-1), 1) := dk_2 (dk_at dksX4_knownWord_1 23 rfl rfl)
theorem dX4_knownWord_48 : decode cX4_knownWord 48 = .ok (.ireturn, 1) := dk_172 (dk_at dksX4_knownWord_2 0 rfl rfl)
abbrev cX4_letters : ByteArray := prog_12_method_17_code
def yX4_letters : MethodName := ⟨RX4, "letters", "(I)J"⟩
def dkwX4_letters_9 : List UInt8 := [3, 184, 0, 162, 173]
abbrev dktX4_letters_9 : List UInt8 := dkwX4_letters_9 ++ []
def dkwX4_letters_8 : List UInt8 := [184, 0, 162, 173, 16, 111, 16, 114, 3, 3, 3, 3, 184, 0, 162, 173, 16, 110, 16, 111, 16, 116, 3, 3]
abbrev dktX4_letters_8 : List UInt8 := dkwX4_letters_8 ++ dktX4_letters_9
def dkwX4_letters_7 : List UInt8 := [16, 102, 16, 114, 16, 111, 16, 115, 16, 116, 3, 184, 0, 162, 173, 16, 97, 16, 110, 16, 100, 3, 3, 3]
abbrev dktX4_letters_7 : List UInt8 := dkwX4_letters_7 ++ dktX4_letters_8
def dkwX4_letters_6 : List UInt8 := [16, 101, 3, 3, 184, 0, 162, 173, 16, 108, 16, 101, 16, 97, 16, 107, 16, 115, 3, 184, 0, 162, 173]
abbrev dktX4_letters_6 : List UInt8 := dkwX4_letters_6 ++ dktX4_letters_7
def dkwX4_letters_5 : List UInt8 := [184, 0, 162, 173, 16, 99, 16, 117, 16, 112, 3, 3, 3, 184, 0, 162, 173, 16, 112, 16, 105, 16, 112]
abbrev dktX4_letters_5 : List UInt8 := dkwX4_letters_5 ++ dktX4_letters_6
def dkwX4_letters_4 : List UInt8 := [16, 105, 16, 112, 16, 115, 3, 3, 184, 0, 162, 173, 16, 104, 16, 111, 16, 117, 16, 114, 3, 3]
abbrev dktX4_letters_4 : List UInt8 := dkwX4_letters_4 ++ dktX4_letters_5
def dkwX4_letters_3 : List UInt8 := [3, 184, 0, 162, 173, 16, 115, 16, 112, 16, 114, 16, 105, 16, 110, 16, 103, 184, 0, 162, 173, 16, 116]
abbrev dktX4_letters_3 : List UInt8 := dkwX4_letters_3 ++ dktX4_letters_4
def dkwX4_letters_2 : List UInt8 := [16, 102, 16, 105, 16, 108, 16, 108, 3, 3, 184, 0, 162, 173, 16, 104, 16, 111, 16, 108, 16, 100, 16, 115]
abbrev dktX4_letters_2 : List UInt8 := dkwX4_letters_2 ++ dktX4_letters_3
def dkwX4_letters_1 : List UInt8 := [170, 0, 0, 0, 0, 0, 214, 0, 0, 0, 0, 0, 0, 0, 10, 0, 0, 0, 59, 0, 0, 0, 73, 0, 0, 0, 88, 0, 0, 0, 104, 0, 0, 0, 118, 0, 0, 0, 132, 0, 0, 0, 145, 0, 0, 0, 159, 0, 0, 0, 174, 0, 0, 0, 189, 0, 0, 0, 202]
abbrev dktX4_letters_1 : List UInt8 := dkwX4_letters_1 ++ dktX4_letters_2
def dkwX4_letters_0 : List UInt8 := [26]
abbrev dktX4_letters_0 : List UInt8 := dkwX4_letters_0 ++ dktX4_letters_1
theorem dksX4_letters_0 : cX4_letters.data.toList.drop 0 = dktX4_letters_0 := by decide +kernel
theorem dksX4_letters_1 : cX4_letters.data.toList.drop 1 = dktX4_letters_1 := dk_seg dksX4_letters_0 1 rfl rfl
theorem dksX4_letters_2 : cX4_letters.data.toList.drop 60 = dktX4_letters_2 := dk_seg dksX4_letters_1 59 rfl rfl
theorem dksX4_letters_3 : cX4_letters.data.toList.drop 84 = dktX4_letters_3 := dk_seg dksX4_letters_2 24 rfl rfl
theorem dksX4_letters_4 : cX4_letters.data.toList.drop 107 = dktX4_letters_4 := dk_seg dksX4_letters_3 23 rfl rfl
theorem dksX4_letters_5 : cX4_letters.data.toList.drop 129 = dktX4_letters_5 := dk_seg dksX4_letters_4 22 rfl rfl
theorem dksX4_letters_6 : cX4_letters.data.toList.drop 152 = dktX4_letters_6 := dk_seg dksX4_letters_5 23 rfl rfl
theorem dksX4_letters_7 : cX4_letters.data.toList.drop 175 = dktX4_letters_7 := dk_seg dksX4_letters_6 23 rfl rfl
theorem dksX4_letters_8 : cX4_letters.data.toList.drop 199 = dktX4_letters_8 := dk_seg dksX4_letters_7 24 rfl rfl
theorem dksX4_letters_9 : cX4_letters.data.toList.drop 223 = dktX4_letters_9 := dk_seg dksX4_letters_8 24 rfl rfl
theorem dX4_letters_0 : decode cX4_letters 0 = .ok (.iload_n 0, 1) := dk_26 (dk_at dksX4_letters_0 0 rfl rfl)
theorem dX4_letters_1 : decode cX4_letters 1 = .ok (.tableswitch 214 0 10 #[59, 73, 88, 104, 118, 132, 145, 159, 174, 189, 202], 59) := by decide +kernel
theorem dX4_letters_60 : decode cX4_letters 60 = .ok (.bipush 102, 2) := dk_16 102 (dk_at dksX4_letters_2 0 rfl rfl)
theorem dX4_letters_62 : decode cX4_letters 62 = .ok (.bipush 105, 2) := dk_16 105 (dk_at dksX4_letters_2 2 rfl rfl)
theorem dX4_letters_64 : decode cX4_letters 64 = .ok (.bipush 108, 2) := dk_16 108 (dk_at dksX4_letters_2 4 rfl rfl)
theorem dX4_letters_66 : decode cX4_letters 66 = .ok (.bipush 108, 2) := dk_16 108 (dk_at dksX4_letters_2 6 rfl rfl)
theorem dX4_letters_68 : decode cX4_letters 68 = .ok (.iconst 0, 1) := dk_3 (dk_at dksX4_letters_2 8 rfl rfl)
theorem dX4_letters_69 : decode cX4_letters 69 = .ok (.iconst 0, 1) := dk_3 (dk_at dksX4_letters_2 9 rfl rfl)
theorem dX4_letters_70 : decode cX4_letters 70 = .ok (.invokestatic 162, 3) := dk_184 0 162 (dk_at dksX4_letters_2 10 rfl rfl)
theorem dX4_letters_73 : decode cX4_letters 73 = .ok (.lreturn, 1) := dk_173 (dk_at dksX4_letters_2 13 rfl rfl)
theorem dX4_letters_74 : decode cX4_letters 74 = .ok (.bipush 104, 2) := dk_16 104 (dk_at dksX4_letters_2 14 rfl rfl)
theorem dX4_letters_76 : decode cX4_letters 76 = .ok (.bipush 111, 2) := dk_16 111 (dk_at dksX4_letters_2 16 rfl rfl)
theorem dX4_letters_78 : decode cX4_letters 78 = .ok (.bipush 108, 2) := dk_16 108 (dk_at dksX4_letters_2 18 rfl rfl)
theorem dX4_letters_80 : decode cX4_letters 80 = .ok (.bipush 100, 2) := dk_16 100 (dk_at dksX4_letters_2 20 rfl rfl)
theorem dX4_letters_82 : decode cX4_letters 82 = .ok (.bipush 115, 2) := dk_16 115 (dk_at dksX4_letters_2 22 rfl rfl)
theorem dX4_letters_84 : decode cX4_letters 84 = .ok (.iconst 0, 1) := dk_3 (dk_at dksX4_letters_3 0 rfl rfl)
theorem dX4_letters_85 : decode cX4_letters 85 = .ok (.invokestatic 162, 3) := dk_184 0 162 (dk_at dksX4_letters_3 1 rfl rfl)
theorem dX4_letters_88 : decode cX4_letters 88 = .ok (.lreturn, 1) := dk_173 (dk_at dksX4_letters_3 4 rfl rfl)
theorem dX4_letters_89 : decode cX4_letters 89 = .ok (.bipush 115, 2) := dk_16 115 (dk_at dksX4_letters_3 5 rfl rfl)
theorem dX4_letters_91 : decode cX4_letters 91 = .ok (.bipush 112, 2) := dk_16 112 (dk_at dksX4_letters_3 7 rfl rfl)
theorem dX4_letters_93 : decode cX4_letters 93 = .ok (.bipush 114, 2) := dk_16 114 (dk_at dksX4_letters_3 9 rfl rfl)
theorem dX4_letters_95 : decode cX4_letters 95 = .ok (.bipush 105, 2) := dk_16 105 (dk_at dksX4_letters_3 11 rfl rfl)
theorem dX4_letters_97 : decode cX4_letters 97 = .ok (.bipush 110, 2) := dk_16 110 (dk_at dksX4_letters_3 13 rfl rfl)
theorem dX4_letters_99 : decode cX4_letters 99 = .ok (.bipush 103, 2) := dk_16 103 (dk_at dksX4_letters_3 15 rfl rfl)
theorem dX4_letters_101 : decode cX4_letters 101 = .ok (.invokestatic 162, 3) := dk_184 0 162 (dk_at dksX4_letters_3 17 rfl rfl)
theorem dX4_letters_104 : decode cX4_letters 104 = .ok (.lreturn, 1) := dk_173 (dk_at dksX4_letters_3 20 rfl rfl)
theorem dX4_letters_105 : decode cX4_letters 105 = .ok (.bipush 116, 2) := dk_16 116 (dk_at dksX4_letters_3 21 rfl rfl)
theorem dX4_letters_107 : decode cX4_letters 107 = .ok (.bipush 105, 2) := dk_16 105 (dk_at dksX4_letters_4 0 rfl rfl)
theorem dX4_letters_109 : decode cX4_letters 109 = .ok (.bipush 112, 2) := dk_16 112 (dk_at dksX4_letters_4 2 rfl rfl)
theorem dX4_letters_111 : decode cX4_letters 111 = .ok (.bipush 115, 2) := dk_16 115 (dk_at dksX4_letters_4 4 rfl rfl)
theorem dX4_letters_113 : decode cX4_letters 113 = .ok (.iconst 0, 1) := dk_3 (dk_at dksX4_letters_4 6 rfl rfl)
theorem dX4_letters_114 : decode cX4_letters 114 = .ok (.iconst 0, 1) := dk_3 (dk_at dksX4_letters_4 7 rfl rfl)
theorem dX4_letters_115 : decode cX4_letters 115 = .ok (.invokestatic 162, 3) := dk_184 0 162 (dk_at dksX4_letters_4 8 rfl rfl)
theorem dX4_letters_118 : decode cX4_letters 118 = .ok (.lreturn, 1) := dk_173 (dk_at dksX4_letters_4 11 rfl rfl)
theorem dX4_letters_119 : decode cX4_letters 119 = .ok (.bipush 104, 2) := dk_16 104 (dk_at dksX4_letters_4 12 rfl rfl)
theorem dX4_letters_121 : decode cX4_letters 121 = .ok (.bipush 111, 2) := dk_16 111 (dk_at dksX4_letters_4 14 rfl rfl)
theorem dX4_letters_123 : decode cX4_letters 123 = .ok (.bipush 117, 2) := dk_16 117 (dk_at dksX4_letters_4 16 rfl rfl)
theorem dX4_letters_125 : decode cX4_letters 125 = .ok (.bipush 114, 2) := dk_16 114 (dk_at dksX4_letters_4 18 rfl rfl)
theorem dX4_letters_127 : decode cX4_letters 127 = .ok (.iconst 0, 1) := dk_3 (dk_at dksX4_letters_4 20 rfl rfl)
theorem dX4_letters_128 : decode cX4_letters 128 = .ok (.iconst 0, 1) := dk_3 (dk_at dksX4_letters_4 21 rfl rfl)
theorem dX4_letters_129 : decode cX4_letters 129 = .ok (.invokestatic 162, 3) := dk_184 0 162 (dk_at dksX4_letters_5 0 rfl rfl)
theorem dX4_letters_132 : decode cX4_letters 132 = .ok (.lreturn, 1) := dk_173 (dk_at dksX4_letters_5 3 rfl rfl)
theorem dX4_letters_133 : decode cX4_letters 133 = .ok (.bipush 99, 2) := dk_16 99 (dk_at dksX4_letters_5 4 rfl rfl)
theorem dX4_letters_135 : decode cX4_letters 135 = .ok (.bipush 117, 2) := dk_16 117 (dk_at dksX4_letters_5 6 rfl rfl)
theorem dX4_letters_137 : decode cX4_letters 137 = .ok (.bipush 112, 2) := dk_16 112 (dk_at dksX4_letters_5 8 rfl rfl)
theorem dX4_letters_139 : decode cX4_letters 139 = .ok (.iconst 0, 1) := dk_3 (dk_at dksX4_letters_5 10 rfl rfl)
theorem dX4_letters_140 : decode cX4_letters 140 = .ok (.iconst 0, 1) := dk_3 (dk_at dksX4_letters_5 11 rfl rfl)
theorem dX4_letters_141 : decode cX4_letters 141 = .ok (.iconst 0, 1) := dk_3 (dk_at dksX4_letters_5 12 rfl rfl)
theorem dX4_letters_142 : decode cX4_letters 142 = .ok (.invokestatic 162, 3) := dk_184 0 162 (dk_at dksX4_letters_5 13 rfl rfl)
theorem dX4_letters_145 : decode cX4_letters 145 = .ok (.lreturn, 1) := dk_173 (dk_at dksX4_letters_5 16 rfl rfl)
theorem dX4_letters_146 : decode cX4_letters 146 = .ok (.bipush 112, 2) := dk_16 112 (dk_at dksX4_letters_5 17 rfl rfl)
theorem dX4_letters_148 : decode cX4_letters 148 = .ok (.bipush 105, 2) := dk_16 105 (dk_at dksX4_letters_5 19 rfl rfl)
theorem dX4_letters_150 : decode cX4_letters 150 = .ok (.bipush 112, 2) := dk_16 112 (dk_at dksX4_letters_5 21 rfl rfl)
theorem dX4_letters_152 : decode cX4_letters 152 = .ok (.bipush 101, 2) := dk_16 101 (dk_at dksX4_letters_6 0 rfl rfl)
theorem dX4_letters_154 : decode cX4_letters 154 = .ok (.iconst 0, 1) := dk_3 (dk_at dksX4_letters_6 2 rfl rfl)
theorem dX4_letters_155 : decode cX4_letters 155 = .ok (.iconst 0, 1) := dk_3 (dk_at dksX4_letters_6 3 rfl rfl)
theorem dX4_letters_156 : decode cX4_letters 156 = .ok (.invokestatic 162, 3) := dk_184 0 162 (dk_at dksX4_letters_6 4 rfl rfl)
theorem dX4_letters_159 : decode cX4_letters 159 = .ok (.lreturn, 1) := dk_173 (dk_at dksX4_letters_6 7 rfl rfl)
theorem dX4_letters_160 : decode cX4_letters 160 = .ok (.bipush 108, 2) := dk_16 108 (dk_at dksX4_letters_6 8 rfl rfl)
theorem dX4_letters_162 : decode cX4_letters 162 = .ok (.bipush 101, 2) := dk_16 101 (dk_at dksX4_letters_6 10 rfl rfl)
theorem dX4_letters_164 : decode cX4_letters 164 = .ok (.bipush 97, 2) := dk_16 97 (dk_at dksX4_letters_6 12 rfl rfl)
theorem dX4_letters_166 : decode cX4_letters 166 = .ok (.bipush 107, 2) := dk_16 107 (dk_at dksX4_letters_6 14 rfl rfl)
theorem dX4_letters_168 : decode cX4_letters 168 = .ok (.bipush 115, 2) := dk_16 115 (dk_at dksX4_letters_6 16 rfl rfl)
theorem dX4_letters_170 : decode cX4_letters 170 = .ok (.iconst 0, 1) := dk_3 (dk_at dksX4_letters_6 18 rfl rfl)
theorem dX4_letters_171 : decode cX4_letters 171 = .ok (.invokestatic 162, 3) := dk_184 0 162 (dk_at dksX4_letters_6 19 rfl rfl)
theorem dX4_letters_174 : decode cX4_letters 174 = .ok (.lreturn, 1) := dk_173 (dk_at dksX4_letters_6 22 rfl rfl)
theorem dX4_letters_175 : decode cX4_letters 175 = .ok (.bipush 102, 2) := dk_16 102 (dk_at dksX4_letters_7 0 rfl rfl)
theorem dX4_letters_177 : decode cX4_letters 177 = .ok (.bipush 114, 2) := dk_16 114 (dk_at dksX4_letters_7 2 rfl rfl)
theorem dX4_letters_179 : decode cX4_letters 179 = .ok (.bipush 111, 2) := dk_16 111 (dk_at dksX4_letters_7 4 rfl rfl)
theorem dX4_letters_181 : decode cX4_letters 181 = .ok (.bipush 115, 2) := dk_16 115 (dk_at dksX4_letters_7 6 rfl rfl)
theorem dX4_letters_183 : decode cX4_letters 183 = .ok (.bipush 116, 2) := dk_16 116 (dk_at dksX4_letters_7 8 rfl rfl)
theorem dX4_letters_185 : decode cX4_letters 185 = .ok (.iconst 0, 1) := dk_3 (dk_at dksX4_letters_7 10 rfl rfl)
theorem dX4_letters_186 : decode cX4_letters 186 = .ok (.invokestatic 162, 3) := dk_184 0 162 (dk_at dksX4_letters_7 11 rfl rfl)
theorem dX4_letters_189 : decode cX4_letters 189 = .ok (.lreturn, 1) := dk_173 (dk_at dksX4_letters_7 14 rfl rfl)
theorem dX4_letters_190 : decode cX4_letters 190 = .ok (.bipush 97, 2) := dk_16 97 (dk_at dksX4_letters_7 15 rfl rfl)
theorem dX4_letters_192 : decode cX4_letters 192 = .ok (.bipush 110, 2) := dk_16 110 (dk_at dksX4_letters_7 17 rfl rfl)
theorem dX4_letters_194 : decode cX4_letters 194 = .ok (.bipush 100, 2) := dk_16 100 (dk_at dksX4_letters_7 19 rfl rfl)
theorem dX4_letters_196 : decode cX4_letters 196 = .ok (.iconst 0, 1) := dk_3 (dk_at dksX4_letters_7 21 rfl rfl)
theorem dX4_letters_197 : decode cX4_letters 197 = .ok (.iconst 0, 1) := dk_3 (dk_at dksX4_letters_7 22 rfl rfl)
theorem dX4_letters_198 : decode cX4_letters 198 = .ok (.iconst 0, 1) := dk_3 (dk_at dksX4_letters_7 23 rfl rfl)
theorem dX4_letters_199 : decode cX4_letters 199 = .ok (.invokestatic 162, 3) := dk_184 0 162 (dk_at dksX4_letters_8 0 rfl rfl)
theorem dX4_letters_202 : decode cX4_letters 202 = .ok (.lreturn, 1) := dk_173 (dk_at dksX4_letters_8 3 rfl rfl)
theorem dX4_letters_203 : decode cX4_letters 203 = .ok (.bipush 111, 2) := dk_16 111 (dk_at dksX4_letters_8 4 rfl rfl)
theorem dX4_letters_205 : decode cX4_letters 205 = .ok (.bipush 114, 2) := dk_16 114 (dk_at dksX4_letters_8 6 rfl rfl)
theorem dX4_letters_207 : decode cX4_letters 207 = .ok (.iconst 0, 1) := dk_3 (dk_at dksX4_letters_8 8 rfl rfl)
theorem dX4_letters_208 : decode cX4_letters 208 = .ok (.iconst 0, 1) := dk_3 (dk_at dksX4_letters_8 9 rfl rfl)
theorem dX4_letters_209 : decode cX4_letters 209 = .ok (.iconst 0, 1) := dk_3 (dk_at dksX4_letters_8 10 rfl rfl)
theorem dX4_letters_210 : decode cX4_letters 210 = .ok (.iconst 0, 1) := dk_3 (dk_at dksX4_letters_8 11 rfl rfl)
theorem dX4_letters_211 : decode cX4_letters 211 = .ok (.invokestatic 162, 3) := dk_184 0 162 (dk_at dksX4_letters_8 12 rfl rfl)
theorem dX4_letters_214 : decode cX4_letters 214 = .ok (.lreturn, 1) := dk_173 (dk_at dksX4_letters_8 15 rfl rfl)
theorem dX4_letters_215 : decode cX4_letters 215 = .ok (.bipush 110, 2) := dk_16 110 (dk_at dksX4_letters_8 16 rfl rfl)
theorem dX4_letters_217 : decode cX4_letters 217 = .ok (.bipush 111, 2) := dk_16 111 (dk_at dksX4_letters_8 18 rfl rfl)
theorem dX4_letters_219 : decode cX4_letters 219 = .ok (.bipush 116, 2) := dk_16 116 (dk_at dksX4_letters_8 20 rfl rfl)
theorem dX4_letters_221 : decode cX4_letters 221 = .ok (.iconst 0, 1) := dk_3 (dk_at dksX4_letters_8 22 rfl rfl)
theorem dX4_letters_222 : decode cX4_letters 222 = .ok (.iconst 0, 1) := dk_3 (dk_at dksX4_letters_8 23 rfl rfl)
theorem dX4_letters_223 : decode cX4_letters 223 = .ok (.iconst 0, 1) := dk_3 (dk_at dksX4_letters_9 0 rfl rfl)
theorem dX4_letters_224 : decode cX4_letters 224 = .ok (.invokestatic 162, 3) := dk_184 0 162 (dk_at dksX4_letters_9 1 rfl rfl)
theorem dX4_letters_227 : decode cX4_letters 227 = .ok (.lreturn, 1) := dk_173 (dk_at dksX4_letters_9 4 rfl rfl)
abbrev cX4_spelled : ByteArray := prog_12_method_16_code
def yX4_spelled : MethodName := ⟨RX4, "spelled", "(IIIIII)J"⟩
def dkwX4_spelled_3 : List UInt8 := [22, 6, 8, 121, 21, 5, 16, 96, 100, 133, 129, 55, 6, 22, 6, 173]
abbrev dktX4_spelled_3 : List UInt8 := dkwX4_spelled_3 ++ []
def dkwX4_spelled_2 : List UInt8 := [21, 4, 153, 0, 16, 22, 6, 8, 121, 21, 4, 16, 96, 100, 133, 129, 55, 6, 21, 5, 153, 0, 16]
abbrev dktX4_spelled_2 : List UInt8 := dkwX4_spelled_2 ++ dktX4_spelled_3
def dkwX4_spelled_1 : List UInt8 := [28, 16, 96, 100, 133, 129, 55, 6, 29, 153, 0, 15, 22, 6, 8, 121, 29, 16, 96, 100, 133, 129, 55, 6]
abbrev dktX4_spelled_1 : List UInt8 := dkwX4_spelled_1 ++ dktX4_spelled_2
def dkwX4_spelled_0 : List UInt8 := [26, 133, 20, 0, 160, 101, 8, 121, 27, 16, 96, 100, 133, 129, 55, 6, 28, 153, 0, 15, 22, 6, 8, 121]
abbrev dktX4_spelled_0 : List UInt8 := dkwX4_spelled_0 ++ dktX4_spelled_1
theorem dksX4_spelled_0 : cX4_spelled.data.toList.drop 0 = dktX4_spelled_0 := by decide +kernel
theorem dksX4_spelled_1 : cX4_spelled.data.toList.drop 24 = dktX4_spelled_1 := dk_seg dksX4_spelled_0 24 rfl rfl
theorem dksX4_spelled_2 : cX4_spelled.data.toList.drop 48 = dktX4_spelled_2 := dk_seg dksX4_spelled_1 24 rfl rfl
theorem dksX4_spelled_3 : cX4_spelled.data.toList.drop 71 = dktX4_spelled_3 := dk_seg dksX4_spelled_2 23 rfl rfl
theorem dX4_spelled_0 : decode cX4_spelled 0 = .ok (.iload_n 0, 1) := dk_26 (dk_at dksX4_spelled_0 0 rfl rfl)
theorem dX4_spelled_1 : decode cX4_spelled 1 = .ok (.i2l, 1) := dk_133 (dk_at dksX4_spelled_0 1 rfl rfl)
theorem dX4_spelled_2 : decode cX4_spelled 2 = .ok (.ldc2_w 160, 3) := dk_20 0 160 (dk_at dksX4_spelled_0 2 rfl rfl)
theorem dX4_spelled_5 : decode cX4_spelled 5 = .ok (.lsub, 1) := dk_101 (dk_at dksX4_spelled_0 5 rfl rfl)
theorem dX4_spelled_6 : decode cX4_spelled 6 = .ok (.iconst 5, 1) := dk_8 (dk_at dksX4_spelled_0 6 rfl rfl)
theorem dX4_spelled_7 : decode cX4_spelled 7 = .ok (.lshl, 1) := dk_121 (dk_at dksX4_spelled_0 7 rfl rfl)
theorem dX4_spelled_8 : decode cX4_spelled 8 = .ok (.iload_n 1, 1) := dk_27 (dk_at dksX4_spelled_0 8 rfl rfl)
theorem dX4_spelled_9 : decode cX4_spelled 9 = .ok (.bipush 96, 2) := dk_16 96 (dk_at dksX4_spelled_0 9 rfl rfl)
theorem dX4_spelled_11 : decode cX4_spelled 11 = .ok (.isub, 1) := dk_100 (dk_at dksX4_spelled_0 11 rfl rfl)
theorem dX4_spelled_12 : decode cX4_spelled 12 = .ok (.i2l, 1) := dk_133 (dk_at dksX4_spelled_0 12 rfl rfl)
theorem dX4_spelled_13 : decode cX4_spelled 13 = .ok (.lor, 1) := dk_129 (dk_at dksX4_spelled_0 13 rfl rfl)
theorem dX4_spelled_14 : decode cX4_spelled 14 = .ok (.lstore 6, 2) := dk_55 6 (dk_at dksX4_spelled_0 14 rfl rfl)
theorem dX4_spelled_16 : decode cX4_spelled 16 = .ok (.iload_n 2, 1) := dk_28 (dk_at dksX4_spelled_0 16 rfl rfl)
theorem dX4_spelled_17 : decode cX4_spelled 17 = .ok (.ifCond .eq 15, 3) := dk_153 0 15 (dk_at dksX4_spelled_0 17 rfl rfl)
theorem dX4_spelled_20 : decode cX4_spelled 20 = .ok (.lload 6, 2) := dk_22 6 (dk_at dksX4_spelled_0 20 rfl rfl)
theorem dX4_spelled_22 : decode cX4_spelled 22 = .ok (.iconst 5, 1) := dk_8 (dk_at dksX4_spelled_0 22 rfl rfl)
theorem dX4_spelled_23 : decode cX4_spelled 23 = .ok (.lshl, 1) := dk_121 (dk_at dksX4_spelled_0 23 rfl rfl)
theorem dX4_spelled_24 : decode cX4_spelled 24 = .ok (.iload_n 2, 1) := dk_28 (dk_at dksX4_spelled_1 0 rfl rfl)
theorem dX4_spelled_25 : decode cX4_spelled 25 = .ok (.bipush 96, 2) := dk_16 96 (dk_at dksX4_spelled_1 1 rfl rfl)
theorem dX4_spelled_27 : decode cX4_spelled 27 = .ok (.isub, 1) := dk_100 (dk_at dksX4_spelled_1 3 rfl rfl)
theorem dX4_spelled_28 : decode cX4_spelled 28 = .ok (.i2l, 1) := dk_133 (dk_at dksX4_spelled_1 4 rfl rfl)
theorem dX4_spelled_29 : decode cX4_spelled 29 = .ok (.lor, 1) := dk_129 (dk_at dksX4_spelled_1 5 rfl rfl)
theorem dX4_spelled_30 : decode cX4_spelled 30 = .ok (.lstore 6, 2) := dk_55 6 (dk_at dksX4_spelled_1 6 rfl rfl)
theorem dX4_spelled_32 : decode cX4_spelled 32 = .ok (.iload_n 3, 1) := dk_29 (dk_at dksX4_spelled_1 8 rfl rfl)
theorem dX4_spelled_33 : decode cX4_spelled 33 = .ok (.ifCond .eq 15, 3) := dk_153 0 15 (dk_at dksX4_spelled_1 9 rfl rfl)
theorem dX4_spelled_36 : decode cX4_spelled 36 = .ok (.lload 6, 2) := dk_22 6 (dk_at dksX4_spelled_1 12 rfl rfl)
theorem dX4_spelled_38 : decode cX4_spelled 38 = .ok (.iconst 5, 1) := dk_8 (dk_at dksX4_spelled_1 14 rfl rfl)
theorem dX4_spelled_39 : decode cX4_spelled 39 = .ok (.lshl, 1) := dk_121 (dk_at dksX4_spelled_1 15 rfl rfl)
theorem dX4_spelled_40 : decode cX4_spelled 40 = .ok (.iload_n 3, 1) := dk_29 (dk_at dksX4_spelled_1 16 rfl rfl)
theorem dX4_spelled_41 : decode cX4_spelled 41 = .ok (.bipush 96, 2) := dk_16 96 (dk_at dksX4_spelled_1 17 rfl rfl)
theorem dX4_spelled_43 : decode cX4_spelled 43 = .ok (.isub, 1) := dk_100 (dk_at dksX4_spelled_1 19 rfl rfl)
theorem dX4_spelled_44 : decode cX4_spelled 44 = .ok (.i2l, 1) := dk_133 (dk_at dksX4_spelled_1 20 rfl rfl)
theorem dX4_spelled_45 : decode cX4_spelled 45 = .ok (.lor, 1) := dk_129 (dk_at dksX4_spelled_1 21 rfl rfl)
theorem dX4_spelled_46 : decode cX4_spelled 46 = .ok (.lstore 6, 2) := dk_55 6 (dk_at dksX4_spelled_1 22 rfl rfl)
theorem dX4_spelled_48 : decode cX4_spelled 48 = .ok (.iload 4, 2) := dk_21 4 (dk_at dksX4_spelled_2 0 rfl rfl)
theorem dX4_spelled_50 : decode cX4_spelled 50 = .ok (.ifCond .eq 16, 3) := dk_153 0 16 (dk_at dksX4_spelled_2 2 rfl rfl)
theorem dX4_spelled_53 : decode cX4_spelled 53 = .ok (.lload 6, 2) := dk_22 6 (dk_at dksX4_spelled_2 5 rfl rfl)
theorem dX4_spelled_55 : decode cX4_spelled 55 = .ok (.iconst 5, 1) := dk_8 (dk_at dksX4_spelled_2 7 rfl rfl)
theorem dX4_spelled_56 : decode cX4_spelled 56 = .ok (.lshl, 1) := dk_121 (dk_at dksX4_spelled_2 8 rfl rfl)
theorem dX4_spelled_57 : decode cX4_spelled 57 = .ok (.iload 4, 2) := dk_21 4 (dk_at dksX4_spelled_2 9 rfl rfl)
theorem dX4_spelled_59 : decode cX4_spelled 59 = .ok (.bipush 96, 2) := dk_16 96 (dk_at dksX4_spelled_2 11 rfl rfl)
theorem dX4_spelled_61 : decode cX4_spelled 61 = .ok (.isub, 1) := dk_100 (dk_at dksX4_spelled_2 13 rfl rfl)
theorem dX4_spelled_62 : decode cX4_spelled 62 = .ok (.i2l, 1) := dk_133 (dk_at dksX4_spelled_2 14 rfl rfl)
theorem dX4_spelled_63 : decode cX4_spelled 63 = .ok (.lor, 1) := dk_129 (dk_at dksX4_spelled_2 15 rfl rfl)
theorem dX4_spelled_64 : decode cX4_spelled 64 = .ok (.lstore 6, 2) := dk_55 6 (dk_at dksX4_spelled_2 16 rfl rfl)
theorem dX4_spelled_66 : decode cX4_spelled 66 = .ok (.iload 5, 2) := dk_21 5 (dk_at dksX4_spelled_2 18 rfl rfl)
theorem dX4_spelled_68 : decode cX4_spelled 68 = .ok (.ifCond .eq 16, 3) := dk_153 0 16 (dk_at dksX4_spelled_2 20 rfl rfl)
theorem dX4_spelled_71 : decode cX4_spelled 71 = .ok (.lload 6, 2) := dk_22 6 (dk_at dksX4_spelled_3 0 rfl rfl)
theorem dX4_spelled_73 : decode cX4_spelled 73 = .ok (.iconst 5, 1) := dk_8 (dk_at dksX4_spelled_3 2 rfl rfl)
theorem dX4_spelled_74 : decode cX4_spelled 74 = .ok (.lshl, 1) := dk_121 (dk_at dksX4_spelled_3 3 rfl rfl)
theorem dX4_spelled_75 : decode cX4_spelled 75 = .ok (.iload 5, 2) := dk_21 5 (dk_at dksX4_spelled_3 4 rfl rfl)
theorem dX4_spelled_77 : decode cX4_spelled 77 = .ok (.bipush 96, 2) := dk_16 96 (dk_at dksX4_spelled_3 6 rfl rfl)
theorem dX4_spelled_79 : decode cX4_spelled 79 = .ok (.isub, 1) := dk_100 (dk_at dksX4_spelled_3 8 rfl rfl)
theorem dX4_spelled_80 : decode cX4_spelled 80 = .ok (.i2l, 1) := dk_133 (dk_at dksX4_spelled_3 9 rfl rfl)
theorem dX4_spelled_81 : decode cX4_spelled 81 = .ok (.lor, 1) := dk_129 (dk_at dksX4_spelled_3 10 rfl rfl)
theorem dX4_spelled_82 : decode cX4_spelled 82 = .ok (.lstore 6, 2) := dk_55 6 (dk_at dksX4_spelled_3 11 rfl rfl)
theorem dX4_spelled_84 : decode cX4_spelled 84 = .ok (.lload 6, 2) := dk_22 6 (dk_at dksX4_spelled_3 13 rfl rfl)
theorem dX4_spelled_86 : decode cX4_spelled 86 = .ok (.lreturn, 1) := dk_173 (dk_at dksX4_spelled_3 15 rfl rfl)
abbrev cX4_begins : ByteArray := prog_12_method_36_code
def yX4_begins : MethodName := ⟨RX4, "begins", "(ZZ)Z"⟩
def dkwX4_begins_1 : List UInt8 := [154, 0, 5, 3, 172, 42, 182, 0, 177, 4, 172]
abbrev dktX4_begins_1 : List UInt8 := dkwX4_begins_1 ++ []
def dkwX4_begins_0 : List UInt8 := [27, 153, 0, 8, 42, 5, 182, 0, 180, 28, 153, 0, 8, 42, 8, 182, 0, 180, 42, 182, 0, 173]
abbrev dktX4_begins_0 : List UInt8 := dkwX4_begins_0 ++ dktX4_begins_1
theorem dksX4_begins_0 : cX4_begins.data.toList.drop 0 = dktX4_begins_0 := by decide +kernel
theorem dksX4_begins_1 : cX4_begins.data.toList.drop 22 = dktX4_begins_1 := dk_seg dksX4_begins_0 22 rfl rfl
theorem dX4_begins_0 : decode cX4_begins 0 = .ok (.iload_n 1, 1) := dk_27 (dk_at dksX4_begins_0 0 rfl rfl)
theorem dX4_begins_1 : decode cX4_begins 1 = .ok (.ifCond .eq 8, 3) := dk_153 0 8 (dk_at dksX4_begins_0 1 rfl rfl)
theorem dX4_begins_4 : decode cX4_begins 4 = .ok (.aload_n 0, 1) := dk_42 (dk_at dksX4_begins_0 4 rfl rfl)
theorem dX4_begins_5 : decode cX4_begins 5 = .ok (.iconst 2, 1) := dk_5 (dk_at dksX4_begins_0 5 rfl rfl)
theorem dX4_begins_6 : decode cX4_begins 6 = .ok (.invokevirtual 180, 3) := dk_182 0 180 (dk_at dksX4_begins_0 6 rfl rfl)
theorem dX4_begins_9 : decode cX4_begins 9 = .ok (.iload_n 2, 1) := dk_28 (dk_at dksX4_begins_0 9 rfl rfl)
theorem dX4_begins_10 : decode cX4_begins 10 = .ok (.ifCond .eq 8, 3) := dk_153 0 8 (dk_at dksX4_begins_0 10 rfl rfl)
theorem dX4_begins_13 : decode cX4_begins 13 = .ok (.aload_n 0, 1) := dk_42 (dk_at dksX4_begins_0 13 rfl rfl)
theorem dX4_begins_14 : decode cX4_begins 14 = .ok (.iconst 5, 1) := dk_8 (dk_at dksX4_begins_0 14 rfl rfl)
theorem dX4_begins_15 : decode cX4_begins 15 = .ok (.invokevirtual 180, 3) := dk_182 0 180 (dk_at dksX4_begins_0 15 rfl rfl)
theorem dX4_begins_18 : decode cX4_begins 18 = .ok (.aload_n 0, 1) := dk_42 (dk_at dksX4_begins_0 18 rfl rfl)
theorem dX4_begins_19 : decode cX4_begins 19 = .ok (.invokevirtual 173, 3) := dk_182 0 173 (dk_at dksX4_begins_0 19 rfl rfl)
theorem dX4_begins_22 : decode cX4_begins 22 = .ok (.ifCond .ne 5, 3) := dk_154 0 5 (dk_at dksX4_begins_1 0 rfl rfl)
theorem dX4_begins_25 : decode cX4_begins 25 = .ok (.iconst 0, 1) := dk_3 (dk_at dksX4_begins_1 3 rfl rfl)
theorem dX4_begins_26 : decode cX4_begins 26 = .ok (.ireturn, 1) := dk_172 (dk_at dksX4_begins_1 4 rfl rfl)
theorem dX4_begins_27 : decode cX4_begins 27 = .ok (.aload_n 0, 1) := dk_42 (dk_at dksX4_begins_1 5 rfl rfl)
theorem dX4_begins_28 : decode cX4_begins 28 = .ok (.invokevirtual 177, 3) := dk_182 0 177 (dk_at dksX4_begins_1 6 rfl rfl)
theorem dX4_begins_31 : decode cX4_begins 31 = .ok (.iconst 1, 1) := dk_4 (dk_at dksX4_begins_1 9 rfl rfl)
theorem dX4_begins_32 : decode cX4_begins 32 = .ok (.ireturn, 1) := dk_172 (dk_at dksX4_begins_1 10 rfl rfl)
abbrev cX4_wrong : ByteArray := prog_12_method_19_code
def yX4_wrong : MethodName := ⟨RX4, "wrong", "(I)V"⟩
def dkwX4_wrong_0 : List UInt8 := [42, 180, 0, 170, 153, 0, 4, 177, 42, 27, 181, 0, 170, 42, 42, 180, 0, 134, 181, 0, 26, 177]
abbrev dktX4_wrong_0 : List UInt8 := dkwX4_wrong_0 ++ []
theorem dksX4_wrong_0 : cX4_wrong.data.toList.drop 0 = dktX4_wrong_0 := by decide +kernel
theorem dX4_wrong_0 : decode cX4_wrong 0 = .ok (.aload_n 0, 1) := dk_42 (dk_at dksX4_wrong_0 0 rfl rfl)
theorem dX4_wrong_1 : decode cX4_wrong 1 = .ok (.getfield 170, 3) := dk_180 0 170 (dk_at dksX4_wrong_0 1 rfl rfl)
theorem dX4_wrong_4 : decode cX4_wrong 4 = .ok (.ifCond .eq 4, 3) := dk_153 0 4 (dk_at dksX4_wrong_0 4 rfl rfl)
theorem dX4_wrong_7 : decode cX4_wrong 7 = .ok (.return_, 1) := dk_177 (dk_at dksX4_wrong_0 7 rfl rfl)
theorem dX4_wrong_8 : decode cX4_wrong 8 = .ok (.aload_n 0, 1) := dk_42 (dk_at dksX4_wrong_0 8 rfl rfl)
theorem dX4_wrong_9 : decode cX4_wrong 9 = .ok (.iload_n 1, 1) := dk_27 (dk_at dksX4_wrong_0 9 rfl rfl)
theorem dX4_wrong_10 : decode cX4_wrong 10 = .ok (.putfield 170, 3) := dk_181 0 170 (dk_at dksX4_wrong_0 10 rfl rfl)
theorem dX4_wrong_13 : decode cX4_wrong 13 = .ok (.aload_n 0, 1) := dk_42 (dk_at dksX4_wrong_0 13 rfl rfl)
theorem dX4_wrong_14 : decode cX4_wrong 14 = .ok (.aload_n 0, 1) := dk_42 (dk_at dksX4_wrong_0 14 rfl rfl)
theorem dX4_wrong_15 : decode cX4_wrong 15 = .ok (.getfield 134, 3) := dk_180 0 134 (dk_at dksX4_wrong_0 15 rfl rfl)
theorem dX4_wrong_18 : decode cX4_wrong 18 = .ok (.putfield 26, 3) := dk_181 0 26 (dk_at dksX4_wrong_0 18 rfl rfl)
theorem dX4_wrong_21 : decode cX4_wrong 21 = .ok (.return_, 1) := dk_177 (dk_at dksX4_wrong_0 21 rfl rfl)
abbrev cX4_readsCup : ByteArray := prog_12_method_37_code
def yX4_readsCup : MethodName := ⟨RX4, "readsCup", "()V"⟩
def dkwX4_readsCup_4 : List UInt8 := [180, 0, 183, 4, 96, 181, 0, 183, 177]
abbrev dktX4_readsCup_4 : List UInt8 := dkwX4_readsCup_4 ++ []
def dkwX4_readsCup_3 : List UInt8 := [16, 28, 27, 96, 2, 79, 42, 180, 0, 48, 27, 3, 84, 42, 182, 0, 173, 153, 0, 13, 42, 89]
abbrev dktX4_readsCup_3 : List UInt8 := dkwX4_readsCup_3 ++ dktX4_readsCup_4
def dkwX4_readsCup_2 : List UInt8 := [27, 42, 3, 16, 20, 182, 0, 233, 79, 42, 180, 0, 35, 16, 19, 27, 96, 2, 79, 42, 180, 0, 35]
abbrev dktX4_readsCup_2 : List UInt8 := dkwX4_readsCup_2 ++ dktX4_readsCup_3
def dkwX4_readsCup_1 : List UInt8 := [16, 10, 27, 96, 42, 3, 42, 180, 0, 35, 4, 27, 96, 46, 4, 100, 182, 0, 233, 79, 42, 180, 0, 32]
abbrev dktX4_readsCup_1 : List UInt8 := dkwX4_readsCup_1 ++ dktX4_readsCup_2
def dkwX4_readsCup_0 : List UInt8 := [42, 180, 0, 183, 60, 42, 180, 0, 35, 4, 27, 96, 42, 4, 16, 30, 182, 0, 233, 79, 42, 180, 0, 35]
abbrev dktX4_readsCup_0 : List UInt8 := dkwX4_readsCup_0 ++ dktX4_readsCup_1
theorem dksX4_readsCup_0 : cX4_readsCup.data.toList.drop 0 = dktX4_readsCup_0 := by decide +kernel
theorem dksX4_readsCup_1 : cX4_readsCup.data.toList.drop 24 = dktX4_readsCup_1 := dk_seg dksX4_readsCup_0 24 rfl rfl
theorem dksX4_readsCup_2 : cX4_readsCup.data.toList.drop 48 = dktX4_readsCup_2 := dk_seg dksX4_readsCup_1 24 rfl rfl
theorem dksX4_readsCup_3 : cX4_readsCup.data.toList.drop 71 = dktX4_readsCup_3 := dk_seg dksX4_readsCup_2 23 rfl rfl
theorem dksX4_readsCup_4 : cX4_readsCup.data.toList.drop 93 = dktX4_readsCup_4 := dk_seg dksX4_readsCup_3 22 rfl rfl
theorem dX4_readsCup_0 : decode cX4_readsCup 0 = .ok (.aload_n 0, 1) := dk_42 (dk_at dksX4_readsCup_0 0 rfl rfl)
theorem dX4_readsCup_1 : decode cX4_readsCup 1 = .ok (.getfield 183, 3) := dk_180 0 183 (dk_at dksX4_readsCup_0 1 rfl rfl)
theorem dX4_readsCup_4 : decode cX4_readsCup 4 = .ok (.istore_n 1, 1) := dk_60 (dk_at dksX4_readsCup_0 4 rfl rfl)
theorem dX4_readsCup_5 : decode cX4_readsCup 5 = .ok (.aload_n 0, 1) := dk_42 (dk_at dksX4_readsCup_0 5 rfl rfl)
theorem dX4_readsCup_6 : decode cX4_readsCup 6 = .ok (.getfield 35, 3) := dk_180 0 35 (dk_at dksX4_readsCup_0 6 rfl rfl)
theorem dX4_readsCup_9 : decode cX4_readsCup 9 = .ok (.iconst 1, 1) := dk_4 (dk_at dksX4_readsCup_0 9 rfl rfl)
theorem dX4_readsCup_10 : decode cX4_readsCup 10 = .ok (.iload_n 1, 1) := dk_27 (dk_at dksX4_readsCup_0 10 rfl rfl)
theorem dX4_readsCup_11 : decode cX4_readsCup 11 = .ok (.iadd, 1) := dk_96 (dk_at dksX4_readsCup_0 11 rfl rfl)
theorem dX4_readsCup_12 : decode cX4_readsCup 12 = .ok (.aload_n 0, 1) := dk_42 (dk_at dksX4_readsCup_0 12 rfl rfl)
theorem dX4_readsCup_13 : decode cX4_readsCup 13 = .ok (.iconst 1, 1) := dk_4 (dk_at dksX4_readsCup_0 13 rfl rfl)
theorem dX4_readsCup_14 : decode cX4_readsCup 14 = .ok (.bipush 30, 2) := dk_16 30 (dk_at dksX4_readsCup_0 14 rfl rfl)
theorem dX4_readsCup_16 : decode cX4_readsCup 16 = .ok (.invokevirtual 233, 3) := dk_182 0 233 (dk_at dksX4_readsCup_0 16 rfl rfl)
theorem dX4_readsCup_19 : decode cX4_readsCup 19 = .ok (.iastore, 1) := dk_79 (dk_at dksX4_readsCup_0 19 rfl rfl)
theorem dX4_readsCup_20 : decode cX4_readsCup 20 = .ok (.aload_n 0, 1) := dk_42 (dk_at dksX4_readsCup_0 20 rfl rfl)
theorem dX4_readsCup_21 : decode cX4_readsCup 21 = .ok (.getfield 35, 3) := dk_180 0 35 (dk_at dksX4_readsCup_0 21 rfl rfl)
theorem dX4_readsCup_24 : decode cX4_readsCup 24 = .ok (.bipush 10, 2) := dk_16 10 (dk_at dksX4_readsCup_1 0 rfl rfl)
theorem dX4_readsCup_26 : decode cX4_readsCup 26 = .ok (.iload_n 1, 1) := dk_27 (dk_at dksX4_readsCup_1 2 rfl rfl)
theorem dX4_readsCup_27 : decode cX4_readsCup 27 = .ok (.iadd, 1) := dk_96 (dk_at dksX4_readsCup_1 3 rfl rfl)
theorem dX4_readsCup_28 : decode cX4_readsCup 28 = .ok (.aload_n 0, 1) := dk_42 (dk_at dksX4_readsCup_1 4 rfl rfl)
theorem dX4_readsCup_29 : decode cX4_readsCup 29 = .ok (.iconst 0, 1) := dk_3 (dk_at dksX4_readsCup_1 5 rfl rfl)
theorem dX4_readsCup_30 : decode cX4_readsCup 30 = .ok (.aload_n 0, 1) := dk_42 (dk_at dksX4_readsCup_1 6 rfl rfl)
theorem dX4_readsCup_31 : decode cX4_readsCup 31 = .ok (.getfield 35, 3) := dk_180 0 35 (dk_at dksX4_readsCup_1 7 rfl rfl)
theorem dX4_readsCup_34 : decode cX4_readsCup 34 = .ok (.iconst 1, 1) := dk_4 (dk_at dksX4_readsCup_1 10 rfl rfl)
theorem dX4_readsCup_35 : decode cX4_readsCup 35 = .ok (.iload_n 1, 1) := dk_27 (dk_at dksX4_readsCup_1 11 rfl rfl)
theorem dX4_readsCup_36 : decode cX4_readsCup 36 = .ok (.iadd, 1) := dk_96 (dk_at dksX4_readsCup_1 12 rfl rfl)
theorem dX4_readsCup_37 : decode cX4_readsCup 37 = .ok (.iaload, 1) := dk_46 (dk_at dksX4_readsCup_1 13 rfl rfl)
theorem dX4_readsCup_38 : decode cX4_readsCup 38 = .ok (.iconst 1, 1) := dk_4 (dk_at dksX4_readsCup_1 14 rfl rfl)
theorem dX4_readsCup_39 : decode cX4_readsCup 39 = .ok (.isub, 1) := dk_100 (dk_at dksX4_readsCup_1 15 rfl rfl)
theorem dX4_readsCup_40 : decode cX4_readsCup 40 = .ok (.invokevirtual 233, 3) := dk_182 0 233 (dk_at dksX4_readsCup_1 16 rfl rfl)
theorem dX4_readsCup_43 : decode cX4_readsCup 43 = .ok (.iastore, 1) := dk_79 (dk_at dksX4_readsCup_1 19 rfl rfl)
theorem dX4_readsCup_44 : decode cX4_readsCup 44 = .ok (.aload_n 0, 1) := dk_42 (dk_at dksX4_readsCup_1 20 rfl rfl)
theorem dX4_readsCup_45 : decode cX4_readsCup 45 = .ok (.getfield 32, 3) := dk_180 0 32 (dk_at dksX4_readsCup_1 21 rfl rfl)
theorem dX4_readsCup_48 : decode cX4_readsCup 48 = .ok (.iload_n 1, 1) := dk_27 (dk_at dksX4_readsCup_2 0 rfl rfl)
theorem dX4_readsCup_49 : decode cX4_readsCup 49 = .ok (.aload_n 0, 1) := dk_42 (dk_at dksX4_readsCup_2 1 rfl rfl)
theorem dX4_readsCup_50 : decode cX4_readsCup 50 = .ok (.iconst 0, 1) := dk_3 (dk_at dksX4_readsCup_2 2 rfl rfl)
theorem dX4_readsCup_51 : decode cX4_readsCup 51 = .ok (.bipush 20, 2) := dk_16 20 (dk_at dksX4_readsCup_2 3 rfl rfl)
theorem dX4_readsCup_53 : decode cX4_readsCup 53 = .ok (.invokevirtual 233, 3) := dk_182 0 233 (dk_at dksX4_readsCup_2 5 rfl rfl)
theorem dX4_readsCup_56 : decode cX4_readsCup 56 = .ok (.iastore, 1) := dk_79 (dk_at dksX4_readsCup_2 8 rfl rfl)
theorem dX4_readsCup_57 : decode cX4_readsCup 57 = .ok (.aload_n 0, 1) := dk_42 (dk_at dksX4_readsCup_2 9 rfl rfl)
theorem dX4_readsCup_58 : decode cX4_readsCup 58 = .ok (.getfield 35, 3) := dk_180 0 35 (dk_at dksX4_readsCup_2 10 rfl rfl)
theorem dX4_readsCup_61 : decode cX4_readsCup 61 = .ok (.bipush 19, 2) := dk_16 19 (dk_at dksX4_readsCup_2 13 rfl rfl)
theorem dX4_readsCup_63 : decode cX4_readsCup 63 = .ok (.iload_n 1, 1) := dk_27 (dk_at dksX4_readsCup_2 15 rfl rfl)
theorem dX4_readsCup_64 : decode cX4_readsCup 64 = .ok (.iadd, 1) := dk_96 (dk_at dksX4_readsCup_2 16 rfl rfl)
theorem dX4_readsCup_65 : decode cX4_readsCup 65 = .ok (.iconst (-1), 1) := dk_2 (dk_at dksX4_readsCup_2 17 rfl rfl)
theorem dX4_readsCup_66 : decode cX4_readsCup 66 = .ok (.iastore, 1) := dk_79 (dk_at dksX4_readsCup_2 18 rfl rfl)
theorem dX4_readsCup_67 : decode cX4_readsCup 67 = .ok (.aload_n 0, 1) := dk_42 (dk_at dksX4_readsCup_2 19 rfl rfl)
theorem dX4_readsCup_68 : decode cX4_readsCup 68 = .ok (.getfield 35, 3) := dk_180 0 35 (dk_at dksX4_readsCup_2 20 rfl rfl)
theorem dX4_readsCup_71 : decode cX4_readsCup 71 = .ok (.bipush 28, 2) := dk_16 28 (dk_at dksX4_readsCup_3 0 rfl rfl)
theorem dX4_readsCup_73 : decode cX4_readsCup 73 = .ok (.iload_n 1, 1) := dk_27 (dk_at dksX4_readsCup_3 2 rfl rfl)
theorem dX4_readsCup_74 : decode cX4_readsCup 74 = .ok (.iadd, 1) := dk_96 (dk_at dksX4_readsCup_3 3 rfl rfl)
theorem dX4_readsCup_75 : decode cX4_readsCup 75 = .ok (.iconst (-1), 1) := dk_2 (dk_at dksX4_readsCup_3 4 rfl rfl)
theorem dX4_readsCup_76 : decode cX4_readsCup 76 = .ok (.iastore, 1) := dk_79 (dk_at dksX4_readsCup_3 5 rfl rfl)
theorem dX4_readsCup_77 : decode cX4_readsCup 77 = .ok (.aload_n 0, 1) := dk_42 (dk_at dksX4_readsCup_3 6 rfl rfl)
theorem dX4_readsCup_78 : decode cX4_readsCup 78 = .ok (.getfield 48, 3) := dk_180 0 48 (dk_at dksX4_readsCup_3 7 rfl rfl)
theorem dX4_readsCup_81 : decode cX4_readsCup 81 = .ok (.iload_n 1, 1) := dk_27 (dk_at dksX4_readsCup_3 10 rfl rfl)
theorem dX4_readsCup_82 : decode cX4_readsCup 82 = .ok (.iconst 0, 1) := dk_3 (dk_at dksX4_readsCup_3 11 rfl rfl)
theorem dX4_readsCup_83 : decode cX4_readsCup 83 = .ok (.bastore, 1) := dk_84 (dk_at dksX4_readsCup_3 12 rfl rfl)
theorem dX4_readsCup_84 : decode cX4_readsCup 84 = .ok (.aload_n 0, 1) := dk_42 (dk_at dksX4_readsCup_3 13 rfl rfl)
theorem dX4_readsCup_85 : decode cX4_readsCup 85 = .ok (.invokevirtual 173, 3) := dk_182 0 173 (dk_at dksX4_readsCup_3 14 rfl rfl)
theorem dX4_readsCup_88 : decode cX4_readsCup 88 = .ok (.ifCond .eq 13, 3) := dk_153 0 13 (dk_at dksX4_readsCup_3 17 rfl rfl)
theorem dX4_readsCup_91 : decode cX4_readsCup 91 = .ok (.aload_n 0, 1) := dk_42 (dk_at dksX4_readsCup_3 20 rfl rfl)
theorem dX4_readsCup_92 : decode cX4_readsCup 92 = .ok (.dup, 1) := dk_89 (dk_at dksX4_readsCup_3 21 rfl rfl)
theorem dX4_readsCup_93 : decode cX4_readsCup 93 = .ok (.getfield 183, 3) := dk_180 0 183 (dk_at dksX4_readsCup_4 0 rfl rfl)
theorem dX4_readsCup_96 : decode cX4_readsCup 96 = .ok (.iconst 1, 1) := dk_4 (dk_at dksX4_readsCup_4 3 rfl rfl)
theorem dX4_readsCup_97 : decode cX4_readsCup 97 = .ok (.iadd, 1) := dk_96 (dk_at dksX4_readsCup_4 4 rfl rfl)
theorem dX4_readsCup_98 : decode cX4_readsCup 98 = .ok (.putfield 183, 3) := dk_181 0 183 (dk_at dksX4_readsCup_4 5 rfl rfl)
theorem dX4_readsCup_101 : decode cX4_readsCup 101 = .ok (.return_, 1) := dk_177 (dk_at dksX4_readsCup_4 8 rfl rfl)
abbrev cX4_number : ByteArray := prog_12_method_23_code
def yX4_number : MethodName := ⟨RX4, "number", "(II)I"⟩
def dkwX4_number_3 : List UInt8 := [29, 172]
abbrev dktX4_number_3 : List UInt8 := dkwX4_number_3 ++ []
def dkwX4_number_2 : List UInt8 := [164, 0, 8, 42, 5, 182, 0, 180, 42, 180, 0, 141, 62, 42, 182, 0, 173, 153, 0, 7, 42, 182, 0, 177]
abbrev dktX4_number_2 : List UInt8 := dkwX4_number_2 ++ dktX4_number_3
def dkwX4_number_1 : List UInt8 := [167, 0, 32, 42, 180, 0, 157, 7, 163, 0, 19, 42, 180, 0, 141, 27, 161, 0, 11, 42, 180, 0, 141, 28]
abbrev dktX4_number_1 : List UInt8 := dkwX4_number_1 ++ dktX4_number_2
def dkwX4_number_0 : List UInt8 := [42, 182, 0, 173, 154, 0, 5, 3, 172, 42, 180, 0, 147, 5, 159, 0, 11, 42, 4, 182, 0, 180]
abbrev dktX4_number_0 : List UInt8 := dkwX4_number_0 ++ dktX4_number_1
theorem dksX4_number_0 : cX4_number.data.toList.drop 0 = dktX4_number_0 := by decide +kernel
theorem dksX4_number_1 : cX4_number.data.toList.drop 22 = dktX4_number_1 := dk_seg dksX4_number_0 22 rfl rfl
theorem dksX4_number_2 : cX4_number.data.toList.drop 46 = dktX4_number_2 := dk_seg dksX4_number_1 24 rfl rfl
theorem dksX4_number_3 : cX4_number.data.toList.drop 70 = dktX4_number_3 := dk_seg dksX4_number_2 24 rfl rfl
theorem dX4_number_0 : decode cX4_number 0 = .ok (.aload_n 0, 1) := dk_42 (dk_at dksX4_number_0 0 rfl rfl)
theorem dX4_number_1 : decode cX4_number 1 = .ok (.invokevirtual 173, 3) := dk_182 0 173 (dk_at dksX4_number_0 1 rfl rfl)
theorem dX4_number_4 : decode cX4_number 4 = .ok (.ifCond .ne 5, 3) := dk_154 0 5 (dk_at dksX4_number_0 4 rfl rfl)
theorem dX4_number_7 : decode cX4_number 7 = .ok (.iconst 0, 1) := dk_3 (dk_at dksX4_number_0 7 rfl rfl)
theorem dX4_number_8 : decode cX4_number 8 = .ok (.ireturn, 1) := dk_172 (dk_at dksX4_number_0 8 rfl rfl)
theorem dX4_number_9 : decode cX4_number 9 = .ok (.aload_n 0, 1) := dk_42 (dk_at dksX4_number_0 9 rfl rfl)
theorem dX4_number_10 : decode cX4_number 10 = .ok (.getfield 147, 3) := dk_180 0 147 (dk_at dksX4_number_0 10 rfl rfl)
theorem dX4_number_13 : decode cX4_number 13 = .ok (.iconst 2, 1) := dk_5 (dk_at dksX4_number_0 13 rfl rfl)
theorem dX4_number_14 : decode cX4_number 14 = .ok (.if_icmp .eq 11, 3) := dk_159 0 11 (dk_at dksX4_number_0 14 rfl rfl)
theorem dX4_number_17 : decode cX4_number 17 = .ok (.aload_n 0, 1) := dk_42 (dk_at dksX4_number_0 17 rfl rfl)
theorem dX4_number_18 : decode cX4_number 18 = .ok (.iconst 1, 1) := dk_4 (dk_at dksX4_number_0 18 rfl rfl)
theorem dX4_number_19 : decode cX4_number 19 = .ok (.invokevirtual 180, 3) := dk_182 0 180 (dk_at dksX4_number_0 19 rfl rfl)
theorem dX4_number_22 : decode cX4_number 22 = .ok (.goto 32, 3) := dk_167 0 32 (dk_at dksX4_number_1 0 rfl rfl)
theorem dX4_number_25 : decode cX4_number 25 = .ok (.aload_n 0, 1) := dk_42 (dk_at dksX4_number_1 3 rfl rfl)
theorem dX4_number_26 : decode cX4_number 26 = .ok (.getfield 157, 3) := dk_180 0 157 (dk_at dksX4_number_1 4 rfl rfl)
theorem dX4_number_29 : decode cX4_number 29 = .ok (.iconst 4, 1) := dk_7 (dk_at dksX4_number_1 7 rfl rfl)
theorem dX4_number_30 : decode cX4_number 30 = .ok (.if_icmp .gt 19, 3) := dk_163 0 19 (dk_at dksX4_number_1 8 rfl rfl)
theorem dX4_number_33 : decode cX4_number 33 = .ok (.aload_n 0, 1) := dk_42 (dk_at dksX4_number_1 11 rfl rfl)
theorem dX4_number_34 : decode cX4_number 34 = .ok (.getfield 141, 3) := dk_180 0 141 (dk_at dksX4_number_1 12 rfl rfl)
theorem dX4_number_37 : decode cX4_number 37 = .ok (.iload_n 1, 1) := dk_27 (dk_at dksX4_number_1 15 rfl rfl)
theorem dX4_number_38 : decode cX4_number 38 = .ok (.if_icmp .lt 11, 3) := dk_161 0 11 (dk_at dksX4_number_1 16 rfl rfl)
theorem dX4_number_41 : decode cX4_number 41 = .ok (.aload_n 0, 1) := dk_42 (dk_at dksX4_number_1 19 rfl rfl)
theorem dX4_number_42 : decode cX4_number 42 = .ok (.getfield 141, 3) := dk_180 0 141 (dk_at dksX4_number_1 20 rfl rfl)
theorem dX4_number_45 : decode cX4_number 45 = .ok (.iload_n 2, 1) := dk_28 (dk_at dksX4_number_1 23 rfl rfl)
theorem dX4_number_46 : decode cX4_number 46 = .ok (.if_icmp .le 8, 3) := dk_164 0 8 (dk_at dksX4_number_2 0 rfl rfl)
theorem dX4_number_49 : decode cX4_number 49 = .ok (.aload_n 0, 1) := dk_42 (dk_at dksX4_number_2 3 rfl rfl)
theorem dX4_number_50 : decode cX4_number 50 = .ok (.iconst 2, 1) := dk_5 (dk_at dksX4_number_2 4 rfl rfl)
theorem dX4_number_51 : decode cX4_number 51 = .ok (.invokevirtual 180, 3) := dk_182 0 180 (dk_at dksX4_number_2 5 rfl rfl)
theorem dX4_number_54 : decode cX4_number 54 = .ok (.aload_n 0, 1) := dk_42 (dk_at dksX4_number_2 8 rfl rfl)
theorem dX4_number_55 : decode cX4_number 55 = .ok (.getfield 141, 3) := dk_180 0 141 (dk_at dksX4_number_2 9 rfl rfl)
theorem dX4_number_58 : decode cX4_number 58 = .ok (.istore_n 3, 1) := dk_62 (dk_at dksX4_number_2 12 rfl rfl)
theorem dX4_number_59 : decode cX4_number 59 = .ok (.aload_n 0, 1) := dk_42 (dk_at dksX4_number_2 13 rfl rfl)
theorem dX4_number_60 : decode cX4_number 60 = .ok (.invokevirtual 173, 3) := dk_182 0 173 (dk_at dksX4_number_2 14 rfl rfl)
theorem dX4_number_63 : decode cX4_number 63 = .ok (.ifCond .eq 7, 3) := dk_153 0 7 (dk_at dksX4_number_2 17 rfl rfl)
theorem dX4_number_66 : decode cX4_number 66 = .ok (.aload_n 0, 1) := dk_42 (dk_at dksX4_number_2 20 rfl rfl)
theorem dX4_number_67 : decode cX4_number 67 = .ok (.invokevirtual 177, 3) := dk_182 0 177 (dk_at dksX4_number_2 21 rfl rfl)
theorem dX4_number_70 : decode cX4_number 70 = .ok (.iload_n 3, 1) := dk_29 (dk_at dksX4_number_3 0 rfl rfl)
theorem dX4_number_71 : decode cX4_number 71 = .ok (.ireturn, 1) := dk_172 (dk_at dksX4_number_3 1 rfl rfl)
abbrev cX4_readsPipe : ByteArray := prog_12_method_38_code
def yX4_readsPipe : MethodName := ⟨RX4, "readsPipe", "()V"⟩
def dkwX4_readsPipe_6 : List UInt8 := [177, 42, 180, 0, 35, 16, 28, 27, 96, 42, 180, 0, 141, 79, 42, 182, 0, 177, 177]
abbrev dktX4_readsPipe_6 : List UInt8 := dkwX4_readsPipe_6 ++ []
def dkwX4_readsPipe_5 : List UInt8 := [42, 180, 0, 35, 16, 19, 27, 96, 46, 160, 0, 8, 42, 7, 182, 0, 180, 42, 182, 0, 173, 154, 0, 4]
abbrev dktX4_readsPipe_5 : List UInt8 := dkwX4_readsPipe_5 ++ dktX4_readsPipe_6
def dkwX4_readsPipe_4 : List UInt8 := [5, 160, 0, 10, 42, 182, 0, 237, 154, 0, 4, 177, 42, 180, 0, 141, 27, 164, 0, 19, 42, 180, 0, 141]
abbrev dktX4_readsPipe_4 : List UInt8 := dkwX4_readsPipe_4 ++ dktX4_readsPipe_5
def dkwX4_readsPipe_3 : List UInt8 := [27, 4, 84, 42, 180, 0, 35, 16, 19, 27, 96, 42, 180, 0, 141, 79, 42, 182, 0, 177, 42, 180, 0, 147]
abbrev dktX4_readsPipe_3 : List UInt8 := dkwX4_readsPipe_3 ++ dktX4_readsPipe_4
def dkwX4_readsPipe_2 : List UInt8 := [180, 0, 141, 27, 163, 0, 8, 42, 7, 182, 0, 180, 42, 182, 0, 173, 154, 0, 4, 177, 42, 180, 0, 48]
abbrev dktX4_readsPipe_2 : List UInt8 := dkwX4_readsPipe_2 ++ dktX4_readsPipe_3
def dkwX4_readsPipe_1 : List UInt8 := [182, 0, 180, 42, 182, 0, 173, 154, 0, 4, 177, 42, 182, 0, 177, 42, 182, 0, 237, 154, 0, 4, 177, 42]
abbrev dktX4_readsPipe_1 : List UInt8 := dkwX4_readsPipe_1 ++ dktX4_readsPipe_2
def dkwX4_readsPipe_0 : List UInt8 := [42, 182, 0, 237, 154, 0, 4, 177, 42, 180, 0, 141, 60, 42, 180, 0, 48, 27, 51, 153, 0, 8, 42, 7]
abbrev dktX4_readsPipe_0 : List UInt8 := dkwX4_readsPipe_0 ++ dktX4_readsPipe_1
theorem dksX4_readsPipe_0 : cX4_readsPipe.data.toList.drop 0 = dktX4_readsPipe_0 := by decide +kernel
theorem dksX4_readsPipe_1 : cX4_readsPipe.data.toList.drop 24 = dktX4_readsPipe_1 := dk_seg dksX4_readsPipe_0 24 rfl rfl
theorem dksX4_readsPipe_2 : cX4_readsPipe.data.toList.drop 48 = dktX4_readsPipe_2 := dk_seg dksX4_readsPipe_1 24 rfl rfl
theorem dksX4_readsPipe_3 : cX4_readsPipe.data.toList.drop 72 = dktX4_readsPipe_3 := dk_seg dksX4_readsPipe_2 24 rfl rfl
theorem dksX4_readsPipe_4 : cX4_readsPipe.data.toList.drop 96 = dktX4_readsPipe_4 := dk_seg dksX4_readsPipe_3 24 rfl rfl
theorem dksX4_readsPipe_5 : cX4_readsPipe.data.toList.drop 120 = dktX4_readsPipe_5 := dk_seg dksX4_readsPipe_4 24 rfl rfl
theorem dksX4_readsPipe_6 : cX4_readsPipe.data.toList.drop 144 = dktX4_readsPipe_6 := dk_seg dksX4_readsPipe_5 24 rfl rfl
theorem dX4_readsPipe_0 : decode cX4_readsPipe 0 = .ok (.aload_n 0, 1) := dk_42 (dk_at dksX4_readsPipe_0 0 rfl rfl)
theorem dX4_readsPipe_1 : decode cX4_readsPipe 1 = .ok (.invokevirtual 237, 3) := dk_182 0 237 (dk_at dksX4_readsPipe_0 1 rfl rfl)
theorem dX4_readsPipe_4 : decode cX4_readsPipe 4 = .ok (.ifCond .ne 4, 3) := dk_154 0 4 (dk_at dksX4_readsPipe_0 4 rfl rfl)
theorem dX4_readsPipe_7 : decode cX4_readsPipe 7 = .ok (.return_, 1) := dk_177 (dk_at dksX4_readsPipe_0 7 rfl rfl)
theorem dX4_readsPipe_8 : decode cX4_readsPipe 8 = .ok (.aload_n 0, 1) := dk_42 (dk_at dksX4_readsPipe_0 8 rfl rfl)
theorem dX4_readsPipe_9 : decode cX4_readsPipe 9 = .ok (.getfield 141, 3) := dk_180 0 141 (dk_at dksX4_readsPipe_0 9 rfl rfl)
theorem dX4_readsPipe_12 : decode cX4_readsPipe 12 = .ok (.istore_n 1, 1) := dk_60 (dk_at dksX4_readsPipe_0 12 rfl rfl)
theorem dX4_readsPipe_13 : decode cX4_readsPipe 13 = .ok (.aload_n 0, 1) := dk_42 (dk_at dksX4_readsPipe_0 13 rfl rfl)
theorem dX4_readsPipe_14 : decode cX4_readsPipe 14 = .ok (.getfield 48, 3) := dk_180 0 48 (dk_at dksX4_readsPipe_0 14 rfl rfl)
theorem dX4_readsPipe_17 : decode cX4_readsPipe 17 = .ok (.iload_n 1, 1) := dk_27 (dk_at dksX4_readsPipe_0 17 rfl rfl)
theorem dX4_readsPipe_18 : decode cX4_readsPipe 18 = .ok (.baload, 1) := dk_51 (dk_at dksX4_readsPipe_0 18 rfl rfl)
theorem dX4_readsPipe_19 : decode cX4_readsPipe 19 = .ok (.ifCond .eq 8, 3) := dk_153 0 8 (dk_at dksX4_readsPipe_0 19 rfl rfl)
theorem dX4_readsPipe_22 : decode cX4_readsPipe 22 = .ok (.aload_n 0, 1) := dk_42 (dk_at dksX4_readsPipe_0 22 rfl rfl)
theorem dX4_readsPipe_23 : decode cX4_readsPipe 23 = .ok (.iconst 4, 1) := dk_7 (dk_at dksX4_readsPipe_0 23 rfl rfl)
theorem dX4_readsPipe_24 : decode cX4_readsPipe 24 = .ok (.invokevirtual 180, 3) := dk_182 0 180 (dk_at dksX4_readsPipe_1 0 rfl rfl)
theorem dX4_readsPipe_27 : decode cX4_readsPipe 27 = .ok (.aload_n 0, 1) := dk_42 (dk_at dksX4_readsPipe_1 3 rfl rfl)
theorem dX4_readsPipe_28 : decode cX4_readsPipe 28 = .ok (.invokevirtual 173, 3) := dk_182 0 173 (dk_at dksX4_readsPipe_1 4 rfl rfl)
theorem dX4_readsPipe_31 : decode cX4_readsPipe 31 = .ok (.ifCond .ne 4, 3) := dk_154 0 4 (dk_at dksX4_readsPipe_1 7 rfl rfl)
theorem dX4_readsPipe_34 : decode cX4_readsPipe 34 = .ok (.return_, 1) := dk_177 (dk_at dksX4_readsPipe_1 10 rfl rfl)
theorem dX4_readsPipe_35 : decode cX4_readsPipe 35 = .ok (.aload_n 0, 1) := dk_42 (dk_at dksX4_readsPipe_1 11 rfl rfl)
theorem dX4_readsPipe_36 : decode cX4_readsPipe 36 = .ok (.invokevirtual 177, 3) := dk_182 0 177 (dk_at dksX4_readsPipe_1 12 rfl rfl)
theorem dX4_readsPipe_39 : decode cX4_readsPipe 39 = .ok (.aload_n 0, 1) := dk_42 (dk_at dksX4_readsPipe_1 15 rfl rfl)
theorem dX4_readsPipe_40 : decode cX4_readsPipe 40 = .ok (.invokevirtual 237, 3) := dk_182 0 237 (dk_at dksX4_readsPipe_1 16 rfl rfl)
theorem dX4_readsPipe_43 : decode cX4_readsPipe 43 = .ok (.ifCond .ne 4, 3) := dk_154 0 4 (dk_at dksX4_readsPipe_1 19 rfl rfl)
theorem dX4_readsPipe_46 : decode cX4_readsPipe 46 = .ok (.return_, 1) := dk_177 (dk_at dksX4_readsPipe_1 22 rfl rfl)
theorem dX4_readsPipe_47 : decode cX4_readsPipe 47 = .ok (.aload_n 0, 1) := dk_42 (dk_at dksX4_readsPipe_1 23 rfl rfl)
theorem dX4_readsPipe_48 : decode cX4_readsPipe 48 = .ok (.getfield 141, 3) := dk_180 0 141 (dk_at dksX4_readsPipe_2 0 rfl rfl)
theorem dX4_readsPipe_51 : decode cX4_readsPipe 51 = .ok (.iload_n 1, 1) := dk_27 (dk_at dksX4_readsPipe_2 3 rfl rfl)
theorem dX4_readsPipe_52 : decode cX4_readsPipe 52 = .ok (.if_icmp .gt 8, 3) := dk_163 0 8 (dk_at dksX4_readsPipe_2 4 rfl rfl)
theorem dX4_readsPipe_55 : decode cX4_readsPipe 55 = .ok (.aload_n 0, 1) := dk_42 (dk_at dksX4_readsPipe_2 7 rfl rfl)
theorem dX4_readsPipe_56 : decode cX4_readsPipe 56 = .ok (.iconst 4, 1) := dk_7 (dk_at dksX4_readsPipe_2 8 rfl rfl)
theorem dX4_readsPipe_57 : decode cX4_readsPipe 57 = .ok (.invokevirtual 180, 3) := dk_182 0 180 (dk_at dksX4_readsPipe_2 9 rfl rfl)
theorem dX4_readsPipe_60 : decode cX4_readsPipe 60 = .ok (.aload_n 0, 1) := dk_42 (dk_at dksX4_readsPipe_2 12 rfl rfl)
theorem dX4_readsPipe_61 : decode cX4_readsPipe 61 = .ok (.invokevirtual 173, 3) := dk_182 0 173 (dk_at dksX4_readsPipe_2 13 rfl rfl)
theorem dX4_readsPipe_64 : decode cX4_readsPipe 64 = .ok (.ifCond .ne 4, 3) := dk_154 0 4 (dk_at dksX4_readsPipe_2 16 rfl rfl)
theorem dX4_readsPipe_67 : decode cX4_readsPipe 67 = .ok (.return_, 1) := dk_177 (dk_at dksX4_readsPipe_2 19 rfl rfl)
theorem dX4_readsPipe_68 : decode cX4_readsPipe 68 = .ok (.aload_n 0, 1) := dk_42 (dk_at dksX4_readsPipe_2 20 rfl rfl)
theorem dX4_readsPipe_69 : decode cX4_readsPipe 69 = .ok (.getfield 48, 3) := dk_180 0 48 (dk_at dksX4_readsPipe_2 21 rfl rfl)
theorem dX4_readsPipe_72 : decode cX4_readsPipe 72 = .ok (.iload_n 1, 1) := dk_27 (dk_at dksX4_readsPipe_3 0 rfl rfl)
theorem dX4_readsPipe_73 : decode cX4_readsPipe 73 = .ok (.iconst 1, 1) := dk_4 (dk_at dksX4_readsPipe_3 1 rfl rfl)
theorem dX4_readsPipe_74 : decode cX4_readsPipe 74 = .ok (.bastore, 1) := dk_84 (dk_at dksX4_readsPipe_3 2 rfl rfl)
theorem dX4_readsPipe_75 : decode cX4_readsPipe 75 = .ok (.aload_n 0, 1) := dk_42 (dk_at dksX4_readsPipe_3 3 rfl rfl)
theorem dX4_readsPipe_76 : decode cX4_readsPipe 76 = .ok (.getfield 35, 3) := dk_180 0 35 (dk_at dksX4_readsPipe_3 4 rfl rfl)
theorem dX4_readsPipe_79 : decode cX4_readsPipe 79 = .ok (.bipush 19, 2) := dk_16 19 (dk_at dksX4_readsPipe_3 7 rfl rfl)
theorem dX4_readsPipe_81 : decode cX4_readsPipe 81 = .ok (.iload_n 1, 1) := dk_27 (dk_at dksX4_readsPipe_3 9 rfl rfl)
theorem dX4_readsPipe_82 : decode cX4_readsPipe 82 = .ok (.iadd, 1) := dk_96 (dk_at dksX4_readsPipe_3 10 rfl rfl)
theorem dX4_readsPipe_83 : decode cX4_readsPipe 83 = .ok (.aload_n 0, 1) := dk_42 (dk_at dksX4_readsPipe_3 11 rfl rfl)
theorem dX4_readsPipe_84 : decode cX4_readsPipe 84 = .ok (.getfield 141, 3) := dk_180 0 141 (dk_at dksX4_readsPipe_3 12 rfl rfl)
theorem dX4_readsPipe_87 : decode cX4_readsPipe 87 = .ok (.iastore, 1) := dk_79 (dk_at dksX4_readsPipe_3 15 rfl rfl)
theorem dX4_readsPipe_88 : decode cX4_readsPipe 88 = .ok (.aload_n 0, 1) := dk_42 (dk_at dksX4_readsPipe_3 16 rfl rfl)
theorem dX4_readsPipe_89 : decode cX4_readsPipe 89 = .ok (.invokevirtual 177, 3) := dk_182 0 177 (dk_at dksX4_readsPipe_3 17 rfl rfl)
theorem dX4_readsPipe_92 : decode cX4_readsPipe 92 = .ok (.aload_n 0, 1) := dk_42 (dk_at dksX4_readsPipe_3 20 rfl rfl)
theorem dX4_readsPipe_93 : decode cX4_readsPipe 93 = .ok (.getfield 147, 3) := dk_180 0 147 (dk_at dksX4_readsPipe_3 21 rfl rfl)
theorem dX4_readsPipe_96 : decode cX4_readsPipe 96 = .ok (.iconst 2, 1) := dk_5 (dk_at dksX4_readsPipe_4 0 rfl rfl)
theorem dX4_readsPipe_97 : decode cX4_readsPipe 97 = .ok (.if_icmp .ne 10, 3) := dk_160 0 10 (dk_at dksX4_readsPipe_4 1 rfl rfl)
theorem dX4_readsPipe_100 : decode cX4_readsPipe 100 = .ok (.aload_n 0, 1) := dk_42 (dk_at dksX4_readsPipe_4 4 rfl rfl)
theorem dX4_readsPipe_101 : decode cX4_readsPipe 101 = .ok (.invokevirtual 237, 3) := dk_182 0 237 (dk_at dksX4_readsPipe_4 5 rfl rfl)
theorem dX4_readsPipe_104 : decode cX4_readsPipe 104 = .ok (.ifCond .ne 4, 3) := dk_154 0 4 (dk_at dksX4_readsPipe_4 8 rfl rfl)
theorem dX4_readsPipe_107 : decode cX4_readsPipe 107 = .ok (.return_, 1) := dk_177 (dk_at dksX4_readsPipe_4 11 rfl rfl)
theorem dX4_readsPipe_108 : decode cX4_readsPipe 108 = .ok (.aload_n 0, 1) := dk_42 (dk_at dksX4_readsPipe_4 12 rfl rfl)
theorem dX4_readsPipe_109 : decode cX4_readsPipe 109 = .ok (.getfield 141, 3) := dk_180 0 141 (dk_at dksX4_readsPipe_4 13 rfl rfl)
theorem dX4_readsPipe_112 : decode cX4_readsPipe 112 = .ok (.iload_n 1, 1) := dk_27 (dk_at dksX4_readsPipe_4 16 rfl rfl)
theorem dX4_readsPipe_113 : decode cX4_readsPipe 113 = .ok (.if_icmp .le 19, 3) := dk_164 0 19 (dk_at dksX4_readsPipe_4 17 rfl rfl)
theorem dX4_readsPipe_116 : decode cX4_readsPipe 116 = .ok (.aload_n 0, 1) := dk_42 (dk_at dksX4_readsPipe_4 20 rfl rfl)
theorem dX4_readsPipe_117 : decode cX4_readsPipe 117 = .ok (.getfield 141, 3) := dk_180 0 141 (dk_at dksX4_readsPipe_4 21 rfl rfl)
theorem dX4_readsPipe_120 : decode cX4_readsPipe 120 = .ok (.aload_n 0, 1) := dk_42 (dk_at dksX4_readsPipe_5 0 rfl rfl)
theorem dX4_readsPipe_121 : decode cX4_readsPipe 121 = .ok (.getfield 35, 3) := dk_180 0 35 (dk_at dksX4_readsPipe_5 1 rfl rfl)
theorem dX4_readsPipe_124 : decode cX4_readsPipe 124 = .ok (.bipush 19, 2) := dk_16 19 (dk_at dksX4_readsPipe_5 4 rfl rfl)
theorem dX4_readsPipe_126 : decode cX4_readsPipe 126 = .ok (.iload_n 1, 1) := dk_27 (dk_at dksX4_readsPipe_5 6 rfl rfl)
theorem dX4_readsPipe_127 : decode cX4_readsPipe 127 = .ok (.iadd, 1) := dk_96 (dk_at dksX4_readsPipe_5 7 rfl rfl)
theorem dX4_readsPipe_128 : decode cX4_readsPipe 128 = .ok (.iaload, 1) := dk_46 (dk_at dksX4_readsPipe_5 8 rfl rfl)
theorem dX4_readsPipe_129 : decode cX4_readsPipe 129 = .ok (.if_icmp .ne 8, 3) := dk_160 0 8 (dk_at dksX4_readsPipe_5 9 rfl rfl)
theorem dX4_readsPipe_132 : decode cX4_readsPipe 132 = .ok (.aload_n 0, 1) := dk_42 (dk_at dksX4_readsPipe_5 12 rfl rfl)
theorem dX4_readsPipe_133 : decode cX4_readsPipe 133 = .ok (.iconst 4, 1) := dk_7 (dk_at dksX4_readsPipe_5 13 rfl rfl)
theorem dX4_readsPipe_134 : decode cX4_readsPipe 134 = .ok (.invokevirtual 180, 3) := dk_182 0 180 (dk_at dksX4_readsPipe_5 14 rfl rfl)
theorem dX4_readsPipe_137 : decode cX4_readsPipe 137 = .ok (.aload_n 0, 1) := dk_42 (dk_at dksX4_readsPipe_5 17 rfl rfl)
theorem dX4_readsPipe_138 : decode cX4_readsPipe 138 = .ok (.invokevirtual 173, 3) := dk_182 0 173 (dk_at dksX4_readsPipe_5 18 rfl rfl)
theorem dX4_readsPipe_141 : decode cX4_readsPipe 141 = .ok (.ifCond .ne 4, 3) := dk_154 0 4 (dk_at dksX4_readsPipe_5 21 rfl rfl)
theorem dX4_readsPipe_144 : decode cX4_readsPipe 144 = .ok (.return_, 1) := dk_177 (dk_at dksX4_readsPipe_6 0 rfl rfl)
theorem dX4_readsPipe_145 : decode cX4_readsPipe 145 = .ok (.aload_n 0, 1) := dk_42 (dk_at dksX4_readsPipe_6 1 rfl rfl)
theorem dX4_readsPipe_146 : decode cX4_readsPipe 146 = .ok (.getfield 35, 3) := dk_180 0 35 (dk_at dksX4_readsPipe_6 2 rfl rfl)
theorem dX4_readsPipe_149 : decode cX4_readsPipe 149 = .ok (.bipush 28, 2) := dk_16 28 (dk_at dksX4_readsPipe_6 5 rfl rfl)
theorem dX4_readsPipe_151 : decode cX4_readsPipe 151 = .ok (.iload_n 1, 1) := dk_27 (dk_at dksX4_readsPipe_6 7 rfl rfl)
theorem dX4_readsPipe_152 : decode cX4_readsPipe 152 = .ok (.iadd, 1) := dk_96 (dk_at dksX4_readsPipe_6 8 rfl rfl)
theorem dX4_readsPipe_153 : decode cX4_readsPipe 153 = .ok (.aload_n 0, 1) := dk_42 (dk_at dksX4_readsPipe_6 9 rfl rfl)
theorem dX4_readsPipe_154 : decode cX4_readsPipe 154 = .ok (.getfield 141, 3) := dk_180 0 141 (dk_at dksX4_readsPipe_6 10 rfl rfl)
theorem dX4_readsPipe_157 : decode cX4_readsPipe 157 = .ok (.iastore, 1) := dk_79 (dk_at dksX4_readsPipe_6 13 rfl rfl)
theorem dX4_readsPipe_158 : decode cX4_readsPipe 158 = .ok (.aload_n 0, 1) := dk_42 (dk_at dksX4_readsPipe_6 14 rfl rfl)
theorem dX4_readsPipe_159 : decode cX4_readsPipe 159 = .ok (.invokevirtual 177, 3) := dk_182 0 177 (dk_at dksX4_readsPipe_6 15 rfl rfl)
theorem dX4_readsPipe_162 : decode cX4_readsPipe 162 = .ok (.return_, 1) := dk_177 (dk_at dksX4_readsPipe_6 18 rfl rfl)
abbrev cX4_isCupHere : ByteArray := prog_12_method_24_code
def yX4_isCupHere : MethodName := ⟨RX4, "isCupHere", "()Z"⟩
def dkwX4_isCupHere_2 : List UInt8 := [180, 0, 183, 161, 0, 8, 42, 6, 182, 0, 180, 42, 182, 0, 173, 172]
abbrev dktX4_isCupHere_2 : List UInt8 := dkwX4_isCupHere_2 ++ []
def dkwX4_isCupHere_1 : List UInt8 := [167, 0, 35, 42, 180, 0, 157, 7, 164, 0, 11, 42, 5, 182, 0, 180, 167, 0, 19, 42, 180, 0, 141, 42]
abbrev dktX4_isCupHere_1 : List UInt8 := dkwX4_isCupHere_1 ++ dktX4_isCupHere_2
def dkwX4_isCupHere_0 : List UInt8 := [42, 182, 0, 173, 154, 0, 5, 3, 172, 42, 180, 0, 147, 5, 159, 0, 11, 42, 4, 182, 0, 180]
abbrev dktX4_isCupHere_0 : List UInt8 := dkwX4_isCupHere_0 ++ dktX4_isCupHere_1
theorem dksX4_isCupHere_0 : cX4_isCupHere.data.toList.drop 0 = dktX4_isCupHere_0 := by decide +kernel
theorem dksX4_isCupHere_1 : cX4_isCupHere.data.toList.drop 22 = dktX4_isCupHere_1 := dk_seg dksX4_isCupHere_0 22 rfl rfl
theorem dksX4_isCupHere_2 : cX4_isCupHere.data.toList.drop 46 = dktX4_isCupHere_2 := dk_seg dksX4_isCupHere_1 24 rfl rfl
theorem dX4_isCupHere_0 : decode cX4_isCupHere 0 = .ok (.aload_n 0, 1) := dk_42 (dk_at dksX4_isCupHere_0 0 rfl rfl)
theorem dX4_isCupHere_1 : decode cX4_isCupHere 1 = .ok (.invokevirtual 173, 3) := dk_182 0 173 (dk_at dksX4_isCupHere_0 1 rfl rfl)
theorem dX4_isCupHere_4 : decode cX4_isCupHere 4 = .ok (.ifCond .ne 5, 3) := dk_154 0 5 (dk_at dksX4_isCupHere_0 4 rfl rfl)
theorem dX4_isCupHere_7 : decode cX4_isCupHere 7 = .ok (.iconst 0, 1) := dk_3 (dk_at dksX4_isCupHere_0 7 rfl rfl)
theorem dX4_isCupHere_8 : decode cX4_isCupHere 8 = .ok (.ireturn, 1) := dk_172 (dk_at dksX4_isCupHere_0 8 rfl rfl)
theorem dX4_isCupHere_9 : decode cX4_isCupHere 9 = .ok (.aload_n 0, 1) := dk_42 (dk_at dksX4_isCupHere_0 9 rfl rfl)
theorem dX4_isCupHere_10 : decode cX4_isCupHere 10 = .ok (.getfield 147, 3) := dk_180 0 147 (dk_at dksX4_isCupHere_0 10 rfl rfl)
theorem dX4_isCupHere_13 : decode cX4_isCupHere 13 = .ok (.iconst 2, 1) := dk_5 (dk_at dksX4_isCupHere_0 13 rfl rfl)
theorem dX4_isCupHere_14 : decode cX4_isCupHere 14 = .ok (.if_icmp .eq 11, 3) := dk_159 0 11 (dk_at dksX4_isCupHere_0 14 rfl rfl)
theorem dX4_isCupHere_17 : decode cX4_isCupHere 17 = .ok (.aload_n 0, 1) := dk_42 (dk_at dksX4_isCupHere_0 17 rfl rfl)
theorem dX4_isCupHere_18 : decode cX4_isCupHere 18 = .ok (.iconst 1, 1) := dk_4 (dk_at dksX4_isCupHere_0 18 rfl rfl)
theorem dX4_isCupHere_19 : decode cX4_isCupHere 19 = .ok (.invokevirtual 180, 3) := dk_182 0 180 (dk_at dksX4_isCupHere_0 19 rfl rfl)
theorem dX4_isCupHere_22 : decode cX4_isCupHere 22 = .ok (.goto 35, 3) := dk_167 0 35 (dk_at dksX4_isCupHere_1 0 rfl rfl)
theorem dX4_isCupHere_25 : decode cX4_isCupHere 25 = .ok (.aload_n 0, 1) := dk_42 (dk_at dksX4_isCupHere_1 3 rfl rfl)
theorem dX4_isCupHere_26 : decode cX4_isCupHere 26 = .ok (.getfield 157, 3) := dk_180 0 157 (dk_at dksX4_isCupHere_1 4 rfl rfl)
theorem dX4_isCupHere_29 : decode cX4_isCupHere 29 = .ok (.iconst 4, 1) := dk_7 (dk_at dksX4_isCupHere_1 7 rfl rfl)
theorem dX4_isCupHere_30 : decode cX4_isCupHere 30 = .ok (.if_icmp .le 11, 3) := dk_164 0 11 (dk_at dksX4_isCupHere_1 8 rfl rfl)
theorem dX4_isCupHere_33 : decode cX4_isCupHere 33 = .ok (.aload_n 0, 1) := dk_42 (dk_at dksX4_isCupHere_1 11 rfl rfl)
theorem dX4_isCupHere_34 : decode cX4_isCupHere 34 = .ok (.iconst 2, 1) := dk_5 (dk_at dksX4_isCupHere_1 12 rfl rfl)
theorem dX4_isCupHere_35 : decode cX4_isCupHere 35 = .ok (.invokevirtual 180, 3) := dk_182 0 180 (dk_at dksX4_isCupHere_1 13 rfl rfl)
theorem dX4_isCupHere_38 : decode cX4_isCupHere 38 = .ok (.goto 19, 3) := dk_167 0 19 (dk_at dksX4_isCupHere_1 16 rfl rfl)
theorem dX4_isCupHere_41 : decode cX4_isCupHere 41 = .ok (.aload_n 0, 1) := dk_42 (dk_at dksX4_isCupHere_1 19 rfl rfl)
theorem dX4_isCupHere_42 : decode cX4_isCupHere 42 = .ok (.getfield 141, 3) := dk_180 0 141 (dk_at dksX4_isCupHere_1 20 rfl rfl)
theorem dX4_isCupHere_45 : decode cX4_isCupHere 45 = .ok (.aload_n 0, 1) := dk_42 (dk_at dksX4_isCupHere_1 23 rfl rfl)
theorem dX4_isCupHere_46 : decode cX4_isCupHere 46 = .ok (.getfield 183, 3) := dk_180 0 183 (dk_at dksX4_isCupHere_2 0 rfl rfl)
theorem dX4_isCupHere_49 : decode cX4_isCupHere 49 = .ok (.if_icmp .lt 8, 3) := dk_161 0 8 (dk_at dksX4_isCupHere_2 3 rfl rfl)
theorem dX4_isCupHere_52 : decode cX4_isCupHere 52 = .ok (.aload_n 0, 1) := dk_42 (dk_at dksX4_isCupHere_2 6 rfl rfl)
theorem dX4_isCupHere_53 : decode cX4_isCupHere 53 = .ok (.iconst 3, 1) := dk_6 (dk_at dksX4_isCupHere_2 7 rfl rfl)
theorem dX4_isCupHere_54 : decode cX4_isCupHere 54 = .ok (.invokevirtual 180, 3) := dk_182 0 180 (dk_at dksX4_isCupHere_2 8 rfl rfl)
theorem dX4_isCupHere_57 : decode cX4_isCupHere 57 = .ok (.aload_n 0, 1) := dk_42 (dk_at dksX4_isCupHere_2 11 rfl rfl)
theorem dX4_isCupHere_58 : decode cX4_isCupHere 58 = .ok (.invokevirtual 173, 3) := dk_182 0 173 (dk_at dksX4_isCupHere_2 12 rfl rfl)
theorem dX4_isCupHere_61 : decode cX4_isCupHere 61 = .ok (.ireturn, 1) := dk_172 (dk_at dksX4_isCupHere_2 15 rfl rfl)
abbrev cX4_expression : ByteArray := prog_12_method_35_code
def yX4_expression : MethodName := ⟨RX4, "expression", "()V"⟩
def dkwX4_expression_15 : List UInt8 := [182, 0, 198, 177]
abbrev dktX4_expression_15 : List UInt8 := dkwX4_expression_15 ++ []
def dkwX4_expression_14 : List UInt8 := [153, 0, 16, 42, 180, 0, 205, 4, 164, 0, 8, 42, 4, 182, 0, 180, 42, 3, 182, 0, 220, 42, 3]
abbrev dktX4_expression_14 : List UInt8 := dkwX4_expression_14 ++ dktX4_expression_15
def dkwX4_expression_13 : List UInt8 := [42, 182, 0, 227, 153, 0, 10, 42, 182, 0, 230, 167, 0, 5, 3, 60, 167, 254, 219, 42, 182, 0, 173]
abbrev dktX4_expression_13 : List UInt8 := dkwX4_expression_13 ++ dktX4_expression_14
def dkwX4_expression_12 : List UInt8 := [182, 0, 211, 42, 182, 0, 177, 42, 3, 182, 0, 223, 167, 0, 28, 42, 16, 41, 182, 0, 208, 153, 0, 17]
abbrev dktX4_expression_12 : List UInt8 := dkwX4_expression_12 ++ dktX4_expression_13
def dkwX4_expression_11 : List UInt8 := [42, 16, 6, 182, 0, 220, 42, 42, 16, 42, 182, 0, 208, 153, 0, 8, 16, 10, 167, 0, 5, 16, 11]
abbrev dktX4_expression_11 : List UInt8 := dkwX4_expression_11 ++ dktX4_expression_12
def dkwX4_expression_10 : List UInt8 := [182, 0, 223, 167, 0, 84, 42, 16, 42, 182, 0, 208, 154, 0, 12, 42, 16, 47, 182, 0, 208, 153, 0, 41]
abbrev dktX4_expression_10 : List UInt8 := dkwX4_expression_10 ++ dktX4_expression_11
def dkwX4_expression_9 : List UInt8 := [182, 0, 208, 153, 0, 8, 16, 8, 167, 0, 5, 16, 9, 182, 0, 211, 42, 182, 0, 177, 42, 3]
abbrev dktX4_expression_9 : List UInt8 := dkwX4_expression_9 ++ dktX4_expression_10
def dkwX4_expression_8 : List UInt8 := [182, 0, 208, 154, 0, 12, 42, 16, 45, 182, 0, 208, 153, 0, 40, 42, 8, 182, 0, 220, 42, 42, 16, 43]
abbrev dktX4_expression_8 : List UInt8 := dkwX4_expression_8 ++ dktX4_expression_9
def dkwX4_expression_7 : List UInt8 := [180, 0, 44, 42, 180, 0, 205, 4, 84, 42, 182, 0, 177, 42, 3, 182, 0, 223, 167, 0, 139, 42, 16, 43]
abbrev dktX4_expression_7 : List UInt8 := dkwX4_expression_7 ++ dktX4_expression_8
def dkwX4_expression_6 : List UInt8 := [182, 0, 220, 42, 42, 16, 60, 182, 0, 208, 153, 0, 8, 16, 6, 167, 0, 5, 16, 7, 182, 0, 211, 42]
abbrev dktX4_expression_6 : List UInt8 := dkwX4_expression_6 ++ dktX4_expression_7
def dkwX4_expression_5 : List UInt8 := [16, 61, 182, 0, 208, 153, 0, 62, 42, 180, 0, 44, 42, 180, 0, 205, 51, 154, 0, 50, 42, 7]
abbrev dktX4_expression_5 : List UInt8 := dkwX4_expression_5 ++ dktX4_expression_6
def dkwX4_expression_4 : List UInt8 := [84, 42, 182, 0, 177, 42, 4, 182, 0, 223, 167, 0, 216, 42, 16, 60, 182, 0, 208, 154, 0, 12, 42]
abbrev dktX4_expression_4 : List UInt8 := dkwX4_expression_4 ++ dktX4_expression_5
def dkwX4_expression_3 : List UInt8 := [42, 28, 16, 9, 160, 0, 7, 7, 167, 0, 4, 8, 182, 0, 211, 42, 180, 0, 44, 42, 180, 0, 205, 3]
abbrev dktX4_expression_3 : List UInt8 := dkwX4_expression_3 ++ dktX4_expression_4
def dkwX4_expression_2 : List UInt8 := [159, 0, 9, 28, 16, 10, 160, 0, 55, 42, 28, 16, 9, 160, 0, 7, 5, 167, 0, 4, 4, 182, 0, 220]
abbrev dktX4_expression_2 : List UInt8 := dkwX4_expression_2 ++ dktX4_expression_3
def dkwX4_expression_1 : List UInt8 := [182, 0, 223, 4, 60, 27, 153, 1, 39, 42, 182, 0, 173, 153, 1, 32, 42, 182, 0, 201, 61, 28, 16, 9]
abbrev dktX4_expression_1 : List UInt8 := dkwX4_expression_1 ++ dktX4_expression_2
def dkwX4_expression_0 : List UInt8 := [42, 182, 0, 173, 154, 0, 4, 177, 42, 3, 181, 0, 189, 42, 3, 181, 0, 205, 42, 182, 0, 214, 42, 4]
abbrev dktX4_expression_0 : List UInt8 := dkwX4_expression_0 ++ dktX4_expression_1
theorem dksX4_expression_0 : cX4_expression.data.toList.drop 0 = dktX4_expression_0 := by decide +kernel
theorem dksX4_expression_1 : cX4_expression.data.toList.drop 24 = dktX4_expression_1 := dk_seg dksX4_expression_0 24 rfl rfl
theorem dksX4_expression_2 : cX4_expression.data.toList.drop 48 = dktX4_expression_2 := dk_seg dksX4_expression_1 24 rfl rfl
theorem dksX4_expression_3 : cX4_expression.data.toList.drop 72 = dktX4_expression_3 := dk_seg dksX4_expression_2 24 rfl rfl
theorem dksX4_expression_4 : cX4_expression.data.toList.drop 96 = dktX4_expression_4 := dk_seg dksX4_expression_3 24 rfl rfl
theorem dksX4_expression_5 : cX4_expression.data.toList.drop 119 = dktX4_expression_5 := dk_seg dksX4_expression_4 23 rfl rfl
theorem dksX4_expression_6 : cX4_expression.data.toList.drop 141 = dktX4_expression_6 := dk_seg dksX4_expression_5 22 rfl rfl
theorem dksX4_expression_7 : cX4_expression.data.toList.drop 165 = dktX4_expression_7 := dk_seg dksX4_expression_6 24 rfl rfl
theorem dksX4_expression_8 : cX4_expression.data.toList.drop 189 = dktX4_expression_8 := dk_seg dksX4_expression_7 24 rfl rfl
theorem dksX4_expression_9 : cX4_expression.data.toList.drop 213 = dktX4_expression_9 := dk_seg dksX4_expression_8 24 rfl rfl
theorem dksX4_expression_10 : cX4_expression.data.toList.drop 235 = dktX4_expression_10 := dk_seg dksX4_expression_9 22 rfl rfl
theorem dksX4_expression_11 : cX4_expression.data.toList.drop 259 = dktX4_expression_11 := dk_seg dksX4_expression_10 24 rfl rfl
theorem dksX4_expression_12 : cX4_expression.data.toList.drop 282 = dktX4_expression_12 := dk_seg dksX4_expression_11 23 rfl rfl
theorem dksX4_expression_13 : cX4_expression.data.toList.drop 306 = dktX4_expression_13 := dk_seg dksX4_expression_12 24 rfl rfl
theorem dksX4_expression_14 : cX4_expression.data.toList.drop 329 = dktX4_expression_14 := dk_seg dksX4_expression_13 23 rfl rfl
theorem dksX4_expression_15 : cX4_expression.data.toList.drop 352 = dktX4_expression_15 := dk_seg dksX4_expression_14 23 rfl rfl
theorem dX4_expression_0 : decode cX4_expression 0 = .ok (.aload_n 0, 1) := dk_42 (dk_at dksX4_expression_0 0 rfl rfl)
theorem dX4_expression_1 : decode cX4_expression 1 = .ok (.invokevirtual 173, 3) := dk_182 0 173 (dk_at dksX4_expression_0 1 rfl rfl)
theorem dX4_expression_4 : decode cX4_expression 4 = .ok (.ifCond .ne 4, 3) := dk_154 0 4 (dk_at dksX4_expression_0 4 rfl rfl)
theorem dX4_expression_7 : decode cX4_expression 7 = .ok (.return_, 1) := dk_177 (dk_at dksX4_expression_0 7 rfl rfl)
theorem dX4_expression_8 : decode cX4_expression 8 = .ok (.aload_n 0, 1) := dk_42 (dk_at dksX4_expression_0 8 rfl rfl)
theorem dX4_expression_9 : decode cX4_expression 9 = .ok (.iconst 0, 1) := dk_3 (dk_at dksX4_expression_0 9 rfl rfl)
theorem dX4_expression_10 : decode cX4_expression 10 = .ok (.putfield 189, 3) := dk_181 0 189 (dk_at dksX4_expression_0 10 rfl rfl)
theorem dX4_expression_13 : decode cX4_expression 13 = .ok (.aload_n 0, 1) := dk_42 (dk_at dksX4_expression_0 13 rfl rfl)
theorem dX4_expression_14 : decode cX4_expression 14 = .ok (.iconst 0, 1) := dk_3 (dk_at dksX4_expression_0 14 rfl rfl)
theorem dX4_expression_15 : decode cX4_expression 15 = .ok (.putfield 205, 3) := dk_181 0 205 (dk_at dksX4_expression_0 15 rfl rfl)
theorem dX4_expression_18 : decode cX4_expression 18 = .ok (.aload_n 0, 1) := dk_42 (dk_at dksX4_expression_0 18 rfl rfl)
theorem dX4_expression_19 : decode cX4_expression 19 = .ok (.invokevirtual 214, 3) := dk_182 0 214 (dk_at dksX4_expression_0 19 rfl rfl)
theorem dX4_expression_22 : decode cX4_expression 22 = .ok (.aload_n 0, 1) := dk_42 (dk_at dksX4_expression_0 22 rfl rfl)
theorem dX4_expression_23 : decode cX4_expression 23 = .ok (.iconst 1, 1) := dk_4 (dk_at dksX4_expression_0 23 rfl rfl)
theorem dX4_expression_24 : decode cX4_expression 24 = .ok (.invokevirtual 223, 3) := dk_182 0 223 (dk_at dksX4_expression_1 0 rfl rfl)
theorem dX4_expression_27 : decode cX4_expression 27 = .ok (.iconst 1, 1) := dk_4 (dk_at dksX4_expression_1 3 rfl rfl)
theorem dX4_expression_28 : decode cX4_expression 28 = .ok (.istore_n 1, 1) := dk_60 (dk_at dksX4_expression_1 4 rfl rfl)
theorem dX4_expression_29 : decode cX4_expression 29 = .ok (.iload_n 1, 1) := dk_27 (dk_at dksX4_expression_1 5 rfl rfl)
theorem dX4_expression_30 : decode cX4_expression 30 = .ok (.ifCond .eq 295, 3) := dk_153 1 39 (dk_at dksX4_expression_1 6 rfl rfl)
theorem dX4_expression_33 : decode cX4_expression 33 = .ok (.aload_n 0, 1) := dk_42 (dk_at dksX4_expression_1 9 rfl rfl)
theorem dX4_expression_34 : decode cX4_expression 34 = .ok (.invokevirtual 173, 3) := dk_182 0 173 (dk_at dksX4_expression_1 10 rfl rfl)
theorem dX4_expression_37 : decode cX4_expression 37 = .ok (.ifCond .eq 288, 3) := dk_153 1 32 (dk_at dksX4_expression_1 13 rfl rfl)
theorem dX4_expression_40 : decode cX4_expression 40 = .ok (.aload_n 0, 1) := dk_42 (dk_at dksX4_expression_1 16 rfl rfl)
theorem dX4_expression_41 : decode cX4_expression 41 = .ok (.invokevirtual 201, 3) := dk_182 0 201 (dk_at dksX4_expression_1 17 rfl rfl)
theorem dX4_expression_44 : decode cX4_expression 44 = .ok (.istore_n 2, 1) := dk_61 (dk_at dksX4_expression_1 20 rfl rfl)
theorem dX4_expression_45 : decode cX4_expression 45 = .ok (.iload_n 2, 1) := dk_28 (dk_at dksX4_expression_1 21 rfl rfl)
theorem dX4_expression_46 : decode cX4_expression 46 = .ok (.bipush 9, 2) := dk_16 9 (dk_at dksX4_expression_1 22 rfl rfl)
theorem dX4_expression_48 : decode cX4_expression 48 = .ok (.if_icmp .eq 9, 3) := dk_159 0 9 (dk_at dksX4_expression_2 0 rfl rfl)
theorem dX4_expression_51 : decode cX4_expression 51 = .ok (.iload_n 2, 1) := dk_28 (dk_at dksX4_expression_2 3 rfl rfl)
theorem dX4_expression_52 : decode cX4_expression 52 = .ok (.bipush 10, 2) := dk_16 10 (dk_at dksX4_expression_2 4 rfl rfl)
theorem dX4_expression_54 : decode cX4_expression 54 = .ok (.if_icmp .ne 55, 3) := dk_160 0 55 (dk_at dksX4_expression_2 6 rfl rfl)
theorem dX4_expression_57 : decode cX4_expression 57 = .ok (.aload_n 0, 1) := dk_42 (dk_at dksX4_expression_2 9 rfl rfl)
theorem dX4_expression_58 : decode cX4_expression 58 = .ok (.iload_n 2, 1) := dk_28 (dk_at dksX4_expression_2 10 rfl rfl)
theorem dX4_expression_59 : decode cX4_expression 59 = .ok (.bipush 9, 2) := dk_16 9 (dk_at dksX4_expression_2 11 rfl rfl)
theorem dX4_expression_61 : decode cX4_expression 61 = .ok (.if_icmp .ne 7, 3) := dk_160 0 7 (dk_at dksX4_expression_2 13 rfl rfl)
theorem dX4_expression_64 : decode cX4_expression 64 = .ok (.iconst 2, 1) := dk_5 (dk_at dksX4_expression_2 16 rfl rfl)
theorem dX4_expression_65 : decode cX4_expression 65 = .ok (.goto 4, 3) := dk_167 0 4 (dk_at dksX4_expression_2 17 rfl rfl)
theorem dX4_expression_68 : decode cX4_expression 68 = .ok (.iconst 1, 1) := dk_4 (dk_at dksX4_expression_2 20 rfl rfl)
theorem dX4_expression_69 : decode cX4_expression 69 = .ok (.invokevirtual 220, 3) := dk_182 0 220 (dk_at dksX4_expression_2 21 rfl rfl)
theorem dX4_expression_72 : decode cX4_expression 72 = .ok (.aload_n 0, 1) := dk_42 (dk_at dksX4_expression_3 0 rfl rfl)
theorem dX4_expression_73 : decode cX4_expression 73 = .ok (.iload_n 2, 1) := dk_28 (dk_at dksX4_expression_3 1 rfl rfl)
theorem dX4_expression_74 : decode cX4_expression 74 = .ok (.bipush 9, 2) := dk_16 9 (dk_at dksX4_expression_3 2 rfl rfl)
theorem dX4_expression_76 : decode cX4_expression 76 = .ok (.if_icmp .ne 7, 3) := dk_160 0 7 (dk_at dksX4_expression_3 4 rfl rfl)
theorem dX4_expression_79 : decode cX4_expression 79 = .ok (.iconst 4, 1) := dk_7 (dk_at dksX4_expression_3 7 rfl rfl)
theorem dX4_expression_80 : decode cX4_expression 80 = .ok (.goto 4, 3) := dk_167 0 4 (dk_at dksX4_expression_3 8 rfl rfl)
theorem dX4_expression_83 : decode cX4_expression 83 = .ok (.iconst 5, 1) := dk_8 (dk_at dksX4_expression_3 11 rfl rfl)
theorem dX4_expression_84 : decode cX4_expression 84 = .ok (.invokevirtual 211, 3) := dk_182 0 211 (dk_at dksX4_expression_3 12 rfl rfl)
theorem dX4_expression_87 : decode cX4_expression 87 = .ok (.aload_n 0, 1) := dk_42 (dk_at dksX4_expression_3 15 rfl rfl)
theorem dX4_expression_88 : decode cX4_expression 88 = .ok (.getfield 44, 3) := dk_180 0 44 (dk_at dksX4_expression_3 16 rfl rfl)
theorem dX4_expression_91 : decode cX4_expression 91 = .ok (.aload_n 0, 1) := dk_42 (dk_at dksX4_expression_3 19 rfl rfl)
theorem dX4_expression_92 : decode cX4_expression 92 = .ok (.getfield 205, 3) := dk_180 0 205 (dk_at dksX4_expression_3 20 rfl rfl)
theorem dX4_expression_95 : decode cX4_expression 95 = .ok (.iconst 0, 1) := dk_3 (dk_at dksX4_expression_3 23 rfl rfl)
theorem dX4_expression_96 : decode cX4_expression 96 = .ok (.bastore, 1) := dk_84 (dk_at dksX4_expression_4 0 rfl rfl)
theorem dX4_expression_97 : decode cX4_expression 97 = .ok (.aload_n 0, 1) := dk_42 (dk_at dksX4_expression_4 1 rfl rfl)
theorem dX4_expression_98 : decode cX4_expression 98 = .ok (.invokevirtual 177, 3) := dk_182 0 177 (dk_at dksX4_expression_4 2 rfl rfl)
theorem dX4_expression_101 : decode cX4_expression 101 = .ok (.aload_n 0, 1) := dk_42 (dk_at dksX4_expression_4 5 rfl rfl)
theorem dX4_expression_102 : decode cX4_expression 102 = .ok (.iconst 1, 1) := dk_4 (dk_at dksX4_expression_4 6 rfl rfl)
theorem dX4_expression_103 : decode cX4_expression 103 = .ok (.invokevirtual 223, 3) := dk_182 0 223 (dk_at dksX4_expression_4 7 rfl rfl)
theorem dX4_expression_106 : decode cX4_expression 106 = .ok (.goto 216, 3) := dk_167 0 216 (dk_at dksX4_expression_4 10 rfl rfl)
theorem dX4_expression_109 : decode cX4_expression 109 = .ok (.aload_n 0, 1) := dk_42 (dk_at dksX4_expression_4 13 rfl rfl)
theorem dX4_expression_110 : decode cX4_expression 110 = .ok (.bipush 60, 2) := dk_16 60 (dk_at dksX4_expression_4 14 rfl rfl)
theorem dX4_expression_112 : decode cX4_expression 112 = .ok (.invokevirtual 208, 3) := dk_182 0 208 (dk_at dksX4_expression_4 16 rfl rfl)
theorem dX4_expression_115 : decode cX4_expression 115 = .ok (.ifCond .ne 12, 3) := dk_154 0 12 (dk_at dksX4_expression_4 19 rfl rfl)
theorem dX4_expression_118 : decode cX4_expression 118 = .ok (.aload_n 0, 1) := dk_42 (dk_at dksX4_expression_4 22 rfl rfl)
theorem dX4_expression_119 : decode cX4_expression 119 = .ok (.bipush 61, 2) := dk_16 61 (dk_at dksX4_expression_5 0 rfl rfl)
theorem dX4_expression_121 : decode cX4_expression 121 = .ok (.invokevirtual 208, 3) := dk_182 0 208 (dk_at dksX4_expression_5 2 rfl rfl)
theorem dX4_expression_124 : decode cX4_expression 124 = .ok (.ifCond .eq 62, 3) := dk_153 0 62 (dk_at dksX4_expression_5 5 rfl rfl)
theorem dX4_expression_127 : decode cX4_expression 127 = .ok (.aload_n 0, 1) := dk_42 (dk_at dksX4_expression_5 8 rfl rfl)
theorem dX4_expression_128 : decode cX4_expression 128 = .ok (.getfield 44, 3) := dk_180 0 44 (dk_at dksX4_expression_5 9 rfl rfl)
theorem dX4_expression_131 : decode cX4_expression 131 = .ok (.aload_n 0, 1) := dk_42 (dk_at dksX4_expression_5 12 rfl rfl)
theorem dX4_expression_132 : decode cX4_expression 132 = .ok (.getfield 205, 3) := dk_180 0 205 (dk_at dksX4_expression_5 13 rfl rfl)
theorem dX4_expression_135 : decode cX4_expression 135 = .ok (.baload, 1) := dk_51 (dk_at dksX4_expression_5 16 rfl rfl)
theorem dX4_expression_136 : decode cX4_expression 136 = .ok (.ifCond .ne 50, 3) := dk_154 0 50 (dk_at dksX4_expression_5 17 rfl rfl)
theorem dX4_expression_139 : decode cX4_expression 139 = .ok (.aload_n 0, 1) := dk_42 (dk_at dksX4_expression_5 20 rfl rfl)
theorem dX4_expression_140 : decode cX4_expression 140 = .ok (.iconst 4, 1) := dk_7 (dk_at dksX4_expression_5 21 rfl rfl)
theorem dX4_expression_141 : decode cX4_expression 141 = .ok (.invokevirtual 220, 3) := dk_182 0 220 (dk_at dksX4_expression_6 0 rfl rfl)
theorem dX4_expression_144 : decode cX4_expression 144 = .ok (.aload_n 0, 1) := dk_42 (dk_at dksX4_expression_6 3 rfl rfl)
theorem dX4_expression_145 : decode cX4_expression 145 = .ok (.aload_n 0, 1) := dk_42 (dk_at dksX4_expression_6 4 rfl rfl)
theorem dX4_expression_146 : decode cX4_expression 146 = .ok (.bipush 60, 2) := dk_16 60 (dk_at dksX4_expression_6 5 rfl rfl)
theorem dX4_expression_148 : decode cX4_expression 148 = .ok (.invokevirtual 208, 3) := dk_182 0 208 (dk_at dksX4_expression_6 7 rfl rfl)
theorem dX4_expression_151 : decode cX4_expression 151 = .ok (.ifCond .eq 8, 3) := dk_153 0 8 (dk_at dksX4_expression_6 10 rfl rfl)
theorem dX4_expression_154 : decode cX4_expression 154 = .ok (.bipush 6, 2) := dk_16 6 (dk_at dksX4_expression_6 13 rfl rfl)
theorem dX4_expression_156 : decode cX4_expression 156 = .ok (.goto 5, 3) := dk_167 0 5 (dk_at dksX4_expression_6 15 rfl rfl)
theorem dX4_expression_159 : decode cX4_expression 159 = .ok (.bipush 7, 2) := dk_16 7 (dk_at dksX4_expression_6 18 rfl rfl)
theorem dX4_expression_161 : decode cX4_expression 161 = .ok (.invokevirtual 211, 3) := dk_182 0 211 (dk_at dksX4_expression_6 20 rfl rfl)
theorem dX4_expression_164 : decode cX4_expression 164 = .ok (.aload_n 0, 1) := dk_42 (dk_at dksX4_expression_6 23 rfl rfl)
theorem dX4_expression_165 : decode cX4_expression 165 = .ok (.getfield 44, 3) := dk_180 0 44 (dk_at dksX4_expression_7 0 rfl rfl)
theorem dX4_expression_168 : decode cX4_expression 168 = .ok (.aload_n 0, 1) := dk_42 (dk_at dksX4_expression_7 3 rfl rfl)
theorem dX4_expression_169 : decode cX4_expression 169 = .ok (.getfield 205, 3) := dk_180 0 205 (dk_at dksX4_expression_7 4 rfl rfl)
theorem dX4_expression_172 : decode cX4_expression 172 = .ok (.iconst 1, 1) := dk_4 (dk_at dksX4_expression_7 7 rfl rfl)
theorem dX4_expression_173 : decode cX4_expression 173 = .ok (.bastore, 1) := dk_84 (dk_at dksX4_expression_7 8 rfl rfl)
theorem dX4_expression_174 : decode cX4_expression 174 = .ok (.aload_n 0, 1) := dk_42 (dk_at dksX4_expression_7 9 rfl rfl)
theorem dX4_expression_175 : decode cX4_expression 175 = .ok (.invokevirtual 177, 3) := dk_182 0 177 (dk_at dksX4_expression_7 10 rfl rfl)
theorem dX4_expression_178 : decode cX4_expression 178 = .ok (.aload_n 0, 1) := dk_42 (dk_at dksX4_expression_7 13 rfl rfl)
theorem dX4_expression_179 : decode cX4_expression 179 = .ok (.iconst 0, 1) := dk_3 (dk_at dksX4_expression_7 14 rfl rfl)
theorem dX4_expression_180 : decode cX4_expression 180 = .ok (.invokevirtual 223, 3) := dk_182 0 223 (dk_at dksX4_expression_7 15 rfl rfl)
theorem dX4_expression_183 : decode cX4_expression 183 = .ok (.goto 139, 3) := dk_167 0 139 (dk_at dksX4_expression_7 18 rfl rfl)
theorem dX4_expression_186 : decode cX4_expression 186 = .ok (.aload_n 0, 1) := dk_42 (dk_at dksX4_expression_7 21 rfl rfl)
theorem dX4_expression_187 : decode cX4_expression 187 = .ok (.bipush 43, 2) := dk_16 43 (dk_at dksX4_expression_7 22 rfl rfl)
theorem dX4_expression_189 : decode cX4_expression 189 = .ok (.invokevirtual 208, 3) := dk_182 0 208 (dk_at dksX4_expression_8 0 rfl rfl)
theorem dX4_expression_192 : decode cX4_expression 192 = .ok (.ifCond .ne 12, 3) := dk_154 0 12 (dk_at dksX4_expression_8 3 rfl rfl)
theorem dX4_expression_195 : decode cX4_expression 195 = .ok (.aload_n 0, 1) := dk_42 (dk_at dksX4_expression_8 6 rfl rfl)
theorem dX4_expression_196 : decode cX4_expression 196 = .ok (.bipush 45, 2) := dk_16 45 (dk_at dksX4_expression_8 7 rfl rfl)
theorem dX4_expression_198 : decode cX4_expression 198 = .ok (.invokevirtual 208, 3) := dk_182 0 208 (dk_at dksX4_expression_8 9 rfl rfl)
theorem dX4_expression_201 : decode cX4_expression 201 = .ok (.ifCond .eq 40, 3) := dk_153 0 40 (dk_at dksX4_expression_8 12 rfl rfl)
theorem dX4_expression_204 : decode cX4_expression 204 = .ok (.aload_n 0, 1) := dk_42 (dk_at dksX4_expression_8 15 rfl rfl)
theorem dX4_expression_205 : decode cX4_expression 205 = .ok (.iconst 5, 1) := dk_8 (dk_at dksX4_expression_8 16 rfl rfl)
theorem dX4_expression_206 : decode cX4_expression 206 = .ok (.invokevirtual 220, 3) := dk_182 0 220 (dk_at dksX4_expression_8 17 rfl rfl)
theorem dX4_expression_209 : decode cX4_expression 209 = .ok (.aload_n 0, 1) := dk_42 (dk_at dksX4_expression_8 20 rfl rfl)
theorem dX4_expression_210 : decode cX4_expression 210 = .ok (.aload_n 0, 1) := dk_42 (dk_at dksX4_expression_8 21 rfl rfl)
theorem dX4_expression_211 : decode cX4_expression 211 = .ok (.bipush 43, 2) := dk_16 43 (dk_at dksX4_expression_8 22 rfl rfl)
theorem dX4_expression_213 : decode cX4_expression 213 = .ok (.invokevirtual 208, 3) := dk_182 0 208 (dk_at dksX4_expression_9 0 rfl rfl)
theorem dX4_expression_216 : decode cX4_expression 216 = .ok (.ifCond .eq 8, 3) := dk_153 0 8 (dk_at dksX4_expression_9 3 rfl rfl)
theorem dX4_expression_219 : decode cX4_expression 219 = .ok (.bipush 8, 2) := dk_16 8 (dk_at dksX4_expression_9 6 rfl rfl)
theorem dX4_expression_221 : decode cX4_expression 221 = .ok (.goto 5, 3) := dk_167 0 5 (dk_at dksX4_expression_9 8 rfl rfl)
theorem dX4_expression_224 : decode cX4_expression 224 = .ok (.bipush 9, 2) := dk_16 9 (dk_at dksX4_expression_9 11 rfl rfl)
theorem dX4_expression_226 : decode cX4_expression 226 = .ok (.invokevirtual 211, 3) := dk_182 0 211 (dk_at dksX4_expression_9 13 rfl rfl)
theorem dX4_expression_229 : decode cX4_expression 229 = .ok (.aload_n 0, 1) := dk_42 (dk_at dksX4_expression_9 16 rfl rfl)
theorem dX4_expression_230 : decode cX4_expression 230 = .ok (.invokevirtual 177, 3) := dk_182 0 177 (dk_at dksX4_expression_9 17 rfl rfl)
theorem dX4_expression_233 : decode cX4_expression 233 = .ok (.aload_n 0, 1) := dk_42 (dk_at dksX4_expression_9 20 rfl rfl)
theorem dX4_expression_234 : decode cX4_expression 234 = .ok (.iconst 0, 1) := dk_3 (dk_at dksX4_expression_9 21 rfl rfl)
theorem dX4_expression_235 : decode cX4_expression 235 = .ok (.invokevirtual 223, 3) := dk_182 0 223 (dk_at dksX4_expression_10 0 rfl rfl)
theorem dX4_expression_238 : decode cX4_expression 238 = .ok (.goto 84, 3) := dk_167 0 84 (dk_at dksX4_expression_10 3 rfl rfl)
theorem dX4_expression_241 : decode cX4_expression 241 = .ok (.aload_n 0, 1) := dk_42 (dk_at dksX4_expression_10 6 rfl rfl)
theorem dX4_expression_242 : decode cX4_expression 242 = .ok (.bipush 42, 2) := dk_16 42 (dk_at dksX4_expression_10 7 rfl rfl)
theorem dX4_expression_244 : decode cX4_expression 244 = .ok (.invokevirtual 208, 3) := dk_182 0 208 (dk_at dksX4_expression_10 9 rfl rfl)
theorem dX4_expression_247 : decode cX4_expression 247 = .ok (.ifCond .ne 12, 3) := dk_154 0 12 (dk_at dksX4_expression_10 12 rfl rfl)
theorem dX4_expression_250 : decode cX4_expression 250 = .ok (.aload_n 0, 1) := dk_42 (dk_at dksX4_expression_10 15 rfl rfl)
theorem dX4_expression_251 : decode cX4_expression 251 = .ok (.bipush 47, 2) := dk_16 47 (dk_at dksX4_expression_10 16 rfl rfl)
theorem dX4_expression_253 : decode cX4_expression 253 = .ok (.invokevirtual 208, 3) := dk_182 0 208 (dk_at dksX4_expression_10 18 rfl rfl)
theorem dX4_expression_256 : decode cX4_expression 256 = .ok (.ifCond .eq 41, 3) := dk_153 0 41 (dk_at dksX4_expression_10 21 rfl rfl)
theorem dX4_expression_259 : decode cX4_expression 259 = .ok (.aload_n 0, 1) := dk_42 (dk_at dksX4_expression_11 0 rfl rfl)
theorem dX4_expression_260 : decode cX4_expression 260 = .ok (.bipush 6, 2) := dk_16 6 (dk_at dksX4_expression_11 1 rfl rfl)
theorem dX4_expression_262 : decode cX4_expression 262 = .ok (.invokevirtual 220, 3) := dk_182 0 220 (dk_at dksX4_expression_11 3 rfl rfl)
theorem dX4_expression_265 : decode cX4_expression 265 = .ok (.aload_n 0, 1) := dk_42 (dk_at dksX4_expression_11 6 rfl rfl)
theorem dX4_expression_266 : decode cX4_expression 266 = .ok (.aload_n 0, 1) := dk_42 (dk_at dksX4_expression_11 7 rfl rfl)
theorem dX4_expression_267 : decode cX4_expression 267 = .ok (.bipush 42, 2) := dk_16 42 (dk_at dksX4_expression_11 8 rfl rfl)
theorem dX4_expression_269 : decode cX4_expression 269 = .ok (.invokevirtual 208, 3) := dk_182 0 208 (dk_at dksX4_expression_11 10 rfl rfl)
theorem dX4_expression_272 : decode cX4_expression 272 = .ok (.ifCond .eq 8, 3) := dk_153 0 8 (dk_at dksX4_expression_11 13 rfl rfl)
theorem dX4_expression_275 : decode cX4_expression 275 = .ok (.bipush 10, 2) := dk_16 10 (dk_at dksX4_expression_11 16 rfl rfl)
theorem dX4_expression_277 : decode cX4_expression 277 = .ok (.goto 5, 3) := dk_167 0 5 (dk_at dksX4_expression_11 18 rfl rfl)
theorem dX4_expression_280 : decode cX4_expression 280 = .ok (.bipush 11, 2) := dk_16 11 (dk_at dksX4_expression_11 21 rfl rfl)
theorem dX4_expression_282 : decode cX4_expression 282 = .ok (.invokevirtual 211, 3) := dk_182 0 211 (dk_at dksX4_expression_12 0 rfl rfl)
theorem dX4_expression_285 : decode cX4_expression 285 = .ok (.aload_n 0, 1) := dk_42 (dk_at dksX4_expression_12 3 rfl rfl)
theorem dX4_expression_286 : decode cX4_expression 286 = .ok (.invokevirtual 177, 3) := dk_182 0 177 (dk_at dksX4_expression_12 4 rfl rfl)
theorem dX4_expression_289 : decode cX4_expression 289 = .ok (.aload_n 0, 1) := dk_42 (dk_at dksX4_expression_12 7 rfl rfl)
theorem dX4_expression_290 : decode cX4_expression 290 = .ok (.iconst 0, 1) := dk_3 (dk_at dksX4_expression_12 8 rfl rfl)
theorem dX4_expression_291 : decode cX4_expression 291 = .ok (.invokevirtual 223, 3) := dk_182 0 223 (dk_at dksX4_expression_12 9 rfl rfl)
theorem dX4_expression_294 : decode cX4_expression 294 = .ok (.goto 28, 3) := dk_167 0 28 (dk_at dksX4_expression_12 12 rfl rfl)
theorem dX4_expression_297 : decode cX4_expression 297 = .ok (.aload_n 0, 1) := dk_42 (dk_at dksX4_expression_12 15 rfl rfl)
theorem dX4_expression_298 : decode cX4_expression 298 = .ok (.bipush 41, 2) := dk_16 41 (dk_at dksX4_expression_12 16 rfl rfl)
theorem dX4_expression_300 : decode cX4_expression 300 = .ok (.invokevirtual 208, 3) := dk_182 0 208 (dk_at dksX4_expression_12 18 rfl rfl)
theorem dX4_expression_303 : decode cX4_expression 303 = .ok (.ifCond .eq 17, 3) := dk_153 0 17 (dk_at dksX4_expression_12 21 rfl rfl)
theorem dX4_expression_306 : decode cX4_expression 306 = .ok (.aload_n 0, 1) := dk_42 (dk_at dksX4_expression_13 0 rfl rfl)
theorem dX4_expression_307 : decode cX4_expression 307 = .ok (.invokevirtual 227, 3) := dk_182 0 227 (dk_at dksX4_expression_13 1 rfl rfl)
theorem dX4_expression_310 : decode cX4_expression 310 = .ok (.ifCond .eq 10, 3) := dk_153 0 10 (dk_at dksX4_expression_13 4 rfl rfl)
theorem dX4_expression_313 : decode cX4_expression 313 = .ok (.aload_n 0, 1) := dk_42 (dk_at dksX4_expression_13 7 rfl rfl)
theorem dX4_expression_314 : decode cX4_expression 314 = .ok (.invokevirtual 230, 3) := dk_182 0 230 (dk_at dksX4_expression_13 8 rfl rfl)
theorem dX4_expression_317 : decode cX4_expression 317 = .ok (.goto 5, 3) := dk_167 0 5 (dk_at dksX4_expression_13 11 rfl rfl)
theorem dX4_expression_320 : decode cX4_expression 320 = .ok (.iconst 0, 1) := dk_3 (dk_at dksX4_expression_13 14 rfl rfl)
theorem dX4_expression_321 : decode cX4_expression 321 = .ok (.istore_n 1, 1) := dk_60 (dk_at dksX4_expression_13 15 rfl rfl)
theorem dX4_expression_322 : decode cX4_expression 322 = .ok (.goto (-293), 3) := dk_167 254 219 (dk_at dksX4_expression_13 16 rfl rfl)
theorem dX4_expression_325 : decode cX4_expression 325 = .ok (.aload_n 0, 1) := dk_42 (dk_at dksX4_expression_13 19 rfl rfl)
theorem dX4_expression_326 : decode cX4_expression 326 = .ok (.invokevirtual 173, 3) := dk_182 0 173 (dk_at dksX4_expression_13 20 rfl rfl)
theorem dX4_expression_329 : decode cX4_expression 329 = .ok (.ifCond .eq 16, 3) := dk_153 0 16 (dk_at dksX4_expression_14 0 rfl rfl)
theorem dX4_expression_332 : decode cX4_expression 332 = .ok (.aload_n 0, 1) := dk_42 (dk_at dksX4_expression_14 3 rfl rfl)
theorem dX4_expression_333 : decode cX4_expression 333 = .ok (.getfield 205, 3) := dk_180 0 205 (dk_at dksX4_expression_14 4 rfl rfl)
theorem dX4_expression_336 : decode cX4_expression 336 = .ok (.iconst 1, 1) := dk_4 (dk_at dksX4_expression_14 7 rfl rfl)
theorem dX4_expression_337 : decode cX4_expression 337 = .ok (.if_icmp .le 8, 3) := dk_164 0 8 (dk_at dksX4_expression_14 8 rfl rfl)
theorem dX4_expression_340 : decode cX4_expression 340 = .ok (.aload_n 0, 1) := dk_42 (dk_at dksX4_expression_14 11 rfl rfl)
theorem dX4_expression_341 : decode cX4_expression 341 = .ok (.iconst 1, 1) := dk_4 (dk_at dksX4_expression_14 12 rfl rfl)
theorem dX4_expression_342 : decode cX4_expression 342 = .ok (.invokevirtual 180, 3) := dk_182 0 180 (dk_at dksX4_expression_14 13 rfl rfl)
theorem dX4_expression_345 : decode cX4_expression 345 = .ok (.aload_n 0, 1) := dk_42 (dk_at dksX4_expression_14 16 rfl rfl)
theorem dX4_expression_346 : decode cX4_expression 346 = .ok (.iconst 0, 1) := dk_3 (dk_at dksX4_expression_14 17 rfl rfl)
theorem dX4_expression_347 : decode cX4_expression 347 = .ok (.invokevirtual 220, 3) := dk_182 0 220 (dk_at dksX4_expression_14 18 rfl rfl)
theorem dX4_expression_350 : decode cX4_expression 350 = .ok (.aload_n 0, 1) := dk_42 (dk_at dksX4_expression_14 21 rfl rfl)
theorem dX4_expression_351 : decode cX4_expression 351 = .ok (.iconst 0, 1) := dk_3 (dk_at dksX4_expression_14 22 rfl rfl)
theorem dX4_expression_352 : decode cX4_expression 352 = .ok (.invokevirtual 198, 3) := dk_182 0 198 (dk_at dksX4_expression_15 0 rfl rfl)
theorem dX4_expression_355 : decode cX4_expression 355 = .ok (.return_, 1) := dk_177 (dk_at dksX4_expression_15 3 rfl rfl)
abbrev cX4_deeper : ByteArray := prog_12_method_31_code
def yX4_deeper : MethodName := ⟨RX4, "deeper", "()V"⟩
def dkwX4_deeper_2 : List UInt8 := [16, 40, 182, 0, 208, 153, 0, 7, 5, 167, 0, 4, 4, 182, 0, 180, 177]
abbrev dktX4_deeper_2 : List UInt8 := dkwX4_deeper_2 ++ []
def dkwX4_deeper_1 : List UInt8 := [180, 0, 205, 3, 84, 177, 42, 42, 180, 0, 147, 5, 159, 0, 20, 42, 180, 0, 147, 4, 159, 0, 12, 42]
abbrev dktX4_deeper_1 : List UInt8 := dkwX4_deeper_1 ++ dktX4_deeper_2
def dkwX4_deeper_0 : List UInt8 := [42, 180, 0, 205, 16, 6, 162, 0, 24, 42, 89, 180, 0, 205, 4, 96, 181, 0, 205, 42, 180, 0, 44, 42]
abbrev dktX4_deeper_0 : List UInt8 := dkwX4_deeper_0 ++ dktX4_deeper_1
theorem dksX4_deeper_0 : cX4_deeper.data.toList.drop 0 = dktX4_deeper_0 := by decide +kernel
theorem dksX4_deeper_1 : cX4_deeper.data.toList.drop 24 = dktX4_deeper_1 := dk_seg dksX4_deeper_0 24 rfl rfl
theorem dksX4_deeper_2 : cX4_deeper.data.toList.drop 48 = dktX4_deeper_2 := dk_seg dksX4_deeper_1 24 rfl rfl
theorem dX4_deeper_0 : decode cX4_deeper 0 = .ok (.aload_n 0, 1) := dk_42 (dk_at dksX4_deeper_0 0 rfl rfl)
theorem dX4_deeper_1 : decode cX4_deeper 1 = .ok (.getfield 205, 3) := dk_180 0 205 (dk_at dksX4_deeper_0 1 rfl rfl)
theorem dX4_deeper_4 : decode cX4_deeper 4 = .ok (.bipush 6, 2) := dk_16 6 (dk_at dksX4_deeper_0 4 rfl rfl)
theorem dX4_deeper_6 : decode cX4_deeper 6 = .ok (.if_icmp .ge 24, 3) := dk_162 0 24 (dk_at dksX4_deeper_0 6 rfl rfl)
theorem dX4_deeper_9 : decode cX4_deeper 9 = .ok (.aload_n 0, 1) := dk_42 (dk_at dksX4_deeper_0 9 rfl rfl)
theorem dX4_deeper_10 : decode cX4_deeper 10 = .ok (.dup, 1) := dk_89 (dk_at dksX4_deeper_0 10 rfl rfl)
theorem dX4_deeper_11 : decode cX4_deeper 11 = .ok (.getfield 205, 3) := dk_180 0 205 (dk_at dksX4_deeper_0 11 rfl rfl)
theorem dX4_deeper_14 : decode cX4_deeper 14 = .ok (.iconst 1, 1) := dk_4 (dk_at dksX4_deeper_0 14 rfl rfl)
theorem dX4_deeper_15 : decode cX4_deeper 15 = .ok (.iadd, 1) := dk_96 (dk_at dksX4_deeper_0 15 rfl rfl)
theorem dX4_deeper_16 : decode cX4_deeper 16 = .ok (.putfield 205, 3) := dk_181 0 205 (dk_at dksX4_deeper_0 16 rfl rfl)
theorem dX4_deeper_19 : decode cX4_deeper 19 = .ok (.aload_n 0, 1) := dk_42 (dk_at dksX4_deeper_0 19 rfl rfl)
theorem dX4_deeper_20 : decode cX4_deeper 20 = .ok (.getfield 44, 3) := dk_180 0 44 (dk_at dksX4_deeper_0 20 rfl rfl)
theorem dX4_deeper_23 : decode cX4_deeper 23 = .ok (.aload_n 0, 1) := dk_42 (dk_at dksX4_deeper_0 23 rfl rfl)
theorem dX4_deeper_24 : decode cX4_deeper 24 = .ok (.getfield 205, 3) := dk_180 0 205 (dk_at dksX4_deeper_1 0 rfl rfl)
theorem dX4_deeper_27 : decode cX4_deeper 27 = .ok (.iconst 0, 1) := dk_3 (dk_at dksX4_deeper_1 3 rfl rfl)
theorem dX4_deeper_28 : decode cX4_deeper 28 = .ok (.bastore, 1) := dk_84 (dk_at dksX4_deeper_1 4 rfl rfl)
theorem dX4_deeper_29 : decode cX4_deeper 29 = .ok (.return_, 1) := dk_177 (dk_at dksX4_deeper_1 5 rfl rfl)
theorem dX4_deeper_30 : decode cX4_deeper 30 = .ok (.aload_n 0, 1) := dk_42 (dk_at dksX4_deeper_1 6 rfl rfl)
theorem dX4_deeper_31 : decode cX4_deeper 31 = .ok (.aload_n 0, 1) := dk_42 (dk_at dksX4_deeper_1 7 rfl rfl)
theorem dX4_deeper_32 : decode cX4_deeper 32 = .ok (.getfield 147, 3) := dk_180 0 147 (dk_at dksX4_deeper_1 8 rfl rfl)
theorem dX4_deeper_35 : decode cX4_deeper 35 = .ok (.iconst 2, 1) := dk_5 (dk_at dksX4_deeper_1 11 rfl rfl)
theorem dX4_deeper_36 : decode cX4_deeper 36 = .ok (.if_icmp .eq 20, 3) := dk_159 0 20 (dk_at dksX4_deeper_1 12 rfl rfl)
theorem dX4_deeper_39 : decode cX4_deeper 39 = .ok (.aload_n 0, 1) := dk_42 (dk_at dksX4_deeper_1 15 rfl rfl)
theorem dX4_deeper_40 : decode cX4_deeper 40 = .ok (.getfield 147, 3) := dk_180 0 147 (dk_at dksX4_deeper_1 16 rfl rfl)
theorem dX4_deeper_43 : decode cX4_deeper 43 = .ok (.iconst 1, 1) := dk_4 (dk_at dksX4_deeper_1 19 rfl rfl)
theorem dX4_deeper_44 : decode cX4_deeper 44 = .ok (.if_icmp .eq 12, 3) := dk_159 0 12 (dk_at dksX4_deeper_1 20 rfl rfl)
theorem dX4_deeper_47 : decode cX4_deeper 47 = .ok (.aload_n 0, 1) := dk_42 (dk_at dksX4_deeper_1 23 rfl rfl)
theorem dX4_deeper_48 : decode cX4_deeper 48 = .ok (.bipush 40, 2) := dk_16 40 (dk_at dksX4_deeper_2 0 rfl rfl)
theorem dX4_deeper_50 : decode cX4_deeper 50 = .ok (.invokevirtual 208, 3) := dk_182 0 208 (dk_at dksX4_deeper_2 2 rfl rfl)
theorem dX4_deeper_53 : decode cX4_deeper 53 = .ok (.ifCond .eq 7, 3) := dk_153 0 7 (dk_at dksX4_deeper_2 5 rfl rfl)
theorem dX4_deeper_56 : decode cX4_deeper 56 = .ok (.iconst 2, 1) := dk_5 (dk_at dksX4_deeper_2 8 rfl rfl)
theorem dX4_deeper_57 : decode cX4_deeper 57 = .ok (.goto 4, 3) := dk_167 0 4 (dk_at dksX4_deeper_2 9 rfl rfl)
theorem dX4_deeper_60 : decode cX4_deeper 60 = .ok (.iconst 1, 1) := dk_4 (dk_at dksX4_deeper_2 12 rfl rfl)
theorem dX4_deeper_61 : decode cX4_deeper 61 = .ok (.invokevirtual 180, 3) := dk_182 0 180 (dk_at dksX4_deeper_2 13 rfl rfl)
theorem dX4_deeper_64 : decode cX4_deeper 64 = .ok (.return_, 1) := dk_177 (dk_at dksX4_deeper_2 16 rfl rfl)
abbrev cX4_isSign : ByteArray := prog_12_method_21_code
def yX4_isSign : MethodName := ⟨RX4, "isSign", "(I)Z"⟩
def dkwX4_isSign_0 : List UInt8 := [42, 180, 0, 147, 6, 160, 0, 15, 42, 180, 0, 144, 27, 160, 0, 7, 4, 167, 0, 4, 3, 172]
abbrev dktX4_isSign_0 : List UInt8 := dkwX4_isSign_0 ++ []
theorem dksX4_isSign_0 : cX4_isSign.data.toList.drop 0 = dktX4_isSign_0 := by decide +kernel
theorem dX4_isSign_0 : decode cX4_isSign 0 = .ok (.aload_n 0, 1) := dk_42 (dk_at dksX4_isSign_0 0 rfl rfl)
theorem dX4_isSign_1 : decode cX4_isSign 1 = .ok (.getfield 147, 3) := dk_180 0 147 (dk_at dksX4_isSign_0 1 rfl rfl)
theorem dX4_isSign_4 : decode cX4_isSign 4 = .ok (.iconst 3, 1) := dk_6 (dk_at dksX4_isSign_0 4 rfl rfl)
theorem dX4_isSign_5 : decode cX4_isSign 5 = .ok (.if_icmp .ne 15, 3) := dk_160 0 15 (dk_at dksX4_isSign_0 5 rfl rfl)
theorem dX4_isSign_8 : decode cX4_isSign 8 = .ok (.aload_n 0, 1) := dk_42 (dk_at dksX4_isSign_0 8 rfl rfl)
theorem dX4_isSign_9 : decode cX4_isSign 9 = .ok (.getfield 144, 3) := dk_180 0 144 (dk_at dksX4_isSign_0 9 rfl rfl)
theorem dX4_isSign_12 : decode cX4_isSign 12 = .ok (.iload_n 1, 1) := dk_27 (dk_at dksX4_isSign_0 12 rfl rfl)
theorem dX4_isSign_13 : decode cX4_isSign 13 = .ok (.if_icmp .ne 7, 3) := dk_160 0 7 (dk_at dksX4_isSign_0 13 rfl rfl)
theorem dX4_isSign_16 : decode cX4_isSign 16 = .ok (.iconst 1, 1) := dk_4 (dk_at dksX4_isSign_0 16 rfl rfl)
theorem dX4_isSign_17 : decode cX4_isSign 17 = .ok (.goto 4, 3) := dk_167 0 4 (dk_at dksX4_isSign_0 17 rfl rfl)
theorem dX4_isSign_20 : decode cX4_isSign 20 = .ok (.iconst 0, 1) := dk_3 (dk_at dksX4_isSign_0 20 rfl rfl)
theorem dX4_isSign_21 : decode cX4_isSign 21 = .ok (.ireturn, 1) := dk_172 (dk_at dksX4_isSign_0 21 rfl rfl)
abbrev cX4_operand : ByteArray := prog_12_method_32_code
def yX4_operand : MethodName := ⟨RX4, "operand", "(Z)V"⟩
def dkwX4_operand_5 : List UInt8 := [61, 167, 255, 143, 42, 182, 0, 217, 177]
abbrev dktX4_operand_5 : List UInt8 := dkwX4_operand_5 ++ []
def dkwX4_operand_4 : List UInt8 := [167, 0, 4, 3, 62, 29, 153, 0, 19, 42, 16, 14, 182, 0, 211, 42, 182, 0, 177, 42, 182, 0, 214, 4]
abbrev dktX4_operand_4 : List UInt8 := dkwX4_operand_4 ++ dktX4_operand_5
def dkwX4_operand_3 : List UInt8 := [182, 0, 177, 167, 255, 202, 42, 182, 0, 173, 153, 0, 16, 42, 16, 40, 182, 0, 208, 153, 0, 7, 4]
abbrev dktX4_operand_3 : List UInt8 := dkwX4_operand_3 ++ dktX4_operand_4
def dkwX4_operand_2 : List UInt8 := [5, 182, 0, 180, 132, 4, 1, 42, 182, 0, 173, 154, 0, 6, 167, 255, 214, 42, 6, 182, 0, 211, 42]
abbrev dktX4_operand_2 : List UInt8 := dkwX4_operand_2 ++ dktX4_operand_3
def dkwX4_operand_1 : List UInt8 := [153, 0, 53, 28, 153, 0, 49, 42, 182, 0, 201, 16, 11, 160, 0, 40, 21, 4, 16, 6, 160, 0, 8, 42]
abbrev dktX4_operand_1 : List UInt8 := dkwX4_operand_1 ++ dktX4_operand_2
def dkwX4_operand_0 : List UInt8 := [27, 61, 4, 62, 29, 153, 0, 115, 42, 182, 0, 173, 153, 0, 108, 3, 54, 4, 42, 182, 0, 173]
abbrev dktX4_operand_0 : List UInt8 := dkwX4_operand_0 ++ dktX4_operand_1
theorem dksX4_operand_0 : cX4_operand.data.toList.drop 0 = dktX4_operand_0 := by decide +kernel
theorem dksX4_operand_1 : cX4_operand.data.toList.drop 22 = dktX4_operand_1 := dk_seg dksX4_operand_0 22 rfl rfl
theorem dksX4_operand_2 : cX4_operand.data.toList.drop 46 = dktX4_operand_2 := dk_seg dksX4_operand_1 24 rfl rfl
theorem dksX4_operand_3 : cX4_operand.data.toList.drop 69 = dktX4_operand_3 := dk_seg dksX4_operand_2 23 rfl rfl
theorem dksX4_operand_4 : cX4_operand.data.toList.drop 92 = dktX4_operand_4 := dk_seg dksX4_operand_3 23 rfl rfl
theorem dksX4_operand_5 : cX4_operand.data.toList.drop 116 = dktX4_operand_5 := dk_seg dksX4_operand_4 24 rfl rfl
theorem dX4_operand_0 : decode cX4_operand 0 = .ok (.iload_n 1, 1) := dk_27 (dk_at dksX4_operand_0 0 rfl rfl)
theorem dX4_operand_1 : decode cX4_operand 1 = .ok (.istore_n 2, 1) := dk_61 (dk_at dksX4_operand_0 1 rfl rfl)
theorem dX4_operand_2 : decode cX4_operand 2 = .ok (.iconst 1, 1) := dk_4 (dk_at dksX4_operand_0 2 rfl rfl)
theorem dX4_operand_3 : decode cX4_operand 3 = .ok (.istore_n 3, 1) := dk_62 (dk_at dksX4_operand_0 3 rfl rfl)
theorem dX4_operand_4 : decode cX4_operand 4 = .ok (.iload_n 3, 1) := dk_29 (dk_at dksX4_operand_0 4 rfl rfl)
theorem dX4_operand_5 : decode cX4_operand 5 = .ok (.ifCond .eq 115, 3) := dk_153 0 115 (dk_at dksX4_operand_0 5 rfl rfl)
theorem dX4_operand_8 : decode cX4_operand 8 = .ok (.aload_n 0, 1) := dk_42 (dk_at dksX4_operand_0 8 rfl rfl)
theorem dX4_operand_9 : decode cX4_operand 9 = .ok (.invokevirtual 173, 3) := dk_182 0 173 (dk_at dksX4_operand_0 9 rfl rfl)
theorem dX4_operand_12 : decode cX4_operand 12 = .ok (.ifCond .eq 108, 3) := dk_153 0 108 (dk_at dksX4_operand_0 12 rfl rfl)
theorem dX4_operand_15 : decode cX4_operand 15 = .ok (.iconst 0, 1) := dk_3 (dk_at dksX4_operand_0 15 rfl rfl)
theorem dX4_operand_16 : decode cX4_operand 16 = .ok (.istore 4, 2) := dk_54 4 (dk_at dksX4_operand_0 16 rfl rfl)
theorem dX4_operand_18 : decode cX4_operand 18 = .ok (.aload_n 0, 1) := dk_42 (dk_at dksX4_operand_0 18 rfl rfl)
theorem dX4_operand_19 : decode cX4_operand 19 = .ok (.invokevirtual 173, 3) := dk_182 0 173 (dk_at dksX4_operand_0 19 rfl rfl)
theorem dX4_operand_22 : decode cX4_operand 22 = .ok (.ifCond .eq 53, 3) := dk_153 0 53 (dk_at dksX4_operand_1 0 rfl rfl)
theorem dX4_operand_25 : decode cX4_operand 25 = .ok (.iload_n 2, 1) := dk_28 (dk_at dksX4_operand_1 3 rfl rfl)
theorem dX4_operand_26 : decode cX4_operand 26 = .ok (.ifCond .eq 49, 3) := dk_153 0 49 (dk_at dksX4_operand_1 4 rfl rfl)
theorem dX4_operand_29 : decode cX4_operand 29 = .ok (.aload_n 0, 1) := dk_42 (dk_at dksX4_operand_1 7 rfl rfl)
theorem dX4_operand_30 : decode cX4_operand 30 = .ok (.invokevirtual 201, 3) := dk_182 0 201 (dk_at dksX4_operand_1 8 rfl rfl)
theorem dX4_operand_33 : decode cX4_operand 33 = .ok (.bipush 11, 2) := dk_16 11 (dk_at dksX4_operand_1 11 rfl rfl)
theorem dX4_operand_35 : decode cX4_operand 35 = .ok (.if_icmp .ne 40, 3) := dk_160 0 40 (dk_at dksX4_operand_1 13 rfl rfl)
theorem dX4_operand_38 : decode cX4_operand 38 = .ok (.iload 4, 2) := dk_21 4 (dk_at dksX4_operand_1 16 rfl rfl)
theorem dX4_operand_40 : decode cX4_operand 40 = .ok (.bipush 6, 2) := dk_16 6 (dk_at dksX4_operand_1 18 rfl rfl)
theorem dX4_operand_42 : decode cX4_operand 42 = .ok (.if_icmp .ne 8, 3) := dk_160 0 8 (dk_at dksX4_operand_1 20 rfl rfl)
theorem dX4_operand_45 : decode cX4_operand 45 = .ok (.aload_n 0, 1) := dk_42 (dk_at dksX4_operand_1 23 rfl rfl)
theorem dX4_operand_46 : decode cX4_operand 46 = .ok (.iconst 2, 1) := dk_5 (dk_at dksX4_operand_2 0 rfl rfl)
theorem dX4_operand_47 : decode cX4_operand 47 = .ok (.invokevirtual 180, 3) := dk_182 0 180 (dk_at dksX4_operand_2 1 rfl rfl)
theorem dX4_operand_50 : decode cX4_operand 50 = .ok (.iinc 4 1, 3) := dk_132 4 1 (dk_at dksX4_operand_2 4 rfl rfl)
theorem dX4_operand_53 : decode cX4_operand 53 = .ok (.aload_n 0, 1) := dk_42 (dk_at dksX4_operand_2 7 rfl rfl)
theorem dX4_operand_54 : decode cX4_operand 54 = .ok (.invokevirtual 173, 3) := dk_182 0 173 (dk_at dksX4_operand_2 8 rfl rfl)
theorem dX4_operand_57 : decode cX4_operand 57 = .ok (.ifCond .ne 6, 3) := dk_154 0 6 (dk_at dksX4_operand_2 11 rfl rfl)
theorem dX4_operand_60 : decode cX4_operand 60 = .ok (.goto (-42), 3) := dk_167 255 214 (dk_at dksX4_operand_2 14 rfl rfl)
theorem dX4_operand_63 : decode cX4_operand 63 = .ok (.aload_n 0, 1) := dk_42 (dk_at dksX4_operand_2 17 rfl rfl)
theorem dX4_operand_64 : decode cX4_operand 64 = .ok (.iconst 3, 1) := dk_6 (dk_at dksX4_operand_2 18 rfl rfl)
theorem dX4_operand_65 : decode cX4_operand 65 = .ok (.invokevirtual 211, 3) := dk_182 0 211 (dk_at dksX4_operand_2 19 rfl rfl)
theorem dX4_operand_68 : decode cX4_operand 68 = .ok (.aload_n 0, 1) := dk_42 (dk_at dksX4_operand_2 22 rfl rfl)
theorem dX4_operand_69 : decode cX4_operand 69 = .ok (.invokevirtual 177, 3) := dk_182 0 177 (dk_at dksX4_operand_3 0 rfl rfl)
theorem dX4_operand_72 : decode cX4_operand 72 = .ok (.goto (-54), 3) := dk_167 255 202 (dk_at dksX4_operand_3 3 rfl rfl)
theorem dX4_operand_75 : decode cX4_operand 75 = .ok (.aload_n 0, 1) := dk_42 (dk_at dksX4_operand_3 6 rfl rfl)
theorem dX4_operand_76 : decode cX4_operand 76 = .ok (.invokevirtual 173, 3) := dk_182 0 173 (dk_at dksX4_operand_3 7 rfl rfl)
theorem dX4_operand_79 : decode cX4_operand 79 = .ok (.ifCond .eq 16, 3) := dk_153 0 16 (dk_at dksX4_operand_3 10 rfl rfl)
theorem dX4_operand_82 : decode cX4_operand 82 = .ok (.aload_n 0, 1) := dk_42 (dk_at dksX4_operand_3 13 rfl rfl)
theorem dX4_operand_83 : decode cX4_operand 83 = .ok (.bipush 40, 2) := dk_16 40 (dk_at dksX4_operand_3 14 rfl rfl)
theorem dX4_operand_85 : decode cX4_operand 85 = .ok (.invokevirtual 208, 3) := dk_182 0 208 (dk_at dksX4_operand_3 16 rfl rfl)
theorem dX4_operand_88 : decode cX4_operand 88 = .ok (.ifCond .eq 7, 3) := dk_153 0 7 (dk_at dksX4_operand_3 19 rfl rfl)
theorem dX4_operand_91 : decode cX4_operand 91 = .ok (.iconst 1, 1) := dk_4 (dk_at dksX4_operand_3 22 rfl rfl)
theorem dX4_operand_92 : decode cX4_operand 92 = .ok (.goto 4, 3) := dk_167 0 4 (dk_at dksX4_operand_4 0 rfl rfl)
theorem dX4_operand_95 : decode cX4_operand 95 = .ok (.iconst 0, 1) := dk_3 (dk_at dksX4_operand_4 3 rfl rfl)
theorem dX4_operand_96 : decode cX4_operand 96 = .ok (.istore_n 3, 1) := dk_62 (dk_at dksX4_operand_4 4 rfl rfl)
theorem dX4_operand_97 : decode cX4_operand 97 = .ok (.iload_n 3, 1) := dk_29 (dk_at dksX4_operand_4 5 rfl rfl)
theorem dX4_operand_98 : decode cX4_operand 98 = .ok (.ifCond .eq 19, 3) := dk_153 0 19 (dk_at dksX4_operand_4 6 rfl rfl)
theorem dX4_operand_101 : decode cX4_operand 101 = .ok (.aload_n 0, 1) := dk_42 (dk_at dksX4_operand_4 9 rfl rfl)
theorem dX4_operand_102 : decode cX4_operand 102 = .ok (.bipush 14, 2) := dk_16 14 (dk_at dksX4_operand_4 10 rfl rfl)
theorem dX4_operand_104 : decode cX4_operand 104 = .ok (.invokevirtual 211, 3) := dk_182 0 211 (dk_at dksX4_operand_4 12 rfl rfl)
theorem dX4_operand_107 : decode cX4_operand 107 = .ok (.aload_n 0, 1) := dk_42 (dk_at dksX4_operand_4 15 rfl rfl)
theorem dX4_operand_108 : decode cX4_operand 108 = .ok (.invokevirtual 177, 3) := dk_182 0 177 (dk_at dksX4_operand_4 16 rfl rfl)
theorem dX4_operand_111 : decode cX4_operand 111 = .ok (.aload_n 0, 1) := dk_42 (dk_at dksX4_operand_4 19 rfl rfl)
theorem dX4_operand_112 : decode cX4_operand 112 = .ok (.invokevirtual 214, 3) := dk_182 0 214 (dk_at dksX4_operand_4 20 rfl rfl)
theorem dX4_operand_115 : decode cX4_operand 115 = .ok (.iconst 1, 1) := dk_4 (dk_at dksX4_operand_4 23 rfl rfl)
theorem dX4_operand_116 : decode cX4_operand 116 = .ok (.istore_n 2, 1) := dk_61 (dk_at dksX4_operand_5 0 rfl rfl)
theorem dX4_operand_117 : decode cX4_operand 117 = .ok (.goto (-113), 3) := dk_167 255 143 (dk_at dksX4_operand_5 1 rfl rfl)
theorem dX4_operand_120 : decode cX4_operand 120 = .ok (.aload_n 0, 1) := dk_42 (dk_at dksX4_operand_5 4 rfl rfl)
theorem dX4_operand_121 : decode cX4_operand 121 = .ok (.invokevirtual 217, 3) := dk_182 0 217 (dk_at dksX4_operand_5 5 rfl rfl)
theorem dX4_operand_124 : decode cX4_operand 124 = .ok (.return_, 1) := dk_177 (dk_at dksX4_operand_5 8 rfl rfl)
abbrev cX4_waitsFor : ByteArray := prog_12_method_29_code
def yX4_waitsFor : MethodName := ⟨RX4, "waitsFor", "(I)V"⟩
def dkwX4_waitsFor_0 : List UInt8 := [42, 180, 0, 41, 42, 180, 0, 189, 27, 79, 42, 89, 180, 0, 189, 4, 96, 181, 0, 189, 177]
abbrev dktX4_waitsFor_0 : List UInt8 := dkwX4_waitsFor_0 ++ []
theorem dksX4_waitsFor_0 : cX4_waitsFor.data.toList.drop 0 = dktX4_waitsFor_0 := by decide +kernel
theorem dX4_waitsFor_0 : decode cX4_waitsFor 0 = .ok (.aload_n 0, 1) := dk_42 (dk_at dksX4_waitsFor_0 0 rfl rfl)
theorem dX4_waitsFor_1 : decode cX4_waitsFor 1 = .ok (.getfield 41, 3) := dk_180 0 41 (dk_at dksX4_waitsFor_0 1 rfl rfl)
theorem dX4_waitsFor_4 : decode cX4_waitsFor 4 = .ok (.aload_n 0, 1) := dk_42 (dk_at dksX4_waitsFor_0 4 rfl rfl)
theorem dX4_waitsFor_5 : decode cX4_waitsFor 5 = .ok (.getfield 189, 3) := dk_180 0 189 (dk_at dksX4_waitsFor_0 5 rfl rfl)
theorem dX4_waitsFor_8 : decode cX4_waitsFor 8 = .ok (.iload_n 1, 1) := dk_27 (dk_at dksX4_waitsFor_0 8 rfl rfl)
theorem dX4_waitsFor_9 : decode cX4_waitsFor 9 = .ok (.iastore, 1) := dk_79 (dk_at dksX4_waitsFor_0 9 rfl rfl)
theorem dX4_waitsFor_10 : decode cX4_waitsFor 10 = .ok (.aload_n 0, 1) := dk_42 (dk_at dksX4_waitsFor_0 10 rfl rfl)
theorem dX4_waitsFor_11 : decode cX4_waitsFor 11 = .ok (.dup, 1) := dk_89 (dk_at dksX4_waitsFor_0 11 rfl rfl)
theorem dX4_waitsFor_12 : decode cX4_waitsFor 12 = .ok (.getfield 189, 3) := dk_180 0 189 (dk_at dksX4_waitsFor_0 12 rfl rfl)
theorem dX4_waitsFor_15 : decode cX4_waitsFor 15 = .ok (.iconst 1, 1) := dk_4 (dk_at dksX4_waitsFor_0 15 rfl rfl)
theorem dX4_waitsFor_16 : decode cX4_waitsFor 16 = .ok (.iadd, 1) := dk_96 (dk_at dksX4_waitsFor_0 16 rfl rfl)
theorem dX4_waitsFor_17 : decode cX4_waitsFor 17 = .ok (.putfield 189, 3) := dk_181 0 189 (dk_at dksX4_waitsFor_0 17 rfl rfl)
theorem dX4_waitsFor_20 : decode cX4_waitsFor 20 = .ok (.return_, 1) := dk_177 (dk_at dksX4_waitsFor_0 20 rfl rfl)
abbrev cX4_part : ByteArray := prog_12_method_30_code
def yX4_part : MethodName := ⟨RX4, "part", "()V"⟩
def dkwX4_part_4 : List UInt8 := [182, 0, 173, 153, 0, 7, 42, 182, 0, 177, 177]
abbrev dktX4_part_4 : List UInt8 := dkwX4_part_4 ++ []
def dkwX4_part_3 : List UInt8 := [182, 0, 180, 42, 5, 182, 0, 198, 42, 27, 182, 0, 198, 167, 0, 8, 42, 4, 182, 0, 180, 42]
abbrev dktX4_part_3 : List UInt8 := dkwX4_part_3 ++ dktX4_part_4
def dkwX4_part_2 : List UInt8 := [180, 0, 147, 4, 160, 0, 35, 42, 182, 0, 201, 60, 27, 155, 0, 8, 27, 8, 164, 0, 8, 42, 6]
abbrev dktX4_part_2 : List UInt8 := dkwX4_part_2 ++ dktX4_part_3
def dkwX4_part_1 : List UInt8 := [42, 5, 182, 0, 180, 42, 4, 182, 0, 198, 42, 42, 180, 0, 141, 182, 0, 198, 167, 0, 48, 42]
abbrev dktX4_part_1 : List UInt8 := dkwX4_part_1 ++ dktX4_part_2
def dkwX4_part_0 : List UInt8 := [42, 182, 0, 173, 154, 0, 4, 177, 42, 180, 0, 147, 5, 160, 0, 32, 42, 180, 0, 157, 7, 164, 0, 8]
abbrev dktX4_part_0 : List UInt8 := dkwX4_part_0 ++ dktX4_part_1
theorem dksX4_part_0 : cX4_part.data.toList.drop 0 = dktX4_part_0 := by decide +kernel
theorem dksX4_part_1 : cX4_part.data.toList.drop 24 = dktX4_part_1 := dk_seg dksX4_part_0 24 rfl rfl
theorem dksX4_part_2 : cX4_part.data.toList.drop 46 = dktX4_part_2 := dk_seg dksX4_part_1 22 rfl rfl
theorem dksX4_part_3 : cX4_part.data.toList.drop 69 = dktX4_part_3 := dk_seg dksX4_part_2 23 rfl rfl
theorem dksX4_part_4 : cX4_part.data.toList.drop 91 = dktX4_part_4 := dk_seg dksX4_part_3 22 rfl rfl
theorem dX4_part_0 : decode cX4_part 0 = .ok (.aload_n 0, 1) := dk_42 (dk_at dksX4_part_0 0 rfl rfl)
theorem dX4_part_1 : decode cX4_part 1 = .ok (.invokevirtual 173, 3) := dk_182 0 173 (dk_at dksX4_part_0 1 rfl rfl)
theorem dX4_part_4 : decode cX4_part 4 = .ok (.ifCond .ne 4, 3) := dk_154 0 4 (dk_at dksX4_part_0 4 rfl rfl)
theorem dX4_part_7 : decode cX4_part 7 = .ok (.return_, 1) := dk_177 (dk_at dksX4_part_0 7 rfl rfl)
theorem dX4_part_8 : decode cX4_part 8 = .ok (.aload_n 0, 1) := dk_42 (dk_at dksX4_part_0 8 rfl rfl)
theorem dX4_part_9 : decode cX4_part 9 = .ok (.getfield 147, 3) := dk_180 0 147 (dk_at dksX4_part_0 9 rfl rfl)
theorem dX4_part_12 : decode cX4_part 12 = .ok (.iconst 2, 1) := dk_5 (dk_at dksX4_part_0 12 rfl rfl)
theorem dX4_part_13 : decode cX4_part 13 = .ok (.if_icmp .ne 32, 3) := dk_160 0 32 (dk_at dksX4_part_0 13 rfl rfl)
theorem dX4_part_16 : decode cX4_part 16 = .ok (.aload_n 0, 1) := dk_42 (dk_at dksX4_part_0 16 rfl rfl)
theorem dX4_part_17 : decode cX4_part 17 = .ok (.getfield 157, 3) := dk_180 0 157 (dk_at dksX4_part_0 17 rfl rfl)
theorem dX4_part_20 : decode cX4_part 20 = .ok (.iconst 4, 1) := dk_7 (dk_at dksX4_part_0 20 rfl rfl)
theorem dX4_part_21 : decode cX4_part 21 = .ok (.if_icmp .le 8, 3) := dk_164 0 8 (dk_at dksX4_part_0 21 rfl rfl)
theorem dX4_part_24 : decode cX4_part 24 = .ok (.aload_n 0, 1) := dk_42 (dk_at dksX4_part_1 0 rfl rfl)
theorem dX4_part_25 : decode cX4_part 25 = .ok (.iconst 2, 1) := dk_5 (dk_at dksX4_part_1 1 rfl rfl)
theorem dX4_part_26 : decode cX4_part 26 = .ok (.invokevirtual 180, 3) := dk_182 0 180 (dk_at dksX4_part_1 2 rfl rfl)
theorem dX4_part_29 : decode cX4_part 29 = .ok (.aload_n 0, 1) := dk_42 (dk_at dksX4_part_1 5 rfl rfl)
theorem dX4_part_30 : decode cX4_part 30 = .ok (.iconst 1, 1) := dk_4 (dk_at dksX4_part_1 6 rfl rfl)
theorem dX4_part_31 : decode cX4_part 31 = .ok (.invokevirtual 198, 3) := dk_182 0 198 (dk_at dksX4_part_1 7 rfl rfl)
theorem dX4_part_34 : decode cX4_part 34 = .ok (.aload_n 0, 1) := dk_42 (dk_at dksX4_part_1 10 rfl rfl)
theorem dX4_part_35 : decode cX4_part 35 = .ok (.aload_n 0, 1) := dk_42 (dk_at dksX4_part_1 11 rfl rfl)
theorem dX4_part_36 : decode cX4_part 36 = .ok (.getfield 141, 3) := dk_180 0 141 (dk_at dksX4_part_1 12 rfl rfl)
theorem dX4_part_39 : decode cX4_part 39 = .ok (.invokevirtual 198, 3) := dk_182 0 198 (dk_at dksX4_part_1 15 rfl rfl)
theorem dX4_part_42 : decode cX4_part 42 = .ok (.goto 48, 3) := dk_167 0 48 (dk_at dksX4_part_1 18 rfl rfl)
theorem dX4_part_45 : decode cX4_part 45 = .ok (.aload_n 0, 1) := dk_42 (dk_at dksX4_part_1 21 rfl rfl)
theorem dX4_part_46 : decode cX4_part 46 = .ok (.getfield 147, 3) := dk_180 0 147 (dk_at dksX4_part_2 0 rfl rfl)
theorem dX4_part_49 : decode cX4_part 49 = .ok (.iconst 1, 1) := dk_4 (dk_at dksX4_part_2 3 rfl rfl)
theorem dX4_part_50 : decode cX4_part 50 = .ok (.if_icmp .ne 35, 3) := dk_160 0 35 (dk_at dksX4_part_2 4 rfl rfl)
theorem dX4_part_53 : decode cX4_part 53 = .ok (.aload_n 0, 1) := dk_42 (dk_at dksX4_part_2 7 rfl rfl)
theorem dX4_part_54 : decode cX4_part 54 = .ok (.invokevirtual 201, 3) := dk_182 0 201 (dk_at dksX4_part_2 8 rfl rfl)
theorem dX4_part_57 : decode cX4_part 57 = .ok (.istore_n 1, 1) := dk_60 (dk_at dksX4_part_2 11 rfl rfl)
theorem dX4_part_58 : decode cX4_part 58 = .ok (.iload_n 1, 1) := dk_27 (dk_at dksX4_part_2 12 rfl rfl)
theorem dX4_part_59 : decode cX4_part 59 = .ok (.ifCond .lt 8, 3) := dk_155 0 8 (dk_at dksX4_part_2 13 rfl rfl)
theorem dX4_part_62 : decode cX4_part 62 = .ok (.iload_n 1, 1) := dk_27 (dk_at dksX4_part_2 16 rfl rfl)
theorem dX4_part_63 : decode cX4_part 63 = .ok (.iconst 5, 1) := dk_8 (dk_at dksX4_part_2 17 rfl rfl)
theorem dX4_part_64 : decode cX4_part 64 = .ok (.if_icmp .le 8, 3) := dk_164 0 8 (dk_at dksX4_part_2 18 rfl rfl)
theorem dX4_part_67 : decode cX4_part 67 = .ok (.aload_n 0, 1) := dk_42 (dk_at dksX4_part_2 21 rfl rfl)
theorem dX4_part_68 : decode cX4_part 68 = .ok (.iconst 3, 1) := dk_6 (dk_at dksX4_part_2 22 rfl rfl)
theorem dX4_part_69 : decode cX4_part 69 = .ok (.invokevirtual 180, 3) := dk_182 0 180 (dk_at dksX4_part_3 0 rfl rfl)
theorem dX4_part_72 : decode cX4_part 72 = .ok (.aload_n 0, 1) := dk_42 (dk_at dksX4_part_3 3 rfl rfl)
theorem dX4_part_73 : decode cX4_part 73 = .ok (.iconst 2, 1) := dk_5 (dk_at dksX4_part_3 4 rfl rfl)
theorem dX4_part_74 : decode cX4_part 74 = .ok (.invokevirtual 198, 3) := dk_182 0 198 (dk_at dksX4_part_3 5 rfl rfl)
theorem dX4_part_77 : decode cX4_part 77 = .ok (.aload_n 0, 1) := dk_42 (dk_at dksX4_part_3 8 rfl rfl)
theorem dX4_part_78 : decode cX4_part 78 = .ok (.iload_n 1, 1) := dk_27 (dk_at dksX4_part_3 9 rfl rfl)
theorem dX4_part_79 : decode cX4_part 79 = .ok (.invokevirtual 198, 3) := dk_182 0 198 (dk_at dksX4_part_3 10 rfl rfl)
theorem dX4_part_82 : decode cX4_part 82 = .ok (.goto 8, 3) := dk_167 0 8 (dk_at dksX4_part_3 13 rfl rfl)
theorem dX4_part_85 : decode cX4_part 85 = .ok (.aload_n 0, 1) := dk_42 (dk_at dksX4_part_3 16 rfl rfl)
theorem dX4_part_86 : decode cX4_part 86 = .ok (.iconst 1, 1) := dk_4 (dk_at dksX4_part_3 17 rfl rfl)
theorem dX4_part_87 : decode cX4_part 87 = .ok (.invokevirtual 180, 3) := dk_182 0 180 (dk_at dksX4_part_3 18 rfl rfl)
theorem dX4_part_90 : decode cX4_part 90 = .ok (.aload_n 0, 1) := dk_42 (dk_at dksX4_part_3 21 rfl rfl)
theorem dX4_part_91 : decode cX4_part 91 = .ok (.invokevirtual 173, 3) := dk_182 0 173 (dk_at dksX4_part_4 0 rfl rfl)
theorem dX4_part_94 : decode cX4_part 94 = .ok (.ifCond .eq 7, 3) := dk_153 0 7 (dk_at dksX4_part_4 3 rfl rfl)
theorem dX4_part_97 : decode cX4_part 97 = .ok (.aload_n 0, 1) := dk_42 (dk_at dksX4_part_4 6 rfl rfl)
theorem dX4_part_98 : decode cX4_part 98 = .ok (.invokevirtual 177, 3) := dk_182 0 177 (dk_at dksX4_part_4 7 rfl rfl)
theorem dX4_part_101 : decode cX4_part 101 = .ok (.return_, 1) := dk_177 (dk_at dksX4_part_4 10 rfl rfl)
abbrev cX4_puts : ByteArray := prog_12_method_25_code
def yX4_puts : MethodName := ⟨RX4, "puts", "(I)V"⟩
def dkwX4_puts_0 : List UInt8 := [42, 180, 0, 38, 42, 180, 0, 186, 27, 79, 42, 89, 180, 0, 186, 4, 96, 181, 0, 186, 177]
abbrev dktX4_puts_0 : List UInt8 := dkwX4_puts_0 ++ []
theorem dksX4_puts_0 : cX4_puts.data.toList.drop 0 = dktX4_puts_0 := by decide +kernel
theorem dX4_puts_0 : decode cX4_puts 0 = .ok (.aload_n 0, 1) := dk_42 (dk_at dksX4_puts_0 0 rfl rfl)
theorem dX4_puts_1 : decode cX4_puts 1 = .ok (.getfield 38, 3) := dk_180 0 38 (dk_at dksX4_puts_0 1 rfl rfl)
theorem dX4_puts_4 : decode cX4_puts 4 = .ok (.aload_n 0, 1) := dk_42 (dk_at dksX4_puts_0 4 rfl rfl)
theorem dX4_puts_5 : decode cX4_puts 5 = .ok (.getfield 186, 3) := dk_180 0 186 (dk_at dksX4_puts_0 5 rfl rfl)
theorem dX4_puts_8 : decode cX4_puts 8 = .ok (.iload_n 1, 1) := dk_27 (dk_at dksX4_puts_0 8 rfl rfl)
theorem dX4_puts_9 : decode cX4_puts 9 = .ok (.iastore, 1) := dk_79 (dk_at dksX4_puts_0 9 rfl rfl)
theorem dX4_puts_10 : decode cX4_puts 10 = .ok (.aload_n 0, 1) := dk_42 (dk_at dksX4_puts_0 10 rfl rfl)
theorem dX4_puts_11 : decode cX4_puts 11 = .ok (.dup, 1) := dk_89 (dk_at dksX4_puts_0 11 rfl rfl)
theorem dX4_puts_12 : decode cX4_puts 12 = .ok (.getfield 186, 3) := dk_180 0 186 (dk_at dksX4_puts_0 12 rfl rfl)
theorem dX4_puts_15 : decode cX4_puts 15 = .ok (.iconst 1, 1) := dk_4 (dk_at dksX4_puts_0 15 rfl rfl)
theorem dX4_puts_16 : decode cX4_puts 16 = .ok (.iadd, 1) := dk_96 (dk_at dksX4_puts_0 16 rfl rfl)
theorem dX4_puts_17 : decode cX4_puts 17 = .ok (.putfield 186, 3) := dk_181 0 186 (dk_at dksX4_puts_0 17 rfl rfl)
theorem dX4_puts_20 : decode cX4_puts 20 = .ok (.return_, 1) := dk_177 (dk_at dksX4_puts_0 20 rfl rfl)
abbrev cX4_drops : ByteArray := prog_12_method_28_code
def yX4_drops : MethodName := ⟨RX4, "drops", "(I)V"⟩
def dkwX4_drops_2 : List UInt8 := [100, 181, 0, 189, 42, 42, 180, 0, 41, 42, 180, 0, 189, 46, 182, 0, 198, 167, 255, 191, 177]
abbrev dktX4_drops_2 : List UInt8 := dkwX4_drops_2 ++ []
def dkwX4_drops_1 : List UInt8 := [42, 180, 0, 41, 42, 180, 0, 189, 4, 100, 46, 184, 0, 195, 27, 161, 0, 29, 42, 89, 180, 0, 189, 4]
abbrev dktX4_drops_1 : List UInt8 := dkwX4_drops_1 ++ dktX4_drops_2
def dkwX4_drops_0 : List UInt8 := [42, 180, 0, 189, 158, 0, 64, 42, 180, 0, 41, 42, 180, 0, 189, 4, 100, 46, 184, 0, 192, 154, 0, 47]
abbrev dktX4_drops_0 : List UInt8 := dkwX4_drops_0 ++ dktX4_drops_1
theorem dksX4_drops_0 : cX4_drops.data.toList.drop 0 = dktX4_drops_0 := by decide +kernel
theorem dksX4_drops_1 : cX4_drops.data.toList.drop 24 = dktX4_drops_1 := dk_seg dksX4_drops_0 24 rfl rfl
theorem dksX4_drops_2 : cX4_drops.data.toList.drop 48 = dktX4_drops_2 := dk_seg dksX4_drops_1 24 rfl rfl
theorem dX4_drops_0 : decode cX4_drops 0 = .ok (.aload_n 0, 1) := dk_42 (dk_at dksX4_drops_0 0 rfl rfl)
theorem dX4_drops_1 : decode cX4_drops 1 = .ok (.getfield 189, 3) := dk_180 0 189 (dk_at dksX4_drops_0 1 rfl rfl)
theorem dX4_drops_4 : decode cX4_drops 4 = .ok (.ifCond .le 64, 3) := dk_158 0 64 (dk_at dksX4_drops_0 4 rfl rfl)
theorem dX4_drops_7 : decode cX4_drops 7 = .ok (.aload_n 0, 1) := dk_42 (dk_at dksX4_drops_0 7 rfl rfl)
theorem dX4_drops_8 : decode cX4_drops 8 = .ok (.getfield 41, 3) := dk_180 0 41 (dk_at dksX4_drops_0 8 rfl rfl)
theorem dX4_drops_11 : decode cX4_drops 11 = .ok (.aload_n 0, 1) := dk_42 (dk_at dksX4_drops_0 11 rfl rfl)
theorem dX4_drops_12 : decode cX4_drops 12 = .ok (.getfield 189, 3) := dk_180 0 189 (dk_at dksX4_drops_0 12 rfl rfl)
theorem dX4_drops_15 : decode cX4_drops 15 = .ok (.iconst 1, 1) := dk_4 (dk_at dksX4_drops_0 15 rfl rfl)
theorem dX4_drops_16 : decode cX4_drops 16 = .ok (.isub, 1) := dk_100 (dk_at dksX4_drops_0 16 rfl rfl)
theorem dX4_drops_17 : decode cX4_drops 17 = .ok (.iaload, 1) := dk_46 (dk_at dksX4_drops_0 17 rfl rfl)
theorem dX4_drops_18 : decode cX4_drops 18 = .ok (.invokestatic 192, 3) := dk_184 0 192 (dk_at dksX4_drops_0 18 rfl rfl)
theorem dX4_drops_21 : decode cX4_drops 21 = .ok (.ifCond .ne 47, 3) := dk_154 0 47 (dk_at dksX4_drops_0 21 rfl rfl)
theorem dX4_drops_24 : decode cX4_drops 24 = .ok (.aload_n 0, 1) := dk_42 (dk_at dksX4_drops_1 0 rfl rfl)
theorem dX4_drops_25 : decode cX4_drops 25 = .ok (.getfield 41, 3) := dk_180 0 41 (dk_at dksX4_drops_1 1 rfl rfl)
theorem dX4_drops_28 : decode cX4_drops 28 = .ok (.aload_n 0, 1) := dk_42 (dk_at dksX4_drops_1 4 rfl rfl)
theorem dX4_drops_29 : decode cX4_drops 29 = .ok (.getfield 189, 3) := dk_180 0 189 (dk_at dksX4_drops_1 5 rfl rfl)
theorem dX4_drops_32 : decode cX4_drops 32 = .ok (.iconst 1, 1) := dk_4 (dk_at dksX4_drops_1 8 rfl rfl)
theorem dX4_drops_33 : decode cX4_drops 33 = .ok (.isub, 1) := dk_100 (dk_at dksX4_drops_1 9 rfl rfl)
theorem dX4_drops_34 : decode cX4_drops 34 = .ok (.iaload, 1) := dk_46 (dk_at dksX4_drops_1 10 rfl rfl)
theorem dX4_drops_35 : decode cX4_drops 35 = .ok (.invokestatic 195, 3) := dk_184 0 195 (dk_at dksX4_drops_1 11 rfl rfl)
theorem dX4_drops_38 : decode cX4_drops 38 = .ok (.iload_n 1, 1) := dk_27 (dk_at dksX4_drops_1 14 rfl rfl)
theorem dX4_drops_39 : decode cX4_drops 39 = .ok (.if_icmp .lt 29, 3) := dk_161 0 29 (dk_at dksX4_drops_1 15 rfl rfl)
theorem dX4_drops_42 : decode cX4_drops 42 = .ok (.aload_n 0, 1) := dk_42 (dk_at dksX4_drops_1 18 rfl rfl)
theorem dX4_drops_43 : decode cX4_drops 43 = .ok (.dup, 1) := dk_89 (dk_at dksX4_drops_1 19 rfl rfl)
theorem dX4_drops_44 : decode cX4_drops 44 = .ok (.getfield 189, 3) := dk_180 0 189 (dk_at dksX4_drops_1 20 rfl rfl)
theorem dX4_drops_47 : decode cX4_drops 47 = .ok (.iconst 1, 1) := dk_4 (dk_at dksX4_drops_1 23 rfl rfl)
theorem dX4_drops_48 : decode cX4_drops 48 = .ok (.isub, 1) := dk_100 (dk_at dksX4_drops_2 0 rfl rfl)
theorem dX4_drops_49 : decode cX4_drops 49 = .ok (.putfield 189, 3) := dk_181 0 189 (dk_at dksX4_drops_2 1 rfl rfl)
theorem dX4_drops_52 : decode cX4_drops 52 = .ok (.aload_n 0, 1) := dk_42 (dk_at dksX4_drops_2 4 rfl rfl)
theorem dX4_drops_53 : decode cX4_drops 53 = .ok (.aload_n 0, 1) := dk_42 (dk_at dksX4_drops_2 5 rfl rfl)
theorem dX4_drops_54 : decode cX4_drops 54 = .ok (.getfield 41, 3) := dk_180 0 41 (dk_at dksX4_drops_2 6 rfl rfl)
theorem dX4_drops_57 : decode cX4_drops 57 = .ok (.aload_n 0, 1) := dk_42 (dk_at dksX4_drops_2 9 rfl rfl)
theorem dX4_drops_58 : decode cX4_drops 58 = .ok (.getfield 189, 3) := dk_180 0 189 (dk_at dksX4_drops_2 10 rfl rfl)
theorem dX4_drops_61 : decode cX4_drops 61 = .ok (.iaload, 1) := dk_46 (dk_at dksX4_drops_2 13 rfl rfl)
theorem dX4_drops_62 : decode cX4_drops 62 = .ok (.invokevirtual 198, 3) := dk_182 0 198 (dk_at dksX4_drops_2 14 rfl rfl)
theorem dX4_drops_65 : decode cX4_drops 65 = .ok (.goto (-65), 3) := dk_167 255 191 (dk_at dksX4_drops_2 17 rfl rfl)
theorem dX4_drops_68 : decode cX4_drops 68 = .ok (.return_, 1) := dk_177 (dk_at dksX4_drops_2 20 rfl rfl)
abbrev cX4_isOpen : ByteArray := prog_12_method_26_code
def yX4_isOpen : MethodName := ⟨RX4, "isOpen", "(I)Z"⟩
def dkwX4_isOpen_0 : List UInt8 := [26, 16, 14, 161, 0, 7, 4, 167, 0, 4, 3, 172]
abbrev dktX4_isOpen_0 : List UInt8 := dkwX4_isOpen_0 ++ []
theorem dksX4_isOpen_0 : cX4_isOpen.data.toList.drop 0 = dktX4_isOpen_0 := by decide +kernel
theorem dX4_isOpen_0 : decode cX4_isOpen 0 = .ok (.iload_n 0, 1) := dk_26 (dk_at dksX4_isOpen_0 0 rfl rfl)
theorem dX4_isOpen_1 : decode cX4_isOpen 1 = .ok (.bipush 14, 2) := dk_16 14 (dk_at dksX4_isOpen_0 1 rfl rfl)
theorem dX4_isOpen_3 : decode cX4_isOpen 3 = .ok (.if_icmp .lt 7, 3) := dk_161 0 7 (dk_at dksX4_isOpen_0 3 rfl rfl)
theorem dX4_isOpen_6 : decode cX4_isOpen 6 = .ok (.iconst 1, 1) := dk_4 (dk_at dksX4_isOpen_0 6 rfl rfl)
theorem dX4_isOpen_7 : decode cX4_isOpen 7 = .ok (.goto 4, 3) := dk_167 0 4 (dk_at dksX4_isOpen_0 7 rfl rfl)
theorem dX4_isOpen_10 : decode cX4_isOpen 10 = .ok (.iconst 0, 1) := dk_3 (dk_at dksX4_isOpen_0 10 rfl rfl)
theorem dX4_isOpen_11 : decode cX4_isOpen 11 = .ok (.ireturn, 1) := dk_172 (dk_at dksX4_isOpen_0 11 rfl rfl)
abbrev cX4_strength : ByteArray := prog_12_method_27_code
def yX4_strength : MethodName := ⟨RX4, "strength", "(I)I"⟩
def dkwX4_strength_2 : List UInt8 := [159, 0, 9, 26, 16, 9, 160, 0, 7, 8, 167, 0, 5, 16, 6, 172]
abbrev dktX4_strength_2 : List UInt8 := dkwX4_strength_2 ++ []
def dkwX4_strength_1 : List UInt8 := [167, 0, 37, 26, 16, 6, 159, 0, 9, 26, 16, 7, 160, 0, 7, 7, 167, 0, 21, 26, 16, 8]
abbrev dktX4_strength_1 : List UInt8 := dkwX4_strength_1 ++ dktX4_strength_2
def dkwX4_strength_0 : List UInt8 := [26, 8, 160, 0, 7, 4, 167, 0, 55, 26, 7, 160, 0, 7, 5, 167, 0, 46, 26, 6, 160, 0, 7, 6]
abbrev dktX4_strength_0 : List UInt8 := dkwX4_strength_0 ++ dktX4_strength_1
theorem dksX4_strength_0 : cX4_strength.data.toList.drop 0 = dktX4_strength_0 := by decide +kernel
theorem dksX4_strength_1 : cX4_strength.data.toList.drop 24 = dktX4_strength_1 := dk_seg dksX4_strength_0 24 rfl rfl
theorem dksX4_strength_2 : cX4_strength.data.toList.drop 46 = dktX4_strength_2 := dk_seg dksX4_strength_1 22 rfl rfl
theorem dX4_strength_0 : decode cX4_strength 0 = .ok (.iload_n 0, 1) := dk_26 (dk_at dksX4_strength_0 0 rfl rfl)
theorem dX4_strength_1 : decode cX4_strength 1 = .ok (.iconst 5, 1) := dk_8 (dk_at dksX4_strength_0 1 rfl rfl)
theorem dX4_strength_2 : decode cX4_strength 2 = .ok (.if_icmp .ne 7, 3) := dk_160 0 7 (dk_at dksX4_strength_0 2 rfl rfl)
theorem dX4_strength_5 : decode cX4_strength 5 = .ok (.iconst 1, 1) := dk_4 (dk_at dksX4_strength_0 5 rfl rfl)
theorem dX4_strength_6 : decode cX4_strength 6 = .ok (.goto 55, 3) := dk_167 0 55 (dk_at dksX4_strength_0 6 rfl rfl)
theorem dX4_strength_9 : decode cX4_strength 9 = .ok (.iload_n 0, 1) := dk_26 (dk_at dksX4_strength_0 9 rfl rfl)
theorem dX4_strength_10 : decode cX4_strength 10 = .ok (.iconst 4, 1) := dk_7 (dk_at dksX4_strength_0 10 rfl rfl)
theorem dX4_strength_11 : decode cX4_strength 11 = .ok (.if_icmp .ne 7, 3) := dk_160 0 7 (dk_at dksX4_strength_0 11 rfl rfl)
theorem dX4_strength_14 : decode cX4_strength 14 = .ok (.iconst 2, 1) := dk_5 (dk_at dksX4_strength_0 14 rfl rfl)
theorem dX4_strength_15 : decode cX4_strength 15 = .ok (.goto 46, 3) := dk_167 0 46 (dk_at dksX4_strength_0 15 rfl rfl)
theorem dX4_strength_18 : decode cX4_strength 18 = .ok (.iload_n 0, 1) := dk_26 (dk_at dksX4_strength_0 18 rfl rfl)
theorem dX4_strength_19 : decode cX4_strength 19 = .ok (.iconst 3, 1) := dk_6 (dk_at dksX4_strength_0 19 rfl rfl)
theorem dX4_strength_20 : decode cX4_strength 20 = .ok (.if_icmp .ne 7, 3) := dk_160 0 7 (dk_at dksX4_strength_0 20 rfl rfl)
theorem dX4_strength_23 : decode cX4_strength 23 = .ok (.iconst 3, 1) := dk_6 (dk_at dksX4_strength_0 23 rfl rfl)
theorem dX4_strength_24 : decode cX4_strength 24 = .ok (.goto 37, 3) := dk_167 0 37 (dk_at dksX4_strength_1 0 rfl rfl)
theorem dX4_strength_27 : decode cX4_strength 27 = .ok (.iload_n 0, 1) := dk_26 (dk_at dksX4_strength_1 3 rfl rfl)
theorem dX4_strength_28 : decode cX4_strength 28 = .ok (.bipush 6, 2) := dk_16 6 (dk_at dksX4_strength_1 4 rfl rfl)
theorem dX4_strength_30 : decode cX4_strength 30 = .ok (.if_icmp .eq 9, 3) := dk_159 0 9 (dk_at dksX4_strength_1 6 rfl rfl)
theorem dX4_strength_33 : decode cX4_strength 33 = .ok (.iload_n 0, 1) := dk_26 (dk_at dksX4_strength_1 9 rfl rfl)
theorem dX4_strength_34 : decode cX4_strength 34 = .ok (.bipush 7, 2) := dk_16 7 (dk_at dksX4_strength_1 10 rfl rfl)
theorem dX4_strength_36 : decode cX4_strength 36 = .ok (.if_icmp .ne 7, 3) := dk_160 0 7 (dk_at dksX4_strength_1 12 rfl rfl)
theorem dX4_strength_39 : decode cX4_strength 39 = .ok (.iconst 4, 1) := dk_7 (dk_at dksX4_strength_1 15 rfl rfl)
theorem dX4_strength_40 : decode cX4_strength 40 = .ok (.goto 21, 3) := dk_167 0 21 (dk_at dksX4_strength_1 16 rfl rfl)
theorem dX4_strength_43 : decode cX4_strength 43 = .ok (.iload_n 0, 1) := dk_26 (dk_at dksX4_strength_1 19 rfl rfl)
theorem dX4_strength_44 : decode cX4_strength 44 = .ok (.bipush 8, 2) := dk_16 8 (dk_at dksX4_strength_1 20 rfl rfl)
theorem dX4_strength_46 : decode cX4_strength 46 = .ok (.if_icmp .eq 9, 3) := dk_159 0 9 (dk_at dksX4_strength_2 0 rfl rfl)
theorem dX4_strength_49 : decode cX4_strength 49 = .ok (.iload_n 0, 1) := dk_26 (dk_at dksX4_strength_2 3 rfl rfl)
theorem dX4_strength_50 : decode cX4_strength 50 = .ok (.bipush 9, 2) := dk_16 9 (dk_at dksX4_strength_2 4 rfl rfl)
theorem dX4_strength_52 : decode cX4_strength 52 = .ok (.if_icmp .ne 7, 3) := dk_160 0 7 (dk_at dksX4_strength_2 6 rfl rfl)
theorem dX4_strength_55 : decode cX4_strength 55 = .ok (.iconst 5, 1) := dk_8 (dk_at dksX4_strength_2 9 rfl rfl)
theorem dX4_strength_56 : decode cX4_strength 56 = .ok (.goto 5, 3) := dk_167 0 5 (dk_at dksX4_strength_2 10 rfl rfl)
theorem dX4_strength_59 : decode cX4_strength 59 = .ok (.bipush 6, 2) := dk_16 6 (dk_at dksX4_strength_2 13 rfl rfl)
theorem dX4_strength_61 : decode cX4_strength 61 = .ok (.ireturn, 1) := dk_172 (dk_at dksX4_strength_2 15 rfl rfl)
abbrev cX4_isOpened : ByteArray := prog_12_method_33_code
def yX4_isOpened : MethodName := ⟨RX4, "isOpened", "()Z"⟩
def dkwX4_isOpened_1 : List UInt8 := [132, 1, 255, 167, 255, 237, 27, 155, 0, 7, 4, 167, 0, 4, 3, 172]
abbrev dktX4_isOpened_1 : List UInt8 := dkwX4_isOpened_1 ++ []
def dkwX4_isOpened_0 : List UInt8 := [42, 180, 0, 189, 4, 100, 60, 27, 155, 0, 21, 42, 180, 0, 41, 27, 46, 184, 0, 192, 154, 0, 9]
abbrev dktX4_isOpened_0 : List UInt8 := dkwX4_isOpened_0 ++ dktX4_isOpened_1
theorem dksX4_isOpened_0 : cX4_isOpened.data.toList.drop 0 = dktX4_isOpened_0 := by decide +kernel
theorem dksX4_isOpened_1 : cX4_isOpened.data.toList.drop 23 = dktX4_isOpened_1 := dk_seg dksX4_isOpened_0 23 rfl rfl
theorem dX4_isOpened_0 : decode cX4_isOpened 0 = .ok (.aload_n 0, 1) := dk_42 (dk_at dksX4_isOpened_0 0 rfl rfl)
theorem dX4_isOpened_1 : decode cX4_isOpened 1 = .ok (.getfield 189, 3) := dk_180 0 189 (dk_at dksX4_isOpened_0 1 rfl rfl)
theorem dX4_isOpened_4 : decode cX4_isOpened 4 = .ok (.iconst 1, 1) := dk_4 (dk_at dksX4_isOpened_0 4 rfl rfl)
theorem dX4_isOpened_5 : decode cX4_isOpened 5 = .ok (.isub, 1) := dk_100 (dk_at dksX4_isOpened_0 5 rfl rfl)
theorem dX4_isOpened_6 : decode cX4_isOpened 6 = .ok (.istore_n 1, 1) := dk_60 (dk_at dksX4_isOpened_0 6 rfl rfl)
theorem dX4_isOpened_7 : decode cX4_isOpened 7 = .ok (.iload_n 1, 1) := dk_27 (dk_at dksX4_isOpened_0 7 rfl rfl)
theorem dX4_isOpened_8 : decode cX4_isOpened 8 = .ok (.ifCond .lt 21, 3) := dk_155 0 21 (dk_at dksX4_isOpened_0 8 rfl rfl)
theorem dX4_isOpened_11 : decode cX4_isOpened 11 = .ok (.aload_n 0, 1) := dk_42 (dk_at dksX4_isOpened_0 11 rfl rfl)
theorem dX4_isOpened_12 : decode cX4_isOpened 12 = .ok (.getfield 41, 3) := dk_180 0 41 (dk_at dksX4_isOpened_0 12 rfl rfl)
theorem dX4_isOpened_15 : decode cX4_isOpened 15 = .ok (.iload_n 1, 1) := dk_27 (dk_at dksX4_isOpened_0 15 rfl rfl)
theorem dX4_isOpened_16 : decode cX4_isOpened 16 = .ok (.iaload, 1) := dk_46 (dk_at dksX4_isOpened_0 16 rfl rfl)
theorem dX4_isOpened_17 : decode cX4_isOpened 17 = .ok (.invokestatic 192, 3) := dk_184 0 192 (dk_at dksX4_isOpened_0 17 rfl rfl)
theorem dX4_isOpened_20 : decode cX4_isOpened 20 = .ok (.ifCond .ne 9, 3) := dk_154 0 9 (dk_at dksX4_isOpened_0 20 rfl rfl)
theorem dX4_isOpened_23 : decode cX4_isOpened 23 = .ok (.iinc 1 (-1), 3) := dk_132 1 255 (dk_at dksX4_isOpened_1 0 rfl rfl)
theorem dX4_isOpened_26 : decode cX4_isOpened 26 = .ok (.goto (-19), 3) := dk_167 255 237 (dk_at dksX4_isOpened_1 3 rfl rfl)
theorem dX4_isOpened_29 : decode cX4_isOpened 29 = .ok (.iload_n 1, 1) := dk_27 (dk_at dksX4_isOpened_1 6 rfl rfl)
theorem dX4_isOpened_30 : decode cX4_isOpened 30 = .ok (.ifCond .lt 7, 3) := dk_155 0 7 (dk_at dksX4_isOpened_1 7 rfl rfl)
theorem dX4_isOpened_33 : decode cX4_isOpened 33 = .ok (.iconst 1, 1) := dk_4 (dk_at dksX4_isOpened_1 10 rfl rfl)
theorem dX4_isOpened_34 : decode cX4_isOpened 34 = .ok (.goto 4, 3) := dk_167 0 4 (dk_at dksX4_isOpened_1 11 rfl rfl)
theorem dX4_isOpened_37 : decode cX4_isOpened 37 = .ok (.iconst 0, 1) := dk_3 (dk_at dksX4_isOpened_1 14 rfl rfl)
theorem dX4_isOpened_38 : decode cX4_isOpened 38 = .ok (.ireturn, 1) := dk_172 (dk_at dksX4_isOpened_1 15 rfl rfl)
abbrev cX4_closes : ByteArray := prog_12_method_34_code
def yX4_closes : MethodName := ⟨RX4, "closes", "()V"⟩
def dkwX4_closes_1 : List UInt8 := [181, 0, 205, 42, 182, 0, 177, 177]
abbrev dktX4_closes_1 : List UInt8 := dkwX4_closes_1 ++ []
def dkwX4_closes_0 : List UInt8 := [42, 3, 182, 0, 220, 42, 89, 180, 0, 189, 4, 100, 181, 0, 189, 42, 89, 180, 0, 205, 4, 100]
abbrev dktX4_closes_0 : List UInt8 := dkwX4_closes_0 ++ dktX4_closes_1
theorem dksX4_closes_0 : cX4_closes.data.toList.drop 0 = dktX4_closes_0 := by decide +kernel
theorem dksX4_closes_1 : cX4_closes.data.toList.drop 22 = dktX4_closes_1 := dk_seg dksX4_closes_0 22 rfl rfl
theorem dX4_closes_0 : decode cX4_closes 0 = .ok (.aload_n 0, 1) := dk_42 (dk_at dksX4_closes_0 0 rfl rfl)
theorem dX4_closes_1 : decode cX4_closes 1 = .ok (.iconst 0, 1) := dk_3 (dk_at dksX4_closes_0 1 rfl rfl)
theorem dX4_closes_2 : decode cX4_closes 2 = .ok (.invokevirtual 220, 3) := dk_182 0 220 (dk_at dksX4_closes_0 2 rfl rfl)
theorem dX4_closes_5 : decode cX4_closes 5 = .ok (.aload_n 0, 1) := dk_42 (dk_at dksX4_closes_0 5 rfl rfl)
theorem dX4_closes_6 : decode cX4_closes 6 = .ok (.dup, 1) := dk_89 (dk_at dksX4_closes_0 6 rfl rfl)
theorem dX4_closes_7 : decode cX4_closes 7 = .ok (.getfield 189, 3) := dk_180 0 189 (dk_at dksX4_closes_0 7 rfl rfl)
theorem dX4_closes_10 : decode cX4_closes 10 = .ok (.iconst 1, 1) := dk_4 (dk_at dksX4_closes_0 10 rfl rfl)
theorem dX4_closes_11 : decode cX4_closes 11 = .ok (.isub, 1) := dk_100 (dk_at dksX4_closes_0 11 rfl rfl)
theorem dX4_closes_12 : decode cX4_closes 12 = .ok (.putfield 189, 3) := dk_181 0 189 (dk_at dksX4_closes_0 12 rfl rfl)
theorem dX4_closes_15 : decode cX4_closes 15 = .ok (.aload_n 0, 1) := dk_42 (dk_at dksX4_closes_0 15 rfl rfl)
theorem dX4_closes_16 : decode cX4_closes 16 = .ok (.dup, 1) := dk_89 (dk_at dksX4_closes_0 16 rfl rfl)
theorem dX4_closes_17 : decode cX4_closes 17 = .ok (.getfield 205, 3) := dk_180 0 205 (dk_at dksX4_closes_0 17 rfl rfl)
theorem dX4_closes_20 : decode cX4_closes 20 = .ok (.iconst 1, 1) := dk_4 (dk_at dksX4_closes_0 20 rfl rfl)
theorem dX4_closes_21 : decode cX4_closes 21 = .ok (.isub, 1) := dk_100 (dk_at dksX4_closes_0 21 rfl rfl)
theorem dX4_closes_22 : decode cX4_closes 22 = .ok (.putfield 205, 3) := dk_181 0 205 (dk_at dksX4_closes_1 0 rfl rfl)
theorem dX4_closes_25 : decode cX4_closes 25 = .ok (.aload_n 0, 1) := dk_42 (dk_at dksX4_closes_1 3 rfl rfl)
theorem dX4_closes_26 : decode cX4_closes 26 = .ok (.invokevirtual 177, 3) := dk_182 0 177 (dk_at dksX4_closes_1 4 rfl rfl)
theorem dX4_closes_29 : decode cX4_closes 29 = .ok (.return_, 1) := dk_177 (dk_at dksX4_closes_1 7 rfl rfl)
abbrev cX4_need : ByteArray := prog_12_method_22_code
def yX4_need : MethodName := ⟨RX4, "need", "(Z)V"⟩
def dkwX4_need_1 : List UInt8 := [177]
abbrev dktX4_need_1 : List UInt8 := dkwX4_need_1 ++ []
def dkwX4_need_0 : List UInt8 := [42, 182, 0, 173, 154, 0, 4, 177, 27, 153, 0, 10, 42, 182, 0, 177, 167, 0, 8, 42, 4, 182, 0, 180]
abbrev dktX4_need_0 : List UInt8 := dkwX4_need_0 ++ dktX4_need_1
theorem dksX4_need_0 : cX4_need.data.toList.drop 0 = dktX4_need_0 := by decide +kernel
theorem dksX4_need_1 : cX4_need.data.toList.drop 24 = dktX4_need_1 := dk_seg dksX4_need_0 24 rfl rfl
theorem dX4_need_0 : decode cX4_need 0 = .ok (.aload_n 0, 1) := dk_42 (dk_at dksX4_need_0 0 rfl rfl)
theorem dX4_need_1 : decode cX4_need 1 = .ok (.invokevirtual 173, 3) := dk_182 0 173 (dk_at dksX4_need_0 1 rfl rfl)
theorem dX4_need_4 : decode cX4_need 4 = .ok (.ifCond .ne 4, 3) := dk_154 0 4 (dk_at dksX4_need_0 4 rfl rfl)
theorem dX4_need_7 : decode cX4_need 7 = .ok (.return_, 1) := dk_177 (dk_at dksX4_need_0 7 rfl rfl)
theorem dX4_need_8 : decode cX4_need 8 = .ok (.iload_n 1, 1) := dk_27 (dk_at dksX4_need_0 8 rfl rfl)
theorem dX4_need_9 : decode cX4_need 9 = .ok (.ifCond .eq 10, 3) := dk_153 0 10 (dk_at dksX4_need_0 9 rfl rfl)
theorem dX4_need_12 : decode cX4_need 12 = .ok (.aload_n 0, 1) := dk_42 (dk_at dksX4_need_0 12 rfl rfl)
theorem dX4_need_13 : decode cX4_need 13 = .ok (.invokevirtual 177, 3) := dk_182 0 177 (dk_at dksX4_need_0 13 rfl rfl)
theorem dX4_need_16 : decode cX4_need 16 = .ok (.goto 8, 3) := dk_167 0 8 (dk_at dksX4_need_0 16 rfl rfl)
theorem dX4_need_19 : decode cX4_need 19 = .ok (.aload_n 0, 1) := dk_42 (dk_at dksX4_need_0 19 rfl rfl)
theorem dX4_need_20 : decode cX4_need 20 = .ok (.iconst 1, 1) := dk_4 (dk_at dksX4_need_0 20 rfl rfl)
theorem dX4_need_21 : decode cX4_need 21 = .ok (.invokevirtual 180, 3) := dk_182 0 180 (dk_at dksX4_need_0 21 rfl rfl)
theorem dX4_need_24 : decode cX4_need 24 = .ok (.return_, 1) := dk_177 (dk_at dksX4_need_1 0 rfl rfl)
abbrev cX4_copies : ByteArray := prog_12_method_8_code
def yX4_copies : MethodName := ⟨RX4, "copies", "([I[I)V"⟩
def dkwX4_copies_0 : List UInt8 := [3, 62, 29, 43, 190, 162, 0, 15, 44, 29, 43, 29, 46, 79, 132, 3, 1, 167, 255, 241, 177]
abbrev dktX4_copies_0 : List UInt8 := dkwX4_copies_0 ++ []
theorem dksX4_copies_0 : cX4_copies.data.toList.drop 0 = dktX4_copies_0 := by decide +kernel
theorem dX4_copies_0 : decode cX4_copies 0 = .ok (.iconst 0, 1) := dk_3 (dk_at dksX4_copies_0 0 rfl rfl)
theorem dX4_copies_1 : decode cX4_copies 1 = .ok (.istore_n 3, 1) := dk_62 (dk_at dksX4_copies_0 1 rfl rfl)
theorem dX4_copies_2 : decode cX4_copies 2 = .ok (.iload_n 3, 1) := dk_29 (dk_at dksX4_copies_0 2 rfl rfl)
theorem dX4_copies_3 : decode cX4_copies 3 = .ok (.aload_n 1, 1) := dk_43 (dk_at dksX4_copies_0 3 rfl rfl)
theorem dX4_copies_4 : decode cX4_copies 4 = .ok (.arraylength, 1) := dk_190 (dk_at dksX4_copies_0 4 rfl rfl)
theorem dX4_copies_5 : decode cX4_copies 5 = .ok (.if_icmp .ge 15, 3) := dk_162 0 15 (dk_at dksX4_copies_0 5 rfl rfl)
theorem dX4_copies_8 : decode cX4_copies 8 = .ok (.aload_n 2, 1) := dk_44 (dk_at dksX4_copies_0 8 rfl rfl)
theorem dX4_copies_9 : decode cX4_copies 9 = .ok (.iload_n 3, 1) := dk_29 (dk_at dksX4_copies_0 9 rfl rfl)
theorem dX4_copies_10 : decode cX4_copies 10 = .ok (.aload_n 1, 1) := dk_43 (dk_at dksX4_copies_0 10 rfl rfl)
theorem dX4_copies_11 : decode cX4_copies 11 = .ok (.iload_n 3, 1) := dk_29 (dk_at dksX4_copies_0 11 rfl rfl)
theorem dX4_copies_12 : decode cX4_copies 12 = .ok (.iaload, 1) := dk_46 (dk_at dksX4_copies_0 12 rfl rfl)
theorem dX4_copies_13 : decode cX4_copies 13 = .ok (.iastore, 1) := dk_79 (dk_at dksX4_copies_0 13 rfl rfl)
theorem dX4_copies_14 : decode cX4_copies 14 = .ok (.iinc 3 1, 3) := dk_132 3 1 (dk_at dksX4_copies_0 14 rfl rfl)
theorem dX4_copies_17 : decode cX4_copies 17 = .ok (.goto (-15), 3) := dk_167 255 241 (dk_at dksX4_copies_0 17 rfl rfl)
theorem dX4_copies_20 : decode cX4_copies 20 = .ok (.return_, 1) := dk_177 (dk_at dksX4_copies_0 20 rfl rfl)
abbrev cX4_fault : ByteArray := prog_12_method_41_code
def yX4_fault : MethodName := ⟨RX4, "fault", "()I"⟩
def dkwX4_fault_0 : List UInt8 := [42, 3, 181, 0, 114, 42, 180, 0, 26, 172]
abbrev dktX4_fault_0 : List UInt8 := dkwX4_fault_0 ++ []
theorem dksX4_fault_0 : cX4_fault.data.toList.drop 0 = dktX4_fault_0 := by decide +kernel
theorem dX4_fault_0 : decode cX4_fault 0 = .ok (.aload_n 0, 1) := dk_42 (dk_at dksX4_fault_0 0 rfl rfl)
theorem dX4_fault_1 : decode cX4_fault 1 = .ok (.iconst 0, 1) := dk_3 (dk_at dksX4_fault_0 1 rfl rfl)
theorem dX4_fault_2 : decode cX4_fault 2 = .ok (.putfield 114, 3) := dk_181 0 114 (dk_at dksX4_fault_0 2 rfl rfl)
theorem dX4_fault_5 : decode cX4_fault 5 = .ok (.aload_n 0, 1) := dk_42 (dk_at dksX4_fault_0 5 rfl rfl)
theorem dX4_fault_6 : decode cX4_fault 6 = .ok (.getfield 26, 3) := dk_180 0 26 (dk_at dksX4_fault_0 6 rfl rfl)
theorem dX4_fault_9 : decode cX4_fault 9 = .ok (.ireturn, 1) := dk_172 (dk_at dksX4_fault_0 9 rfl rfl)
abbrev cX4_undo : ByteArray := prog_12_method_44_code
def yX4_undo : MethodName := ⟨RX4, "undo", "()I"⟩
def dkwX4_undo_2 : List UInt8 := [27, 96, 46, 79, 132, 1, 1, 167, 255, 227, 42, 180, 1, 20, 172]
abbrev dktX4_undo_2 : List UInt8 := dkwX4_undo_2 ++ []
def dkwX4_undo_1 : List UInt8 := [3, 60, 27, 16, 64, 162, 0, 29, 42, 180, 0, 51, 27, 42, 180, 0, 54, 16, 64, 42, 180, 1, 20, 104]
abbrev dktX4_undo_1 : List UInt8 := dkwX4_undo_1 ++ dktX4_undo_2
def dkwX4_undo_0 : List UInt8 := [42, 3, 181, 0, 114, 42, 180, 1, 20, 154, 0, 5, 2, 172, 42, 89, 180, 1, 20, 4, 100, 181, 1, 20]
abbrev dktX4_undo_0 : List UInt8 := dkwX4_undo_0 ++ dktX4_undo_1
theorem dksX4_undo_0 : cX4_undo.data.toList.drop 0 = dktX4_undo_0 := by decide +kernel
theorem dksX4_undo_1 : cX4_undo.data.toList.drop 24 = dktX4_undo_1 := dk_seg dksX4_undo_0 24 rfl rfl
theorem dksX4_undo_2 : cX4_undo.data.toList.drop 48 = dktX4_undo_2 := dk_seg dksX4_undo_1 24 rfl rfl
theorem dX4_undo_0 : decode cX4_undo 0 = .ok (.aload_n 0, 1) := dk_42 (dk_at dksX4_undo_0 0 rfl rfl)
theorem dX4_undo_1 : decode cX4_undo 1 = .ok (.iconst 0, 1) := dk_3 (dk_at dksX4_undo_0 1 rfl rfl)
theorem dX4_undo_2 : decode cX4_undo 2 = .ok (.putfield 114, 3) := dk_181 0 114 (dk_at dksX4_undo_0 2 rfl rfl)
theorem dX4_undo_5 : decode cX4_undo 5 = .ok (.aload_n 0, 1) := dk_42 (dk_at dksX4_undo_0 5 rfl rfl)
theorem dX4_undo_6 : decode cX4_undo 6 = .ok (.getfield 276, 3) := dk_180 1 20 (dk_at dksX4_undo_0 6 rfl rfl)
theorem dX4_undo_9 : decode cX4_undo 9 = .ok (.ifCond .ne 5, 3) := dk_154 0 5 (dk_at dksX4_undo_0 9 rfl rfl)
theorem dX4_undo_12 : decode cX4_undo 12 = .ok (.iconst (-1), 1) := dk_2 (dk_at dksX4_undo_0 12 rfl rfl)
theorem dX4_undo_13 : decode cX4_undo 13 = .ok (.ireturn, 1) := dk_172 (dk_at dksX4_undo_0 13 rfl rfl)
theorem dX4_undo_14 : decode cX4_undo 14 = .ok (.aload_n 0, 1) := dk_42 (dk_at dksX4_undo_0 14 rfl rfl)
theorem dX4_undo_15 : decode cX4_undo 15 = .ok (.dup, 1) := dk_89 (dk_at dksX4_undo_0 15 rfl rfl)
theorem dX4_undo_16 : decode cX4_undo 16 = .ok (.getfield 276, 3) := dk_180 1 20 (dk_at dksX4_undo_0 16 rfl rfl)
theorem dX4_undo_19 : decode cX4_undo 19 = .ok (.iconst 1, 1) := dk_4 (dk_at dksX4_undo_0 19 rfl rfl)
theorem dX4_undo_20 : decode cX4_undo 20 = .ok (.isub, 1) := dk_100 (dk_at dksX4_undo_0 20 rfl rfl)
theorem dX4_undo_21 : decode cX4_undo 21 = .ok (.putfield 276, 3) := dk_181 1 20 (dk_at dksX4_undo_0 21 rfl rfl)
theorem dX4_undo_24 : decode cX4_undo 24 = .ok (.iconst 0, 1) := dk_3 (dk_at dksX4_undo_1 0 rfl rfl)
theorem dX4_undo_25 : decode cX4_undo 25 = .ok (.istore_n 1, 1) := dk_60 (dk_at dksX4_undo_1 1 rfl rfl)
theorem dX4_undo_26 : decode cX4_undo 26 = .ok (.iload_n 1, 1) := dk_27 (dk_at dksX4_undo_1 2 rfl rfl)
theorem dX4_undo_27 : decode cX4_undo 27 = .ok (.bipush 64, 2) := dk_16 64 (dk_at dksX4_undo_1 3 rfl rfl)
theorem dX4_undo_29 : decode cX4_undo 29 = .ok (.if_icmp .ge 29, 3) := dk_162 0 29 (dk_at dksX4_undo_1 5 rfl rfl)
theorem dX4_undo_32 : decode cX4_undo 32 = .ok (.aload_n 0, 1) := dk_42 (dk_at dksX4_undo_1 8 rfl rfl)
theorem dX4_undo_33 : decode cX4_undo 33 = .ok (.getfield 51, 3) := dk_180 0 51 (dk_at dksX4_undo_1 9 rfl rfl)
theorem dX4_undo_36 : decode cX4_undo 36 = .ok (.iload_n 1, 1) := dk_27 (dk_at dksX4_undo_1 12 rfl rfl)
theorem dX4_undo_37 : decode cX4_undo 37 = .ok (.aload_n 0, 1) := dk_42 (dk_at dksX4_undo_1 13 rfl rfl)
theorem dX4_undo_38 : decode cX4_undo 38 = .ok (.getfield 54, 3) := dk_180 0 54 (dk_at dksX4_undo_1 14 rfl rfl)
theorem dX4_undo_41 : decode cX4_undo 41 = .ok (.bipush 64, 2) := dk_16 64 (dk_at dksX4_undo_1 17 rfl rfl)
theorem dX4_undo_43 : decode cX4_undo 43 = .ok (.aload_n 0, 1) := dk_42 (dk_at dksX4_undo_1 19 rfl rfl)
theorem dX4_undo_44 : decode cX4_undo 44 = .ok (.getfield 276, 3) := dk_180 1 20 (dk_at dksX4_undo_1 20 rfl rfl)
theorem dX4_undo_47 : decode cX4_undo 47 = .ok (.imul, 1) := dk_104 (dk_at dksX4_undo_1 23 rfl rfl)
theorem dX4_undo_48 : decode cX4_undo 48 = .ok (.iload_n 1, 1) := dk_27 (dk_at dksX4_undo_2 0 rfl rfl)
theorem dX4_undo_49 : decode cX4_undo 49 = .ok (.iadd, 1) := dk_96 (dk_at dksX4_undo_2 1 rfl rfl)
theorem dX4_undo_50 : decode cX4_undo 50 = .ok (.iaload, 1) := dk_46 (dk_at dksX4_undo_2 2 rfl rfl)
theorem dX4_undo_51 : decode cX4_undo 51 = .ok (.iastore, 1) := dk_79 (dk_at dksX4_undo_2 3 rfl rfl)
theorem dX4_undo_52 : decode cX4_undo 52 = .ok (.iinc 1 1, 3) := dk_132 1 1 (dk_at dksX4_undo_2 4 rfl rfl)
theorem dX4_undo_55 : decode cX4_undo 55 = .ok (.goto (-29), 3) := dk_167 255 227 (dk_at dksX4_undo_2 7 rfl rfl)
theorem dX4_undo_58 : decode cX4_undo 58 = .ok (.aload_n 0, 1) := dk_42 (dk_at dksX4_undo_2 10 rfl rfl)
theorem dX4_undo_59 : decode cX4_undo 59 = .ok (.getfield 276, 3) := dk_180 1 20 (dk_at dksX4_undo_2 11 rfl rfl)
theorem dX4_undo_62 : decode cX4_undo 62 = .ok (.ireturn, 1) := dk_172 (dk_at dksX4_undo_2 14 rfl rfl)
abbrev cX4_count : ByteArray := prog_12_method_61_code
def yX4_count : MethodName := ⟨RX4, "count", "(I)I"⟩
def dkwX4_count_4 : List UInt8 := [42, 180, 1, 23, 172, 42, 180, 0, 117, 172, 42, 180, 0, 29, 27, 16, 10, 100, 46, 172]
abbrev dktX4_count_4 : List UInt8 := dkwX4_count_4 ++ []
def dkwX4_count_3 : List UInt8 := [172, 42, 3, 16, 46, 182, 1, 83, 172, 42, 182, 1, 86, 172, 42, 182, 1, 89, 172, 42, 180, 1, 20, 172]
abbrev dktX4_count_3 : List UInt8 := dkwX4_count_3 ++ dktX4_count_4
def dkwX4_count_2 : List UInt8 := [42, 180, 1, 13, 172, 42, 180, 0, 51, 3, 46, 172, 42, 182, 1, 80, 172, 42, 3, 16, 10, 182, 1, 83]
abbrev dktX4_count_2 : List UInt8 := dkwX4_count_2 ++ dktX4_count_3
def dkwX4_count_1 : List UInt8 := [170, 0, 0, 0, 111, 0, 0, 0, 0, 0, 0, 0, 9, 0, 0, 0, 53, 0, 0, 0, 58, 0, 0, 0, 65, 0, 0, 0, 70, 0, 0, 0, 78, 0, 0, 0, 86, 0, 0, 0, 91, 0, 0, 0, 96, 0, 0, 0, 101, 0, 0, 0, 106]
abbrev dktX4_count_1 : List UInt8 := dkwX4_count_1 ++ dktX4_count_2
def dkwX4_count_0 : List UInt8 := [42, 3, 181, 0, 114, 42, 27, 3, 16, 12, 184, 1, 76, 4, 182, 1, 6, 154, 0, 5, 3, 172, 27]
abbrev dktX4_count_0 : List UInt8 := dkwX4_count_0 ++ dktX4_count_1
theorem dksX4_count_0 : cX4_count.data.toList.drop 0 = dktX4_count_0 := by decide +kernel
theorem dksX4_count_1 : cX4_count.data.toList.drop 23 = dktX4_count_1 := dk_seg dksX4_count_0 23 rfl rfl
theorem dksX4_count_2 : cX4_count.data.toList.drop 76 = dktX4_count_2 := dk_seg dksX4_count_1 53 rfl rfl
theorem dksX4_count_3 : cX4_count.data.toList.drop 100 = dktX4_count_3 := dk_seg dksX4_count_2 24 rfl rfl
theorem dksX4_count_4 : cX4_count.data.toList.drop 124 = dktX4_count_4 := dk_seg dksX4_count_3 24 rfl rfl
theorem dX4_count_0 : decode cX4_count 0 = .ok (.aload_n 0, 1) := dk_42 (dk_at dksX4_count_0 0 rfl rfl)
theorem dX4_count_1 : decode cX4_count 1 = .ok (.iconst 0, 1) := dk_3 (dk_at dksX4_count_0 1 rfl rfl)
theorem dX4_count_2 : decode cX4_count 2 = .ok (.putfield 114, 3) := dk_181 0 114 (dk_at dksX4_count_0 2 rfl rfl)
theorem dX4_count_5 : decode cX4_count 5 = .ok (.aload_n 0, 1) := dk_42 (dk_at dksX4_count_0 5 rfl rfl)
theorem dX4_count_6 : decode cX4_count 6 = .ok (.iload_n 1, 1) := dk_27 (dk_at dksX4_count_0 6 rfl rfl)
theorem dX4_count_7 : decode cX4_count 7 = .ok (.iconst 0, 1) := dk_3 (dk_at dksX4_count_0 7 rfl rfl)
theorem dX4_count_8 : decode cX4_count 8 = .ok (.bipush 12, 2) := dk_16 12 (dk_at dksX4_count_0 8 rfl rfl)
theorem dX4_count_10 : decode cX4_count 10 = .ok (.invokestatic 332, 3) := dk_184 1 76 (dk_at dksX4_count_0 10 rfl rfl)
theorem dX4_count_13 : decode cX4_count 13 = .ok (.iconst 1, 1) := dk_4 (dk_at dksX4_count_0 13 rfl rfl)
theorem dX4_count_14 : decode cX4_count 14 = .ok (.invokevirtual 262, 3) := dk_182 1 6 (dk_at dksX4_count_0 14 rfl rfl)
theorem dX4_count_17 : decode cX4_count 17 = .ok (.ifCond .ne 5, 3) := dk_154 0 5 (dk_at dksX4_count_0 17 rfl rfl)
theorem dX4_count_20 : decode cX4_count 20 = .ok (.iconst 0, 1) := dk_3 (dk_at dksX4_count_0 20 rfl rfl)
theorem dX4_count_21 : decode cX4_count 21 = .ok (.ireturn, 1) := dk_172 (dk_at dksX4_count_0 21 rfl rfl)
theorem dX4_count_22 : decode cX4_count 22 = .ok (.iload_n 1, 1) := dk_27 (dk_at dksX4_count_0 22 rfl rfl)
theorem dX4_count_23 : decode cX4_count 23 = .ok (.tableswitch 111 0 9 #[53, 58, 65, 70, 78, 86, 91, 96, 101, 106], 53) := by decide +kernel
theorem dX4_count_76 : decode cX4_count 76 = .ok (.aload_n 0, 1) := dk_42 (dk_at dksX4_count_2 0 rfl rfl)
theorem dX4_count_77 : decode cX4_count 77 = .ok (.getfield 269, 3) := dk_180 1 13 (dk_at dksX4_count_2 1 rfl rfl)
theorem dX4_count_80 : decode cX4_count 80 = .ok (.ireturn, 1) := dk_172 (dk_at dksX4_count_2 4 rfl rfl)
theorem dX4_count_81 : decode cX4_count 81 = .ok (.aload_n 0, 1) := dk_42 (dk_at dksX4_count_2 5 rfl rfl)
theorem dX4_count_82 : decode cX4_count 82 = .ok (.getfield 51, 3) := dk_180 0 51 (dk_at dksX4_count_2 6 rfl rfl)
theorem dX4_count_85 : decode cX4_count 85 = .ok (.iconst 0, 1) := dk_3 (dk_at dksX4_count_2 9 rfl rfl)
theorem dX4_count_86 : decode cX4_count 86 = .ok (.iaload, 1) := dk_46 (dk_at dksX4_count_2 10 rfl rfl)
theorem dX4_count_87 : decode cX4_count 87 = .ok (.ireturn, 1) := dk_172 (dk_at dksX4_count_2 11 rfl rfl)
theorem dX4_count_88 : decode cX4_count 88 = .ok (.aload_n 0, 1) := dk_42 (dk_at dksX4_count_2 12 rfl rfl)
theorem dX4_count_89 : decode cX4_count 89 = .ok (.invokevirtual 336, 3) := dk_182 1 80 (dk_at dksX4_count_2 13 rfl rfl)
theorem dX4_count_92 : decode cX4_count 92 = .ok (.ireturn, 1) := dk_172 (dk_at dksX4_count_2 16 rfl rfl)
theorem dX4_count_93 : decode cX4_count 93 = .ok (.aload_n 0, 1) := dk_42 (dk_at dksX4_count_2 17 rfl rfl)
theorem dX4_count_94 : decode cX4_count 94 = .ok (.iconst 0, 1) := dk_3 (dk_at dksX4_count_2 18 rfl rfl)
theorem dX4_count_95 : decode cX4_count 95 = .ok (.bipush 10, 2) := dk_16 10 (dk_at dksX4_count_2 19 rfl rfl)
theorem dX4_count_97 : decode cX4_count 97 = .ok (.invokevirtual 339, 3) := dk_182 1 83 (dk_at dksX4_count_2 21 rfl rfl)
theorem dX4_count_100 : decode cX4_count 100 = .ok (.ireturn, 1) := dk_172 (dk_at dksX4_count_3 0 rfl rfl)
theorem dX4_count_101 : decode cX4_count 101 = .ok (.aload_n 0, 1) := dk_42 (dk_at dksX4_count_3 1 rfl rfl)
theorem dX4_count_102 : decode cX4_count 102 = .ok (.iconst 0, 1) := dk_3 (dk_at dksX4_count_3 2 rfl rfl)
theorem dX4_count_103 : decode cX4_count 103 = .ok (.bipush 46, 2) := dk_16 46 (dk_at dksX4_count_3 3 rfl rfl)
theorem dX4_count_105 : decode cX4_count 105 = .ok (.invokevirtual 339, 3) := dk_182 1 83 (dk_at dksX4_count_3 5 rfl rfl)
theorem dX4_count_108 : decode cX4_count 108 = .ok (.ireturn, 1) := dk_172 (dk_at dksX4_count_3 8 rfl rfl)
theorem dX4_count_109 : decode cX4_count 109 = .ok (.aload_n 0, 1) := dk_42 (dk_at dksX4_count_3 9 rfl rfl)
theorem dX4_count_110 : decode cX4_count 110 = .ok (.invokevirtual 342, 3) := dk_182 1 86 (dk_at dksX4_count_3 10 rfl rfl)
theorem dX4_count_113 : decode cX4_count 113 = .ok (.ireturn, 1) := dk_172 (dk_at dksX4_count_3 13 rfl rfl)
theorem dX4_count_114 : decode cX4_count 114 = .ok (.aload_n 0, 1) := dk_42 (dk_at dksX4_count_3 14 rfl rfl)
theorem dX4_count_115 : decode cX4_count 115 = .ok (.invokevirtual 345, 3) := dk_182 1 89 (dk_at dksX4_count_3 15 rfl rfl)
theorem dX4_count_118 : decode cX4_count 118 = .ok (.ireturn, 1) := dk_172 (dk_at dksX4_count_3 18 rfl rfl)
theorem dX4_count_119 : decode cX4_count 119 = .ok (.aload_n 0, 1) := dk_42 (dk_at dksX4_count_3 19 rfl rfl)
theorem dX4_count_120 : decode cX4_count 120 = .ok (.getfield 276, 3) := dk_180 1 20 (dk_at dksX4_count_3 20 rfl rfl)
theorem dX4_count_123 : decode cX4_count 123 = .ok (.ireturn, 1) := dk_172 (dk_at dksX4_count_3 23 rfl rfl)
theorem dX4_count_124 : decode cX4_count 124 = .ok (.aload_n 0, 1) := dk_42 (dk_at dksX4_count_4 0 rfl rfl)
theorem dX4_count_125 : decode cX4_count 125 = .ok (.getfield 279, 3) := dk_180 1 23 (dk_at dksX4_count_4 1 rfl rfl)
theorem dX4_count_128 : decode cX4_count 128 = .ok (.ireturn, 1) := dk_172 (dk_at dksX4_count_4 4 rfl rfl)
theorem dX4_count_129 : decode cX4_count 129 = .ok (.aload_n 0, 1) := dk_42 (dk_at dksX4_count_4 5 rfl rfl)
theorem dX4_count_130 : decode cX4_count 130 = .ok (.getfield 117, 3) := dk_180 0 117 (dk_at dksX4_count_4 6 rfl rfl)
theorem dX4_count_133 : decode cX4_count 133 = .ok (.ireturn, 1) := dk_172 (dk_at dksX4_count_4 9 rfl rfl)
theorem dX4_count_134 : decode cX4_count 134 = .ok (.aload_n 0, 1) := dk_42 (dk_at dksX4_count_4 10 rfl rfl)
theorem dX4_count_135 : decode cX4_count 135 = .ok (.getfield 29, 3) := dk_180 0 29 (dk_at dksX4_count_4 11 rfl rfl)
theorem dX4_count_138 : decode cX4_count 138 = .ok (.iload_n 1, 1) := dk_27 (dk_at dksX4_count_4 14 rfl rfl)
theorem dX4_count_139 : decode cX4_count 139 = .ok (.bipush 10, 2) := dk_16 10 (dk_at dksX4_count_4 15 rfl rfl)
theorem dX4_count_141 : decode cX4_count 141 = .ok (.isub, 1) := dk_100 (dk_at dksX4_count_4 17 rfl rfl)
theorem dX4_count_142 : decode cX4_count 142 = .ok (.iaload, 1) := dk_46 (dk_at dksX4_count_4 18 rfl rfl)
theorem dX4_count_143 : decode cX4_count 143 = .ok (.ireturn, 1) := dk_172 (dk_at dksX4_count_4 19 rfl rfl)
abbrev cX4_within : ByteArray := prog_12_method_4_code
def yX4_within : MethodName := ⟨RX4, "within", "(III)Z"⟩
def dkwX4_within_0 : List UInt8 := [26, 27, 161, 0, 12, 26, 28, 163, 0, 7, 4, 167, 0, 4, 3, 172]
abbrev dktX4_within_0 : List UInt8 := dkwX4_within_0 ++ []
theorem dksX4_within_0 : cX4_within.data.toList.drop 0 = dktX4_within_0 := by decide +kernel
theorem dX4_within_0 : decode cX4_within 0 = .ok (.iload_n 0, 1) := dk_26 (dk_at dksX4_within_0 0 rfl rfl)
theorem dX4_within_1 : decode cX4_within 1 = .ok (.iload_n 1, 1) := dk_27 (dk_at dksX4_within_0 1 rfl rfl)
theorem dX4_within_2 : decode cX4_within 2 = .ok (.if_icmp .lt 12, 3) := dk_161 0 12 (dk_at dksX4_within_0 2 rfl rfl)
theorem dX4_within_5 : decode cX4_within 5 = .ok (.iload_n 0, 1) := dk_26 (dk_at dksX4_within_0 5 rfl rfl)
theorem dX4_within_6 : decode cX4_within 6 = .ok (.iload_n 2, 1) := dk_28 (dk_at dksX4_within_0 6 rfl rfl)
theorem dX4_within_7 : decode cX4_within 7 = .ok (.if_icmp .gt 7, 3) := dk_163 0 7 (dk_at dksX4_within_0 7 rfl rfl)
theorem dX4_within_10 : decode cX4_within 10 = .ok (.iconst 1, 1) := dk_4 (dk_at dksX4_within_0 10 rfl rfl)
theorem dX4_within_11 : decode cX4_within 11 = .ok (.goto 4, 3) := dk_167 0 4 (dk_at dksX4_within_0 11 rfl rfl)
theorem dX4_within_14 : decode cX4_within 14 = .ok (.iconst 0, 1) := dk_3 (dk_at dksX4_within_0 14 rfl rfl)
theorem dX4_within_15 : decode cX4_within 15 = .ok (.ireturn, 1) := dk_172 (dk_at dksX4_within_0 15 rfl rfl)
abbrev cX4_plugged : ByteArray := prog_12_method_60_code
def yX4_plugged : MethodName := ⟨RX4, "plugged", "()I"⟩
def dkwX4_plugged_1 : List UInt8 := [128, 60, 132, 2, 1, 167, 255, 231, 27, 172]
abbrev dktX4_plugged_1 : List UInt8 := dkwX4_plugged_1 ++ []
def dkwX4_plugged_0 : List UInt8 := [3, 60, 3, 61, 28, 42, 180, 1, 13, 162, 0, 23, 27, 42, 180, 0, 51, 16, 55, 28, 96, 46, 28, 120]
abbrev dktX4_plugged_0 : List UInt8 := dkwX4_plugged_0 ++ dktX4_plugged_1
theorem dksX4_plugged_0 : cX4_plugged.data.toList.drop 0 = dktX4_plugged_0 := by decide +kernel
theorem dksX4_plugged_1 : cX4_plugged.data.toList.drop 24 = dktX4_plugged_1 := dk_seg dksX4_plugged_0 24 rfl rfl
theorem dX4_plugged_0 : decode cX4_plugged 0 = .ok (.iconst 0, 1) := dk_3 (dk_at dksX4_plugged_0 0 rfl rfl)
theorem dX4_plugged_1 : decode cX4_plugged 1 = .ok (.istore_n 1, 1) := dk_60 (dk_at dksX4_plugged_0 1 rfl rfl)
theorem dX4_plugged_2 : decode cX4_plugged 2 = .ok (.iconst 0, 1) := dk_3 (dk_at dksX4_plugged_0 2 rfl rfl)
theorem dX4_plugged_3 : decode cX4_plugged 3 = .ok (.istore_n 2, 1) := dk_61 (dk_at dksX4_plugged_0 3 rfl rfl)
theorem dX4_plugged_4 : decode cX4_plugged 4 = .ok (.iload_n 2, 1) := dk_28 (dk_at dksX4_plugged_0 4 rfl rfl)
theorem dX4_plugged_5 : decode cX4_plugged 5 = .ok (.aload_n 0, 1) := dk_42 (dk_at dksX4_plugged_0 5 rfl rfl)
theorem dX4_plugged_6 : decode cX4_plugged 6 = .ok (.getfield 269, 3) := dk_180 1 13 (dk_at dksX4_plugged_0 6 rfl rfl)
theorem dX4_plugged_9 : decode cX4_plugged 9 = .ok (.if_icmp .ge 23, 3) := dk_162 0 23 (dk_at dksX4_plugged_0 9 rfl rfl)
theorem dX4_plugged_12 : decode cX4_plugged 12 = .ok (.iload_n 1, 1) := dk_27 (dk_at dksX4_plugged_0 12 rfl rfl)
theorem dX4_plugged_13 : decode cX4_plugged 13 = .ok (.aload_n 0, 1) := dk_42 (dk_at dksX4_plugged_0 13 rfl rfl)
theorem dX4_plugged_14 : decode cX4_plugged 14 = .ok (.getfield 51, 3) := dk_180 0 51 (dk_at dksX4_plugged_0 14 rfl rfl)
theorem dX4_plugged_17 : decode cX4_plugged 17 = .ok (.bipush 55, 2) := dk_16 55 (dk_at dksX4_plugged_0 17 rfl rfl)
theorem dX4_plugged_19 : decode cX4_plugged 19 = .ok (.iload_n 2, 1) := dk_28 (dk_at dksX4_plugged_0 19 rfl rfl)
theorem dX4_plugged_20 : decode cX4_plugged 20 = .ok (.iadd, 1) := dk_96 (dk_at dksX4_plugged_0 20 rfl rfl)
theorem dX4_plugged_21 : decode cX4_plugged 21 = .ok (.iaload, 1) := dk_46 (dk_at dksX4_plugged_0 21 rfl rfl)
theorem dX4_plugged_22 : decode cX4_plugged 22 = .ok (.iload_n 2, 1) := dk_28 (dk_at dksX4_plugged_0 22 rfl rfl)
theorem dX4_plugged_23 : decode cX4_plugged 23 = .ok (.ishl, 1) := dk_120 (dk_at dksX4_plugged_0 23 rfl rfl)
theorem dX4_plugged_24 : decode cX4_plugged 24 = .ok (.ior, 1) := dk_128 (dk_at dksX4_plugged_1 0 rfl rfl)
theorem dX4_plugged_25 : decode cX4_plugged 25 = .ok (.istore_n 1, 1) := dk_60 (dk_at dksX4_plugged_1 1 rfl rfl)
theorem dX4_plugged_26 : decode cX4_plugged 26 = .ok (.iinc 2 1, 3) := dk_132 2 1 (dk_at dksX4_plugged_1 2 rfl rfl)
theorem dX4_plugged_29 : decode cX4_plugged 29 = .ok (.goto (-25), 3) := dk_167 255 231 (dk_at dksX4_plugged_1 5 rfl rfl)
theorem dX4_plugged_32 : decode cX4_plugged 32 = .ok (.iload_n 1, 1) := dk_27 (dk_at dksX4_plugged_1 8 rfl rfl)
theorem dX4_plugged_33 : decode cX4_plugged 33 = .ok (.ireturn, 1) := dk_172 (dk_at dksX4_plugged_1 9 rfl rfl)
abbrev cX4_sumOf : ByteArray := prog_12_method_58_code
def yX4_sumOf : MethodName := ⟨RX4, "sumOf", "(II)I"⟩
def dkwX4_sumOf_1 : List UInt8 := [96, 21, 4, 96, 46, 96, 184, 1, 41, 62, 132, 4, 1, 167, 255, 224, 29, 172]
abbrev dktX4_sumOf_1 : List UInt8 := dkwX4_sumOf_1 ++ []
def dkwX4_sumOf_0 : List UInt8 := [3, 62, 3, 54, 4, 21, 4, 42, 180, 1, 13, 162, 0, 29, 19, 1, 40, 29, 42, 180, 0, 51, 27, 28]
abbrev dktX4_sumOf_0 : List UInt8 := dkwX4_sumOf_0 ++ dktX4_sumOf_1
theorem dksX4_sumOf_0 : cX4_sumOf.data.toList.drop 0 = dktX4_sumOf_0 := by decide +kernel
theorem dksX4_sumOf_1 : cX4_sumOf.data.toList.drop 24 = dktX4_sumOf_1 := dk_seg dksX4_sumOf_0 24 rfl rfl
theorem dX4_sumOf_0 : decode cX4_sumOf 0 = .ok (.iconst 0, 1) := dk_3 (dk_at dksX4_sumOf_0 0 rfl rfl)
theorem dX4_sumOf_1 : decode cX4_sumOf 1 = .ok (.istore_n 3, 1) := dk_62 (dk_at dksX4_sumOf_0 1 rfl rfl)
theorem dX4_sumOf_2 : decode cX4_sumOf 2 = .ok (.iconst 0, 1) := dk_3 (dk_at dksX4_sumOf_0 2 rfl rfl)
theorem dX4_sumOf_3 : decode cX4_sumOf 3 = .ok (.istore 4, 2) := dk_54 4 (dk_at dksX4_sumOf_0 3 rfl rfl)
theorem dX4_sumOf_5 : decode cX4_sumOf 5 = .ok (.iload 4, 2) := dk_21 4 (dk_at dksX4_sumOf_0 5 rfl rfl)
theorem dX4_sumOf_7 : decode cX4_sumOf 7 = .ok (.aload_n 0, 1) := dk_42 (dk_at dksX4_sumOf_0 7 rfl rfl)
theorem dX4_sumOf_8 : decode cX4_sumOf 8 = .ok (.getfield 269, 3) := dk_180 1 13 (dk_at dksX4_sumOf_0 8 rfl rfl)
theorem dX4_sumOf_11 : decode cX4_sumOf 11 = .ok (.if_icmp .ge 29, 3) := dk_162 0 29 (dk_at dksX4_sumOf_0 11 rfl rfl)
theorem dX4_sumOf_14 : decode cX4_sumOf 14 = .ok (.ldc_w 296, 3) := dk_19 1 40 (dk_at dksX4_sumOf_0 14 rfl rfl)
theorem dX4_sumOf_17 : decode cX4_sumOf 17 = .ok (.iload_n 3, 1) := dk_29 (dk_at dksX4_sumOf_0 17 rfl rfl)
theorem dX4_sumOf_18 : decode cX4_sumOf 18 = .ok (.aload_n 0, 1) := dk_42 (dk_at dksX4_sumOf_0 18 rfl rfl)
theorem dX4_sumOf_19 : decode cX4_sumOf 19 = .ok (.getfield 51, 3) := dk_180 0 51 (dk_at dksX4_sumOf_0 19 rfl rfl)
theorem dX4_sumOf_22 : decode cX4_sumOf 22 = .ok (.iload_n 1, 1) := dk_27 (dk_at dksX4_sumOf_0 22 rfl rfl)
theorem dX4_sumOf_23 : decode cX4_sumOf 23 = .ok (.iload_n 2, 1) := dk_28 (dk_at dksX4_sumOf_0 23 rfl rfl)
theorem dX4_sumOf_24 : decode cX4_sumOf 24 = .ok (.iadd, 1) := dk_96 (dk_at dksX4_sumOf_1 0 rfl rfl)
theorem dX4_sumOf_25 : decode cX4_sumOf 25 = .ok (.iload 4, 2) := dk_21 4 (dk_at dksX4_sumOf_1 1 rfl rfl)
theorem dX4_sumOf_27 : decode cX4_sumOf 27 = .ok (.iadd, 1) := dk_96 (dk_at dksX4_sumOf_1 3 rfl rfl)
theorem dX4_sumOf_28 : decode cX4_sumOf 28 = .ok (.iaload, 1) := dk_46 (dk_at dksX4_sumOf_1 4 rfl rfl)
theorem dX4_sumOf_29 : decode cX4_sumOf 29 = .ok (.iadd, 1) := dk_96 (dk_at dksX4_sumOf_1 5 rfl rfl)
theorem dX4_sumOf_30 : decode cX4_sumOf 30 = .ok (.invokestatic 297, 3) := dk_184 1 41 (dk_at dksX4_sumOf_1 6 rfl rfl)
theorem dX4_sumOf_33 : decode cX4_sumOf 33 = .ok (.istore_n 3, 1) := dk_62 (dk_at dksX4_sumOf_1 9 rfl rfl)
theorem dX4_sumOf_34 : decode cX4_sumOf 34 = .ok (.iinc 4 1, 3) := dk_132 4 1 (dk_at dksX4_sumOf_1 10 rfl rfl)
theorem dX4_sumOf_37 : decode cX4_sumOf 37 = .ok (.goto (-32), 3) := dk_167 255 224 (dk_at dksX4_sumOf_1 13 rfl rfl)
theorem dX4_sumOf_40 : decode cX4_sumOf 40 = .ok (.iload_n 3, 1) := dk_29 (dk_at dksX4_sumOf_1 16 rfl rfl)
theorem dX4_sumOf_41 : decode cX4_sumOf 41 = .ok (.ireturn, 1) := dk_172 (dk_at dksX4_sumOf_1 17 rfl rfl)
abbrev cX4_lesser : ByteArray := prog_12_method_6_code
def yX4_lesser : MethodName := ⟨RX4, "lesser", "(II)I"⟩
def dkwX4_lesser_0 : List UInt8 := [26, 27, 162, 0, 7, 26, 167, 0, 4, 27, 172]
abbrev dktX4_lesser_0 : List UInt8 := dkwX4_lesser_0 ++ []
theorem dksX4_lesser_0 : cX4_lesser.data.toList.drop 0 = dktX4_lesser_0 := by decide +kernel
theorem dX4_lesser_0 : decode cX4_lesser 0 = .ok (.iload_n 0, 1) := dk_26 (dk_at dksX4_lesser_0 0 rfl rfl)
theorem dX4_lesser_1 : decode cX4_lesser 1 = .ok (.iload_n 1, 1) := dk_27 (dk_at dksX4_lesser_0 1 rfl rfl)
theorem dX4_lesser_2 : decode cX4_lesser 2 = .ok (.if_icmp .ge 7, 3) := dk_162 0 7 (dk_at dksX4_lesser_0 2 rfl rfl)
theorem dX4_lesser_5 : decode cX4_lesser 5 = .ok (.iload_n 0, 1) := dk_26 (dk_at dksX4_lesser_0 5 rfl rfl)
theorem dX4_lesser_6 : decode cX4_lesser 6 = .ok (.goto 4, 3) := dk_167 0 4 (dk_at dksX4_lesser_0 6 rfl rfl)
theorem dX4_lesser_9 : decode cX4_lesser 9 = .ok (.iload_n 1, 1) := dk_27 (dk_at dksX4_lesser_0 9 rfl rfl)
theorem dX4_lesser_10 : decode cX4_lesser 10 = .ok (.ireturn, 1) := dk_172 (dk_at dksX4_lesser_0 10 rfl rfl)
abbrev cX4_roots : ByteArray := prog_12_method_55_code
def yX4_roots : MethodName := ⟨RX4, "roots", "()I"⟩
def dkwX4_roots_1 : List UInt8 := [167, 0, 4, 3, 128, 60, 132, 2, 1, 167, 255, 227, 27, 172]
abbrev dktX4_roots_1 : List UInt8 := dkwX4_roots_1 ++ []
def dkwX4_roots_0 : List UInt8 := [3, 60, 3, 61, 28, 42, 180, 1, 13, 162, 0, 27, 27, 42, 28, 182, 1, 70, 154, 0, 9, 4, 28, 120]
abbrev dktX4_roots_0 : List UInt8 := dkwX4_roots_0 ++ dktX4_roots_1
theorem dksX4_roots_0 : cX4_roots.data.toList.drop 0 = dktX4_roots_0 := by decide +kernel
theorem dksX4_roots_1 : cX4_roots.data.toList.drop 24 = dktX4_roots_1 := dk_seg dksX4_roots_0 24 rfl rfl
theorem dX4_roots_0 : decode cX4_roots 0 = .ok (.iconst 0, 1) := dk_3 (dk_at dksX4_roots_0 0 rfl rfl)
theorem dX4_roots_1 : decode cX4_roots 1 = .ok (.istore_n 1, 1) := dk_60 (dk_at dksX4_roots_0 1 rfl rfl)
theorem dX4_roots_2 : decode cX4_roots 2 = .ok (.iconst 0, 1) := dk_3 (dk_at dksX4_roots_0 2 rfl rfl)
theorem dX4_roots_3 : decode cX4_roots 3 = .ok (.istore_n 2, 1) := dk_61 (dk_at dksX4_roots_0 3 rfl rfl)
theorem dX4_roots_4 : decode cX4_roots 4 = .ok (.iload_n 2, 1) := dk_28 (dk_at dksX4_roots_0 4 rfl rfl)
theorem dX4_roots_5 : decode cX4_roots 5 = .ok (.aload_n 0, 1) := dk_42 (dk_at dksX4_roots_0 5 rfl rfl)
theorem dX4_roots_6 : decode cX4_roots 6 = .ok (.getfield 269, 3) := dk_180 1 13 (dk_at dksX4_roots_0 6 rfl rfl)
theorem dX4_roots_9 : decode cX4_roots 9 = .ok (.if_icmp .ge 27, 3) := dk_162 0 27 (dk_at dksX4_roots_0 9 rfl rfl)
theorem dX4_roots_12 : decode cX4_roots 12 = .ok (.iload_n 1, 1) := dk_27 (dk_at dksX4_roots_0 12 rfl rfl)
theorem dX4_roots_13 : decode cX4_roots 13 = .ok (.aload_n 0, 1) := dk_42 (dk_at dksX4_roots_0 13 rfl rfl)
theorem dX4_roots_14 : decode cX4_roots 14 = .ok (.iload_n 2, 1) := dk_28 (dk_at dksX4_roots_0 14 rfl rfl)
theorem dX4_roots_15 : decode cX4_roots 15 = .ok (.invokevirtual 326, 3) := dk_182 1 70 (dk_at dksX4_roots_0 15 rfl rfl)
theorem dX4_roots_18 : decode cX4_roots 18 = .ok (.ifCond .ne 9, 3) := dk_154 0 9 (dk_at dksX4_roots_0 18 rfl rfl)
theorem dX4_roots_21 : decode cX4_roots 21 = .ok (.iconst 1, 1) := dk_4 (dk_at dksX4_roots_0 21 rfl rfl)
theorem dX4_roots_22 : decode cX4_roots 22 = .ok (.iload_n 2, 1) := dk_28 (dk_at dksX4_roots_0 22 rfl rfl)
theorem dX4_roots_23 : decode cX4_roots 23 = .ok (.ishl, 1) := dk_120 (dk_at dksX4_roots_0 23 rfl rfl)
theorem dX4_roots_24 : decode cX4_roots 24 = .ok (.goto 4, 3) := dk_167 0 4 (dk_at dksX4_roots_1 0 rfl rfl)
theorem dX4_roots_27 : decode cX4_roots 27 = .ok (.iconst 0, 1) := dk_3 (dk_at dksX4_roots_1 3 rfl rfl)
theorem dX4_roots_28 : decode cX4_roots 28 = .ok (.ior, 1) := dk_128 (dk_at dksX4_roots_1 4 rfl rfl)
theorem dX4_roots_29 : decode cX4_roots 29 = .ok (.istore_n 1, 1) := dk_60 (dk_at dksX4_roots_1 5 rfl rfl)
theorem dX4_roots_30 : decode cX4_roots 30 = .ok (.iinc 2 1, 3) := dk_132 2 1 (dk_at dksX4_roots_1 6 rfl rfl)
theorem dX4_roots_33 : decode cX4_roots 33 = .ok (.goto (-29), 3) := dk_167 255 227 (dk_at dksX4_roots_1 9 rfl rfl)
theorem dX4_roots_36 : decode cX4_roots 36 = .ok (.iload_n 1, 1) := dk_27 (dk_at dksX4_roots_1 12 rfl rfl)
theorem dX4_roots_37 : decode cX4_roots 37 = .ok (.ireturn, 1) := dk_172 (dk_at dksX4_roots_1 13 rfl rfl)
abbrev cX4_giversOf : ByteArray := prog_12_method_57_code
def yX4_giversOf : MethodName := ⟨RX4, "giversOf", "(I)I"⟩
def dkwX4_giversOf_1 : List UInt8 := [120, 167, 0, 4, 3, 128, 61, 132, 3, 1, 167, 255, 226, 28, 172]
abbrev dktX4_giversOf_1 : List UInt8 := dkwX4_giversOf_1 ++ []
def dkwX4_giversOf_0 : List UInt8 := [3, 61, 3, 62, 29, 42, 180, 1, 13, 162, 0, 28, 28, 42, 29, 27, 182, 1, 73, 153, 0, 9, 4, 29]
abbrev dktX4_giversOf_0 : List UInt8 := dkwX4_giversOf_0 ++ dktX4_giversOf_1
theorem dksX4_giversOf_0 : cX4_giversOf.data.toList.drop 0 = dktX4_giversOf_0 := by decide +kernel
theorem dksX4_giversOf_1 : cX4_giversOf.data.toList.drop 24 = dktX4_giversOf_1 := dk_seg dksX4_giversOf_0 24 rfl rfl
theorem dX4_giversOf_0 : decode cX4_giversOf 0 = .ok (.iconst 0, 1) := dk_3 (dk_at dksX4_giversOf_0 0 rfl rfl)
theorem dX4_giversOf_1 : decode cX4_giversOf 1 = .ok (.istore_n 2, 1) := dk_61 (dk_at dksX4_giversOf_0 1 rfl rfl)
theorem dX4_giversOf_2 : decode cX4_giversOf 2 = .ok (.iconst 0, 1) := dk_3 (dk_at dksX4_giversOf_0 2 rfl rfl)
theorem dX4_giversOf_3 : decode cX4_giversOf 3 = .ok (.istore_n 3, 1) := dk_62 (dk_at dksX4_giversOf_0 3 rfl rfl)
theorem dX4_giversOf_4 : decode cX4_giversOf 4 = .ok (.iload_n 3, 1) := dk_29 (dk_at dksX4_giversOf_0 4 rfl rfl)
theorem dX4_giversOf_5 : decode cX4_giversOf 5 = .ok (.aload_n 0, 1) := dk_42 (dk_at dksX4_giversOf_0 5 rfl rfl)
theorem dX4_giversOf_6 : decode cX4_giversOf 6 = .ok (.getfield 269, 3) := dk_180 1 13 (dk_at dksX4_giversOf_0 6 rfl rfl)
theorem dX4_giversOf_9 : decode cX4_giversOf 9 = .ok (.if_icmp .ge 28, 3) := dk_162 0 28 (dk_at dksX4_giversOf_0 9 rfl rfl)
theorem dX4_giversOf_12 : decode cX4_giversOf 12 = .ok (.iload_n 2, 1) := dk_28 (dk_at dksX4_giversOf_0 12 rfl rfl)
theorem dX4_giversOf_13 : decode cX4_giversOf 13 = .ok (.aload_n 0, 1) := dk_42 (dk_at dksX4_giversOf_0 13 rfl rfl)
theorem dX4_giversOf_14 : decode cX4_giversOf 14 = .ok (.iload_n 3, 1) := dk_29 (dk_at dksX4_giversOf_0 14 rfl rfl)
theorem dX4_giversOf_15 : decode cX4_giversOf 15 = .ok (.iload_n 1, 1) := dk_27 (dk_at dksX4_giversOf_0 15 rfl rfl)
theorem dX4_giversOf_16 : decode cX4_giversOf 16 = .ok (.invokevirtual 329, 3) := dk_182 1 73 (dk_at dksX4_giversOf_0 16 rfl rfl)
theorem dX4_giversOf_19 : decode cX4_giversOf 19 = .ok (.ifCond .eq 9, 3) := dk_153 0 9 (dk_at dksX4_giversOf_0 19 rfl rfl)
theorem dX4_giversOf_22 : decode cX4_giversOf 22 = .ok (.iconst 1, 1) := dk_4 (dk_at dksX4_giversOf_0 22 rfl rfl)
theorem dX4_giversOf_23 : decode cX4_giversOf 23 = .ok (.iload_n 3, 1) := dk_29 (dk_at dksX4_giversOf_0 23 rfl rfl)
theorem dX4_giversOf_24 : decode cX4_giversOf 24 = .ok (.ishl, 1) := dk_120 (dk_at dksX4_giversOf_1 0 rfl rfl)
theorem dX4_giversOf_25 : decode cX4_giversOf 25 = .ok (.goto 4, 3) := dk_167 0 4 (dk_at dksX4_giversOf_1 1 rfl rfl)
theorem dX4_giversOf_28 : decode cX4_giversOf 28 = .ok (.iconst 0, 1) := dk_3 (dk_at dksX4_giversOf_1 4 rfl rfl)
theorem dX4_giversOf_29 : decode cX4_giversOf 29 = .ok (.ior, 1) := dk_128 (dk_at dksX4_giversOf_1 5 rfl rfl)
theorem dX4_giversOf_30 : decode cX4_giversOf 30 = .ok (.istore_n 2, 1) := dk_61 (dk_at dksX4_giversOf_1 6 rfl rfl)
theorem dX4_giversOf_31 : decode cX4_giversOf 31 = .ok (.iinc 3 1, 3) := dk_132 3 1 (dk_at dksX4_giversOf_1 7 rfl rfl)
theorem dX4_giversOf_34 : decode cX4_giversOf 34 = .ok (.goto (-30), 3) := dk_167 255 226 (dk_at dksX4_giversOf_1 10 rfl rfl)
theorem dX4_giversOf_37 : decode cX4_giversOf 37 = .ok (.iload_n 2, 1) := dk_28 (dk_at dksX4_giversOf_1 13 rfl rfl)
theorem dX4_giversOf_38 : decode cX4_giversOf 38 = .ok (.ireturn, 1) := dk_172 (dk_at dksX4_giversOf_1 14 rfl rfl)
abbrev cX4_goesInto : ByteArray := prog_12_method_56_code
def yX4_goesInto : MethodName := ⟨RX4, "goesInto", "(II)Z"⟩
def dkwX4_goesInto_1 : List UInt8 := [160, 0, 7, 4, 167, 0, 4, 3, 172]
abbrev dktX4_goesInto_1 : List UInt8 := dkwX4_goesInto_1 ++ []
def dkwX4_goesInto_0 : List UInt8 := [42, 180, 0, 51, 16, 19, 27, 96, 46, 28, 159, 0, 16, 42, 180, 0, 51, 16, 28, 27, 96, 46, 28]
abbrev dktX4_goesInto_0 : List UInt8 := dkwX4_goesInto_0 ++ dktX4_goesInto_1
theorem dksX4_goesInto_0 : cX4_goesInto.data.toList.drop 0 = dktX4_goesInto_0 := by decide +kernel
theorem dksX4_goesInto_1 : cX4_goesInto.data.toList.drop 23 = dktX4_goesInto_1 := dk_seg dksX4_goesInto_0 23 rfl rfl
theorem dX4_goesInto_0 : decode cX4_goesInto 0 = .ok (.aload_n 0, 1) := dk_42 (dk_at dksX4_goesInto_0 0 rfl rfl)
theorem dX4_goesInto_1 : decode cX4_goesInto 1 = .ok (.getfield 51, 3) := dk_180 0 51 (dk_at dksX4_goesInto_0 1 rfl rfl)
theorem dX4_goesInto_4 : decode cX4_goesInto 4 = .ok (.bipush 19, 2) := dk_16 19 (dk_at dksX4_goesInto_0 4 rfl rfl)
theorem dX4_goesInto_6 : decode cX4_goesInto 6 = .ok (.iload_n 1, 1) := dk_27 (dk_at dksX4_goesInto_0 6 rfl rfl)
theorem dX4_goesInto_7 : decode cX4_goesInto 7 = .ok (.iadd, 1) := dk_96 (dk_at dksX4_goesInto_0 7 rfl rfl)
theorem dX4_goesInto_8 : decode cX4_goesInto 8 = .ok (.iaload, 1) := dk_46 (dk_at dksX4_goesInto_0 8 rfl rfl)
theorem dX4_goesInto_9 : decode cX4_goesInto 9 = .ok (.iload_n 2, 1) := dk_28 (dk_at dksX4_goesInto_0 9 rfl rfl)
theorem dX4_goesInto_10 : decode cX4_goesInto 10 = .ok (.if_icmp .eq 16, 3) := dk_159 0 16 (dk_at dksX4_goesInto_0 10 rfl rfl)
theorem dX4_goesInto_13 : decode cX4_goesInto 13 = .ok (.aload_n 0, 1) := dk_42 (dk_at dksX4_goesInto_0 13 rfl rfl)
theorem dX4_goesInto_14 : decode cX4_goesInto 14 = .ok (.getfield 51, 3) := dk_180 0 51 (dk_at dksX4_goesInto_0 14 rfl rfl)
theorem dX4_goesInto_17 : decode cX4_goesInto 17 = .ok (.bipush 28, 2) := dk_16 28 (dk_at dksX4_goesInto_0 17 rfl rfl)
theorem dX4_goesInto_19 : decode cX4_goesInto 19 = .ok (.iload_n 1, 1) := dk_27 (dk_at dksX4_goesInto_0 19 rfl rfl)
theorem dX4_goesInto_20 : decode cX4_goesInto 20 = .ok (.iadd, 1) := dk_96 (dk_at dksX4_goesInto_0 20 rfl rfl)
theorem dX4_goesInto_21 : decode cX4_goesInto 21 = .ok (.iaload, 1) := dk_46 (dk_at dksX4_goesInto_0 21 rfl rfl)
theorem dX4_goesInto_22 : decode cX4_goesInto 22 = .ok (.iload_n 2, 1) := dk_28 (dk_at dksX4_goesInto_0 22 rfl rfl)
theorem dX4_goesInto_23 : decode cX4_goesInto 23 = .ok (.if_icmp .ne 7, 3) := dk_160 0 7 (dk_at dksX4_goesInto_1 0 rfl rfl)
theorem dX4_goesInto_26 : decode cX4_goesInto 26 = .ok (.iconst 1, 1) := dk_4 (dk_at dksX4_goesInto_1 3 rfl rfl)
theorem dX4_goesInto_27 : decode cX4_goesInto 27 = .ok (.goto 4, 3) := dk_167 0 4 (dk_at dksX4_goesInto_1 4 rfl rfl)
theorem dX4_goesInto_30 : decode cX4_goesInto 30 = .ok (.iconst 0, 1) := dk_3 (dk_at dksX4_goesInto_1 7 rfl rfl)
theorem dX4_goesInto_31 : decode cX4_goesInto 31 = .ok (.ireturn, 1) := dk_172 (dk_at dksX4_goesInto_1 8 rfl rfl)
abbrev cX4_alike : ByteArray := prog_12_method_59_code
def yX4_alike : MethodName := ⟨RX4, "alike", "()I"⟩
def dkwX4_alike_3 : List UInt8 := [160, 0, 7, 4, 167, 0, 4, 3, 96, 60, 132, 3, 1, 167, 255, 185, 132, 2, 1, 167, 255, 169, 27, 172]
abbrev dktX4_alike_3 : List UInt8 := dkwX4_alike_3 ++ []
def dkwX4_alike_2 : List UInt8 := [42, 180, 0, 51, 16, 10, 29, 96, 46, 160, 0, 22, 42, 180, 0, 16, 28, 46, 42, 180, 0, 16, 29, 46]
abbrev dktX4_alike_2 : List UInt8 := dkwX4_alike_2 ++ dktX4_alike_3
def dkwX4_alike_1 : List UInt8 := [4, 28, 96, 46, 42, 180, 0, 51, 4, 29, 96, 46, 160, 0, 43, 42, 180, 0, 51, 16, 10, 28, 96, 46]
abbrev dktX4_alike_1 : List UInt8 := dkwX4_alike_1 ++ dktX4_alike_2
def dkwX4_alike_0 : List UInt8 := [3, 60, 3, 61, 28, 42, 180, 1, 13, 162, 0, 85, 3, 62, 29, 28, 162, 0, 72, 27, 42, 180, 0, 51]
abbrev dktX4_alike_0 : List UInt8 := dkwX4_alike_0 ++ dktX4_alike_1
theorem dksX4_alike_0 : cX4_alike.data.toList.drop 0 = dktX4_alike_0 := by decide +kernel
theorem dksX4_alike_1 : cX4_alike.data.toList.drop 24 = dktX4_alike_1 := dk_seg dksX4_alike_0 24 rfl rfl
theorem dksX4_alike_2 : cX4_alike.data.toList.drop 48 = dktX4_alike_2 := dk_seg dksX4_alike_1 24 rfl rfl
theorem dksX4_alike_3 : cX4_alike.data.toList.drop 72 = dktX4_alike_3 := dk_seg dksX4_alike_2 24 rfl rfl
theorem dX4_alike_0 : decode cX4_alike 0 = .ok (.iconst 0, 1) := dk_3 (dk_at dksX4_alike_0 0 rfl rfl)
theorem dX4_alike_1 : decode cX4_alike 1 = .ok (.istore_n 1, 1) := dk_60 (dk_at dksX4_alike_0 1 rfl rfl)
theorem dX4_alike_2 : decode cX4_alike 2 = .ok (.iconst 0, 1) := dk_3 (dk_at dksX4_alike_0 2 rfl rfl)
theorem dX4_alike_3 : decode cX4_alike 3 = .ok (.istore_n 2, 1) := dk_61 (dk_at dksX4_alike_0 3 rfl rfl)
theorem dX4_alike_4 : decode cX4_alike 4 = .ok (.iload_n 2, 1) := dk_28 (dk_at dksX4_alike_0 4 rfl rfl)
theorem dX4_alike_5 : decode cX4_alike 5 = .ok (.aload_n 0, 1) := dk_42 (dk_at dksX4_alike_0 5 rfl rfl)
theorem dX4_alike_6 : decode cX4_alike 6 = .ok (.getfield 269, 3) := dk_180 1 13 (dk_at dksX4_alike_0 6 rfl rfl)
theorem dX4_alike_9 : decode cX4_alike 9 = .ok (.if_icmp .ge 85, 3) := dk_162 0 85 (dk_at dksX4_alike_0 9 rfl rfl)
theorem dX4_alike_12 : decode cX4_alike 12 = .ok (.iconst 0, 1) := dk_3 (dk_at dksX4_alike_0 12 rfl rfl)
theorem dX4_alike_13 : decode cX4_alike 13 = .ok (.istore_n 3, 1) := dk_62 (dk_at dksX4_alike_0 13 rfl rfl)
theorem dX4_alike_14 : decode cX4_alike 14 = .ok (.iload_n 3, 1) := dk_29 (dk_at dksX4_alike_0 14 rfl rfl)
theorem dX4_alike_15 : decode cX4_alike 15 = .ok (.iload_n 2, 1) := dk_28 (dk_at dksX4_alike_0 15 rfl rfl)
theorem dX4_alike_16 : decode cX4_alike 16 = .ok (.if_icmp .ge 72, 3) := dk_162 0 72 (dk_at dksX4_alike_0 16 rfl rfl)
theorem dX4_alike_19 : decode cX4_alike 19 = .ok (.iload_n 1, 1) := dk_27 (dk_at dksX4_alike_0 19 rfl rfl)
theorem dX4_alike_20 : decode cX4_alike 20 = .ok (.aload_n 0, 1) := dk_42 (dk_at dksX4_alike_0 20 rfl rfl)
theorem dX4_alike_21 : decode cX4_alike 21 = .ok (.getfield 51, 3) := dk_180 0 51 (dk_at dksX4_alike_0 21 rfl rfl)
theorem dX4_alike_24 : decode cX4_alike 24 = .ok (.iconst 1, 1) := dk_4 (dk_at dksX4_alike_1 0 rfl rfl)
theorem dX4_alike_25 : decode cX4_alike 25 = .ok (.iload_n 2, 1) := dk_28 (dk_at dksX4_alike_1 1 rfl rfl)
theorem dX4_alike_26 : decode cX4_alike 26 = .ok (.iadd, 1) := dk_96 (dk_at dksX4_alike_1 2 rfl rfl)
theorem dX4_alike_27 : decode cX4_alike 27 = .ok (.iaload, 1) := dk_46 (dk_at dksX4_alike_1 3 rfl rfl)
theorem dX4_alike_28 : decode cX4_alike 28 = .ok (.aload_n 0, 1) := dk_42 (dk_at dksX4_alike_1 4 rfl rfl)
theorem dX4_alike_29 : decode cX4_alike 29 = .ok (.getfield 51, 3) := dk_180 0 51 (dk_at dksX4_alike_1 5 rfl rfl)
theorem dX4_alike_32 : decode cX4_alike 32 = .ok (.iconst 1, 1) := dk_4 (dk_at dksX4_alike_1 8 rfl rfl)
theorem dX4_alike_33 : decode cX4_alike 33 = .ok (.iload_n 3, 1) := dk_29 (dk_at dksX4_alike_1 9 rfl rfl)
theorem dX4_alike_34 : decode cX4_alike 34 = .ok (.iadd, 1) := dk_96 (dk_at dksX4_alike_1 10 rfl rfl)
theorem dX4_alike_35 : decode cX4_alike 35 = .ok (.iaload, 1) := dk_46 (dk_at dksX4_alike_1 11 rfl rfl)
theorem dX4_alike_36 : decode cX4_alike 36 = .ok (.if_icmp .ne 43, 3) := dk_160 0 43 (dk_at dksX4_alike_1 12 rfl rfl)
theorem dX4_alike_39 : decode cX4_alike 39 = .ok (.aload_n 0, 1) := dk_42 (dk_at dksX4_alike_1 15 rfl rfl)
theorem dX4_alike_40 : decode cX4_alike 40 = .ok (.getfield 51, 3) := dk_180 0 51 (dk_at dksX4_alike_1 16 rfl rfl)
theorem dX4_alike_43 : decode cX4_alike 43 = .ok (.bipush 10, 2) := dk_16 10 (dk_at dksX4_alike_1 19 rfl rfl)
theorem dX4_alike_45 : decode cX4_alike 45 = .ok (.iload_n 2, 1) := dk_28 (dk_at dksX4_alike_1 21 rfl rfl)
theorem dX4_alike_46 : decode cX4_alike 46 = .ok (.iadd, 1) := dk_96 (dk_at dksX4_alike_1 22 rfl rfl)
theorem dX4_alike_47 : decode cX4_alike 47 = .ok (.iaload, 1) := dk_46 (dk_at dksX4_alike_1 23 rfl rfl)
theorem dX4_alike_48 : decode cX4_alike 48 = .ok (.aload_n 0, 1) := dk_42 (dk_at dksX4_alike_2 0 rfl rfl)
theorem dX4_alike_49 : decode cX4_alike 49 = .ok (.getfield 51, 3) := dk_180 0 51 (dk_at dksX4_alike_2 1 rfl rfl)
theorem dX4_alike_52 : decode cX4_alike 52 = .ok (.bipush 10, 2) := dk_16 10 (dk_at dksX4_alike_2 4 rfl rfl)
theorem dX4_alike_54 : decode cX4_alike 54 = .ok (.iload_n 3, 1) := dk_29 (dk_at dksX4_alike_2 6 rfl rfl)
theorem dX4_alike_55 : decode cX4_alike 55 = .ok (.iadd, 1) := dk_96 (dk_at dksX4_alike_2 7 rfl rfl)
theorem dX4_alike_56 : decode cX4_alike 56 = .ok (.iaload, 1) := dk_46 (dk_at dksX4_alike_2 8 rfl rfl)
theorem dX4_alike_57 : decode cX4_alike 57 = .ok (.if_icmp .ne 22, 3) := dk_160 0 22 (dk_at dksX4_alike_2 9 rfl rfl)
theorem dX4_alike_60 : decode cX4_alike 60 = .ok (.aload_n 0, 1) := dk_42 (dk_at dksX4_alike_2 12 rfl rfl)
theorem dX4_alike_61 : decode cX4_alike 61 = .ok (.getfield 16, 3) := dk_180 0 16 (dk_at dksX4_alike_2 13 rfl rfl)
theorem dX4_alike_64 : decode cX4_alike 64 = .ok (.iload_n 2, 1) := dk_28 (dk_at dksX4_alike_2 16 rfl rfl)
theorem dX4_alike_65 : decode cX4_alike 65 = .ok (.iaload, 1) := dk_46 (dk_at dksX4_alike_2 17 rfl rfl)
theorem dX4_alike_66 : decode cX4_alike 66 = .ok (.aload_n 0, 1) := dk_42 (dk_at dksX4_alike_2 18 rfl rfl)
theorem dX4_alike_67 : decode cX4_alike 67 = .ok (.getfield 16, 3) := dk_180 0 16 (dk_at dksX4_alike_2 19 rfl rfl)
theorem dX4_alike_70 : decode cX4_alike 70 = .ok (.iload_n 3, 1) := dk_29 (dk_at dksX4_alike_2 22 rfl rfl)
theorem dX4_alike_71 : decode cX4_alike 71 = .ok (.iaload, 1) := dk_46 (dk_at dksX4_alike_2 23 rfl rfl)
theorem dX4_alike_72 : decode cX4_alike 72 = .ok (.if_icmp .ne 7, 3) := dk_160 0 7 (dk_at dksX4_alike_3 0 rfl rfl)
theorem dX4_alike_75 : decode cX4_alike 75 = .ok (.iconst 1, 1) := dk_4 (dk_at dksX4_alike_3 3 rfl rfl)
theorem dX4_alike_76 : decode cX4_alike 76 = .ok (.goto 4, 3) := dk_167 0 4 (dk_at dksX4_alike_3 4 rfl rfl)
theorem dX4_alike_79 : decode cX4_alike 79 = .ok (.iconst 0, 1) := dk_3 (dk_at dksX4_alike_3 7 rfl rfl)
theorem dX4_alike_80 : decode cX4_alike 80 = .ok (.iadd, 1) := dk_96 (dk_at dksX4_alike_3 8 rfl rfl)
theorem dX4_alike_81 : decode cX4_alike 81 = .ok (.istore_n 1, 1) := dk_60 (dk_at dksX4_alike_3 9 rfl rfl)
theorem dX4_alike_82 : decode cX4_alike 82 = .ok (.iinc 3 1, 3) := dk_132 3 1 (dk_at dksX4_alike_3 10 rfl rfl)
theorem dX4_alike_85 : decode cX4_alike 85 = .ok (.goto (-71), 3) := dk_167 255 185 (dk_at dksX4_alike_3 13 rfl rfl)
theorem dX4_alike_88 : decode cX4_alike 88 = .ok (.iinc 2 1, 3) := dk_132 2 1 (dk_at dksX4_alike_3 16 rfl rfl)
theorem dX4_alike_91 : decode cX4_alike 91 = .ok (.goto (-87), 3) := dk_167 255 169 (dk_at dksX4_alike_3 19 rfl rfl)
theorem dX4_alike_94 : decode cX4_alike 94 = .ok (.iload_n 1, 1) := dk_27 (dk_at dksX4_alike_3 22 rfl rfl)
theorem dX4_alike_95 : decode cX4_alike 95 = .ok (.ireturn, 1) := dk_172 (dk_at dksX4_alike_3 23 rfl rfl)
abbrev cX4_cup : ByteArray := prog_12_method_68_code
def yX4_cup : MethodName := ⟨RX4, "cup", "(II)I"⟩
def dkwX4_cup_6 : List UInt8 := [96, 46, 42, 180, 0, 51, 16, 10, 27, 96, 46, 100, 172]
abbrev dktX4_cup_6 : List UInt8 := dkwX4_cup_6 ++ []
def dkwX4_cup_5 : List UInt8 := [46, 172, 42, 180, 0, 51, 16, 55, 27, 96, 46, 172, 42, 27, 182, 1, 104, 172, 42, 180, 0, 51, 4, 27]
abbrev dktX4_cup_5 : List UInt8 := dkwX4_cup_5 ++ dktX4_cup_6
def dkwX4_cup_4 : List UInt8 := [46, 172, 42, 27, 3, 182, 1, 101, 172, 42, 27, 4, 182, 1, 101, 172, 42, 180, 0, 51, 16, 46, 27, 96]
abbrev dktX4_cup_4 : List UInt8 := dkwX4_cup_4 ++ dktX4_cup_5
def dkwX4_cup_3 : List UInt8 := [42, 180, 0, 51, 4, 27, 96, 46, 172, 42, 180, 0, 51, 16, 10, 27, 96, 46, 172, 42, 180, 0, 16, 27]
abbrev dktX4_cup_3 : List UInt8 := dkwX4_cup_3 ++ dktX4_cup_4
def dkwX4_cup_2 : List UInt8 := [170, 0, 0, 0, 0, 112, 0, 0, 0, 0, 0, 0, 0, 7, 0, 0, 0, 46, 0, 0, 0, 55, 0, 0, 0, 65, 0, 0, 0, 72, 0, 0, 0, 79, 0, 0, 0, 86, 0, 0, 0, 96, 0, 0, 0, 106]
abbrev dktX4_cup_2 : List UInt8 := dkwX4_cup_2 ++ dktX4_cup_3
def dkwX4_cup_1 : List UInt8 := [172, 28]
abbrev dktX4_cup_1 : List UInt8 := dkwX4_cup_1 ++ dktX4_cup_2
def dkwX4_cup_0 : List UInt8 := [42, 3, 181, 0, 114, 42, 27, 182, 1, 95, 153, 0, 13, 42, 28, 16, 8, 182, 1, 98, 154, 0, 5, 3]
abbrev dktX4_cup_0 : List UInt8 := dkwX4_cup_0 ++ dktX4_cup_1
theorem dksX4_cup_0 : cX4_cup.data.toList.drop 0 = dktX4_cup_0 := by decide +kernel
theorem dksX4_cup_1 : cX4_cup.data.toList.drop 24 = dktX4_cup_1 := dk_seg dksX4_cup_0 24 rfl rfl
theorem dksX4_cup_2 : cX4_cup.data.toList.drop 26 = dktX4_cup_2 := dk_seg dksX4_cup_1 2 rfl rfl
theorem dksX4_cup_3 : cX4_cup.data.toList.drop 72 = dktX4_cup_3 := dk_seg dksX4_cup_2 46 rfl rfl
theorem dksX4_cup_4 : cX4_cup.data.toList.drop 96 = dktX4_cup_4 := dk_seg dksX4_cup_3 24 rfl rfl
theorem dksX4_cup_5 : cX4_cup.data.toList.drop 120 = dktX4_cup_5 := dk_seg dksX4_cup_4 24 rfl rfl
theorem dksX4_cup_6 : cX4_cup.data.toList.drop 144 = dktX4_cup_6 := dk_seg dksX4_cup_5 24 rfl rfl
theorem dX4_cup_0 : decode cX4_cup 0 = .ok (.aload_n 0, 1) := dk_42 (dk_at dksX4_cup_0 0 rfl rfl)
theorem dX4_cup_1 : decode cX4_cup 1 = .ok (.iconst 0, 1) := dk_3 (dk_at dksX4_cup_0 1 rfl rfl)
theorem dX4_cup_2 : decode cX4_cup 2 = .ok (.putfield 114, 3) := dk_181 0 114 (dk_at dksX4_cup_0 2 rfl rfl)
theorem dX4_cup_5 : decode cX4_cup 5 = .ok (.aload_n 0, 1) := dk_42 (dk_at dksX4_cup_0 5 rfl rfl)
theorem dX4_cup_6 : decode cX4_cup 6 = .ok (.iload_n 1, 1) := dk_27 (dk_at dksX4_cup_0 6 rfl rfl)
theorem dX4_cup_7 : decode cX4_cup 7 = .ok (.invokevirtual 351, 3) := dk_182 1 95 (dk_at dksX4_cup_0 7 rfl rfl)
theorem dX4_cup_10 : decode cX4_cup 10 = .ok (.ifCond .eq 13, 3) := dk_153 0 13 (dk_at dksX4_cup_0 10 rfl rfl)
theorem dX4_cup_13 : decode cX4_cup 13 = .ok (.aload_n 0, 1) := dk_42 (dk_at dksX4_cup_0 13 rfl rfl)
theorem dX4_cup_14 : decode cX4_cup 14 = .ok (.iload_n 2, 1) := dk_28 (dk_at dksX4_cup_0 14 rfl rfl)
theorem dX4_cup_15 : decode cX4_cup 15 = .ok (.bipush 8, 2) := dk_16 8 (dk_at dksX4_cup_0 15 rfl rfl)
theorem dX4_cup_17 : decode cX4_cup 17 = .ok (.invokevirtual 354, 3) := dk_182 1 98 (dk_at dksX4_cup_0 17 rfl rfl)
theorem dX4_cup_20 : decode cX4_cup 20 = .ok (.ifCond .ne 5, 3) := dk_154 0 5 (dk_at dksX4_cup_0 20 rfl rfl)
theorem dX4_cup_23 : decode cX4_cup 23 = .ok (.iconst 0, 1) := dk_3 (dk_at dksX4_cup_0 23 rfl rfl)
theorem dX4_cup_24 : decode cX4_cup 24 = .ok (.ireturn, 1) := dk_172 (dk_at dksX4_cup_1 0 rfl rfl)
theorem dX4_cup_25 : decode cX4_cup 25 = .ok (.iload_n 2, 1) := dk_28 (dk_at dksX4_cup_1 1 rfl rfl)
theorem dX4_cup_26 : decode cX4_cup 26 = .ok (.tableswitch 112 0 7 #[46, 55, 65, 72, 79, 86, 96, 106], 46) := by decide +kernel
theorem dX4_cup_72 : decode cX4_cup 72 = .ok (.aload_n 0, 1) := dk_42 (dk_at dksX4_cup_3 0 rfl rfl)
theorem dX4_cup_73 : decode cX4_cup 73 = .ok (.getfield 51, 3) := dk_180 0 51 (dk_at dksX4_cup_3 1 rfl rfl)
theorem dX4_cup_76 : decode cX4_cup 76 = .ok (.iconst 1, 1) := dk_4 (dk_at dksX4_cup_3 4 rfl rfl)
theorem dX4_cup_77 : decode cX4_cup 77 = .ok (.iload_n 1, 1) := dk_27 (dk_at dksX4_cup_3 5 rfl rfl)
theorem dX4_cup_78 : decode cX4_cup 78 = .ok (.iadd, 1) := dk_96 (dk_at dksX4_cup_3 6 rfl rfl)
theorem dX4_cup_79 : decode cX4_cup 79 = .ok (.iaload, 1) := dk_46 (dk_at dksX4_cup_3 7 rfl rfl)
theorem dX4_cup_80 : decode cX4_cup 80 = .ok (.ireturn, 1) := dk_172 (dk_at dksX4_cup_3 8 rfl rfl)
theorem dX4_cup_81 : decode cX4_cup 81 = .ok (.aload_n 0, 1) := dk_42 (dk_at dksX4_cup_3 9 rfl rfl)
theorem dX4_cup_82 : decode cX4_cup 82 = .ok (.getfield 51, 3) := dk_180 0 51 (dk_at dksX4_cup_3 10 rfl rfl)
theorem dX4_cup_85 : decode cX4_cup 85 = .ok (.bipush 10, 2) := dk_16 10 (dk_at dksX4_cup_3 13 rfl rfl)
theorem dX4_cup_87 : decode cX4_cup 87 = .ok (.iload_n 1, 1) := dk_27 (dk_at dksX4_cup_3 15 rfl rfl)
theorem dX4_cup_88 : decode cX4_cup 88 = .ok (.iadd, 1) := dk_96 (dk_at dksX4_cup_3 16 rfl rfl)
theorem dX4_cup_89 : decode cX4_cup 89 = .ok (.iaload, 1) := dk_46 (dk_at dksX4_cup_3 17 rfl rfl)
theorem dX4_cup_90 : decode cX4_cup 90 = .ok (.ireturn, 1) := dk_172 (dk_at dksX4_cup_3 18 rfl rfl)
theorem dX4_cup_91 : decode cX4_cup 91 = .ok (.aload_n 0, 1) := dk_42 (dk_at dksX4_cup_3 19 rfl rfl)
theorem dX4_cup_92 : decode cX4_cup 92 = .ok (.getfield 16, 3) := dk_180 0 16 (dk_at dksX4_cup_3 20 rfl rfl)
theorem dX4_cup_95 : decode cX4_cup 95 = .ok (.iload_n 1, 1) := dk_27 (dk_at dksX4_cup_3 23 rfl rfl)
theorem dX4_cup_96 : decode cX4_cup 96 = .ok (.iaload, 1) := dk_46 (dk_at dksX4_cup_4 0 rfl rfl)
theorem dX4_cup_97 : decode cX4_cup 97 = .ok (.ireturn, 1) := dk_172 (dk_at dksX4_cup_4 1 rfl rfl)
theorem dX4_cup_98 : decode cX4_cup 98 = .ok (.aload_n 0, 1) := dk_42 (dk_at dksX4_cup_4 2 rfl rfl)
theorem dX4_cup_99 : decode cX4_cup 99 = .ok (.iload_n 1, 1) := dk_27 (dk_at dksX4_cup_4 3 rfl rfl)
theorem dX4_cup_100 : decode cX4_cup 100 = .ok (.iconst 0, 1) := dk_3 (dk_at dksX4_cup_4 4 rfl rfl)
theorem dX4_cup_101 : decode cX4_cup 101 = .ok (.invokevirtual 357, 3) := dk_182 1 101 (dk_at dksX4_cup_4 5 rfl rfl)
theorem dX4_cup_104 : decode cX4_cup 104 = .ok (.ireturn, 1) := dk_172 (dk_at dksX4_cup_4 8 rfl rfl)
theorem dX4_cup_105 : decode cX4_cup 105 = .ok (.aload_n 0, 1) := dk_42 (dk_at dksX4_cup_4 9 rfl rfl)
theorem dX4_cup_106 : decode cX4_cup 106 = .ok (.iload_n 1, 1) := dk_27 (dk_at dksX4_cup_4 10 rfl rfl)
theorem dX4_cup_107 : decode cX4_cup 107 = .ok (.iconst 1, 1) := dk_4 (dk_at dksX4_cup_4 11 rfl rfl)
theorem dX4_cup_108 : decode cX4_cup 108 = .ok (.invokevirtual 357, 3) := dk_182 1 101 (dk_at dksX4_cup_4 12 rfl rfl)
theorem dX4_cup_111 : decode cX4_cup 111 = .ok (.ireturn, 1) := dk_172 (dk_at dksX4_cup_4 15 rfl rfl)
theorem dX4_cup_112 : decode cX4_cup 112 = .ok (.aload_n 0, 1) := dk_42 (dk_at dksX4_cup_4 16 rfl rfl)
theorem dX4_cup_113 : decode cX4_cup 113 = .ok (.getfield 51, 3) := dk_180 0 51 (dk_at dksX4_cup_4 17 rfl rfl)
theorem dX4_cup_116 : decode cX4_cup 116 = .ok (.bipush 46, 2) := dk_16 46 (dk_at dksX4_cup_4 20 rfl rfl)
theorem dX4_cup_118 : decode cX4_cup 118 = .ok (.iload_n 1, 1) := dk_27 (dk_at dksX4_cup_4 22 rfl rfl)
theorem dX4_cup_119 : decode cX4_cup 119 = .ok (.iadd, 1) := dk_96 (dk_at dksX4_cup_4 23 rfl rfl)
theorem dX4_cup_120 : decode cX4_cup 120 = .ok (.iaload, 1) := dk_46 (dk_at dksX4_cup_5 0 rfl rfl)
theorem dX4_cup_121 : decode cX4_cup 121 = .ok (.ireturn, 1) := dk_172 (dk_at dksX4_cup_5 1 rfl rfl)
theorem dX4_cup_122 : decode cX4_cup 122 = .ok (.aload_n 0, 1) := dk_42 (dk_at dksX4_cup_5 2 rfl rfl)
theorem dX4_cup_123 : decode cX4_cup 123 = .ok (.getfield 51, 3) := dk_180 0 51 (dk_at dksX4_cup_5 3 rfl rfl)
theorem dX4_cup_126 : decode cX4_cup 126 = .ok (.bipush 55, 2) := dk_16 55 (dk_at dksX4_cup_5 6 rfl rfl)
theorem dX4_cup_128 : decode cX4_cup 128 = .ok (.iload_n 1, 1) := dk_27 (dk_at dksX4_cup_5 8 rfl rfl)
theorem dX4_cup_129 : decode cX4_cup 129 = .ok (.iadd, 1) := dk_96 (dk_at dksX4_cup_5 9 rfl rfl)
theorem dX4_cup_130 : decode cX4_cup 130 = .ok (.iaload, 1) := dk_46 (dk_at dksX4_cup_5 10 rfl rfl)
theorem dX4_cup_131 : decode cX4_cup 131 = .ok (.ireturn, 1) := dk_172 (dk_at dksX4_cup_5 11 rfl rfl)
theorem dX4_cup_132 : decode cX4_cup 132 = .ok (.aload_n 0, 1) := dk_42 (dk_at dksX4_cup_5 12 rfl rfl)
theorem dX4_cup_133 : decode cX4_cup 133 = .ok (.iload_n 1, 1) := dk_27 (dk_at dksX4_cup_5 13 rfl rfl)
theorem dX4_cup_134 : decode cX4_cup 134 = .ok (.invokevirtual 360, 3) := dk_182 1 104 (dk_at dksX4_cup_5 14 rfl rfl)
theorem dX4_cup_137 : decode cX4_cup 137 = .ok (.ireturn, 1) := dk_172 (dk_at dksX4_cup_5 17 rfl rfl)
theorem dX4_cup_138 : decode cX4_cup 138 = .ok (.aload_n 0, 1) := dk_42 (dk_at dksX4_cup_5 18 rfl rfl)
theorem dX4_cup_139 : decode cX4_cup 139 = .ok (.getfield 51, 3) := dk_180 0 51 (dk_at dksX4_cup_5 19 rfl rfl)
theorem dX4_cup_142 : decode cX4_cup 142 = .ok (.iconst 1, 1) := dk_4 (dk_at dksX4_cup_5 22 rfl rfl)
theorem dX4_cup_143 : decode cX4_cup 143 = .ok (.iload_n 1, 1) := dk_27 (dk_at dksX4_cup_5 23 rfl rfl)
theorem dX4_cup_144 : decode cX4_cup 144 = .ok (.iadd, 1) := dk_96 (dk_at dksX4_cup_6 0 rfl rfl)
theorem dX4_cup_145 : decode cX4_cup 145 = .ok (.iaload, 1) := dk_46 (dk_at dksX4_cup_6 1 rfl rfl)
theorem dX4_cup_146 : decode cX4_cup 146 = .ok (.aload_n 0, 1) := dk_42 (dk_at dksX4_cup_6 2 rfl rfl)
theorem dX4_cup_147 : decode cX4_cup 147 = .ok (.getfield 51, 3) := dk_180 0 51 (dk_at dksX4_cup_6 3 rfl rfl)
theorem dX4_cup_150 : decode cX4_cup 150 = .ok (.bipush 10, 2) := dk_16 10 (dk_at dksX4_cup_6 6 rfl rfl)
theorem dX4_cup_152 : decode cX4_cup 152 = .ok (.iload_n 1, 1) := dk_27 (dk_at dksX4_cup_6 8 rfl rfl)
theorem dX4_cup_153 : decode cX4_cup 153 = .ok (.iadd, 1) := dk_96 (dk_at dksX4_cup_6 9 rfl rfl)
theorem dX4_cup_154 : decode cX4_cup 154 = .ok (.iaload, 1) := dk_46 (dk_at dksX4_cup_6 10 rfl rfl)
theorem dX4_cup_155 : decode cX4_cup 155 = .ok (.isub, 1) := dk_100 (dk_at dksX4_cup_6 11 rfl rfl)
theorem dX4_cup_156 : decode cX4_cup 156 = .ok (.ireturn, 1) := dk_172 (dk_at dksX4_cup_6 12 rfl rfl)
abbrev cX4_isCup : ByteArray := prog_12_method_62_code
def yX4_isCup : MethodName := ⟨RX4, "isCup", "(I)Z"⟩
def dkwX4_isCup_0 : List UInt8 := [42, 27, 155, 0, 15, 27, 42, 180, 1, 13, 162, 0, 7, 4, 167, 0, 4, 3, 4, 182, 1, 6, 172]
abbrev dktX4_isCup_0 : List UInt8 := dkwX4_isCup_0 ++ []
theorem dksX4_isCup_0 : cX4_isCup.data.toList.drop 0 = dktX4_isCup_0 := by decide +kernel
theorem dX4_isCup_0 : decode cX4_isCup 0 = .ok (.aload_n 0, 1) := dk_42 (dk_at dksX4_isCup_0 0 rfl rfl)
theorem dX4_isCup_1 : decode cX4_isCup 1 = .ok (.iload_n 1, 1) := dk_27 (dk_at dksX4_isCup_0 1 rfl rfl)
theorem dX4_isCup_2 : decode cX4_isCup 2 = .ok (.ifCond .lt 15, 3) := dk_155 0 15 (dk_at dksX4_isCup_0 2 rfl rfl)
theorem dX4_isCup_5 : decode cX4_isCup 5 = .ok (.iload_n 1, 1) := dk_27 (dk_at dksX4_isCup_0 5 rfl rfl)
theorem dX4_isCup_6 : decode cX4_isCup 6 = .ok (.aload_n 0, 1) := dk_42 (dk_at dksX4_isCup_0 6 rfl rfl)
theorem dX4_isCup_7 : decode cX4_isCup 7 = .ok (.getfield 269, 3) := dk_180 1 13 (dk_at dksX4_isCup_0 7 rfl rfl)
theorem dX4_isCup_10 : decode cX4_isCup 10 = .ok (.if_icmp .ge 7, 3) := dk_162 0 7 (dk_at dksX4_isCup_0 10 rfl rfl)
theorem dX4_isCup_13 : decode cX4_isCup 13 = .ok (.iconst 1, 1) := dk_4 (dk_at dksX4_isCup_0 13 rfl rfl)
theorem dX4_isCup_14 : decode cX4_isCup 14 = .ok (.goto 4, 3) := dk_167 0 4 (dk_at dksX4_isCup_0 14 rfl rfl)
theorem dX4_isCup_17 : decode cX4_isCup 17 = .ok (.iconst 0, 1) := dk_3 (dk_at dksX4_isCup_0 17 rfl rfl)
theorem dX4_isCup_18 : decode cX4_isCup 18 = .ok (.iconst 1, 1) := dk_4 (dk_at dksX4_isCup_0 18 rfl rfl)
theorem dX4_isCup_19 : decode cX4_isCup 19 = .ok (.invokevirtual 262, 3) := dk_182 1 6 (dk_at dksX4_isCup_0 19 rfl rfl)
theorem dX4_isCup_22 : decode cX4_isCup 22 = .ok (.ireturn, 1) := dk_172 (dk_at dksX4_isCup_0 22 rfl rfl)
abbrev cX4_isWhat : ByteArray := prog_12_method_63_code
def yX4_isWhat : MethodName := ⟨RX4, "isWhat", "(II)Z"⟩
def dkwX4_isWhat_0 : List UInt8 := [42, 27, 3, 28, 184, 1, 76, 4, 182, 1, 6, 172]
abbrev dktX4_isWhat_0 : List UInt8 := dkwX4_isWhat_0 ++ []
theorem dksX4_isWhat_0 : cX4_isWhat.data.toList.drop 0 = dktX4_isWhat_0 := by decide +kernel
theorem dX4_isWhat_0 : decode cX4_isWhat 0 = .ok (.aload_n 0, 1) := dk_42 (dk_at dksX4_isWhat_0 0 rfl rfl)
theorem dX4_isWhat_1 : decode cX4_isWhat 1 = .ok (.iload_n 1, 1) := dk_27 (dk_at dksX4_isWhat_0 1 rfl rfl)
theorem dX4_isWhat_2 : decode cX4_isWhat 2 = .ok (.iconst 0, 1) := dk_3 (dk_at dksX4_isWhat_0 2 rfl rfl)
theorem dX4_isWhat_3 : decode cX4_isWhat 3 = .ok (.iload_n 2, 1) := dk_28 (dk_at dksX4_isWhat_0 3 rfl rfl)
theorem dX4_isWhat_4 : decode cX4_isWhat 4 = .ok (.invokestatic 332, 3) := dk_184 1 76 (dk_at dksX4_isWhat_0 4 rfl rfl)
theorem dX4_isWhat_7 : decode cX4_isWhat 7 = .ok (.iconst 1, 1) := dk_4 (dk_at dksX4_isWhat_0 7 rfl rfl)
theorem dX4_isWhat_8 : decode cX4_isWhat 8 = .ok (.invokevirtual 262, 3) := dk_182 1 6 (dk_at dksX4_isWhat_0 8 rfl rfl)
theorem dX4_isWhat_11 : decode cX4_isWhat 11 = .ok (.ireturn, 1) := dk_172 (dk_at dksX4_isWhat_0 11 rfl rfl)
abbrev cX4_into : ByteArray := prog_12_method_67_code
def yX4_into : MethodName := ⟨RX4, "into", "(II)I"⟩
def dkwX4_into_2 : List UInt8 := [167, 0, 12, 42, 180, 0, 51, 16, 28, 27, 96, 46, 172]
abbrev dktX4_into_2 : List UInt8 := dkwX4_into_2 ++ []
def dkwX4_into_1 : List UInt8 := [180, 0, 51, 16, 37, 27, 96, 46, 28, 96, 5, 112, 154, 0, 15, 42, 180, 0, 51, 16, 19, 27, 96, 46]
abbrev dktX4_into_1 : List UInt8 := dkwX4_into_1 ++ dktX4_into_2
def dkwX4_into_0 : List UInt8 := [42, 180, 0, 51, 16, 28, 27, 96, 46, 2, 160, 0, 13, 42, 180, 0, 51, 16, 19, 27, 96, 46, 172, 42]
abbrev dktX4_into_0 : List UInt8 := dkwX4_into_0 ++ dktX4_into_1
theorem dksX4_into_0 : cX4_into.data.toList.drop 0 = dktX4_into_0 := by decide +kernel
theorem dksX4_into_1 : cX4_into.data.toList.drop 24 = dktX4_into_1 := dk_seg dksX4_into_0 24 rfl rfl
theorem dksX4_into_2 : cX4_into.data.toList.drop 48 = dktX4_into_2 := dk_seg dksX4_into_1 24 rfl rfl
theorem dX4_into_0 : decode cX4_into 0 = .ok (.aload_n 0, 1) := dk_42 (dk_at dksX4_into_0 0 rfl rfl)
theorem dX4_into_1 : decode cX4_into 1 = .ok (.getfield 51, 3) := dk_180 0 51 (dk_at dksX4_into_0 1 rfl rfl)
theorem dX4_into_4 : decode cX4_into 4 = .ok (.bipush 28, 2) := dk_16 28 (dk_at dksX4_into_0 4 rfl rfl)
theorem dX4_into_6 : decode cX4_into 6 = .ok (.iload_n 1, 1) := dk_27 (dk_at dksX4_into_0 6 rfl rfl)
theorem dX4_into_7 : decode cX4_into 7 = .ok (.iadd, 1) := dk_96 (dk_at dksX4_into_0 7 rfl rfl)
theorem dX4_into_8 : decode cX4_into 8 = .ok (.iaload, 1) := dk_46 (dk_at dksX4_into_0 8 rfl rfl)
theorem dX4_into_9 : decode cX4_into 9 = .ok (.iconst (-1), 1) := dk_2 (dk_at dksX4_into_0 9 rfl rfl)
theorem dX4_into_10 : decode cX4_into 10 = .ok (.if_icmp .ne 13, 3) := dk_160 0 13 (dk_at dksX4_into_0 10 rfl rfl)
theorem dX4_into_13 : decode cX4_into 13 = .ok (.aload_n 0, 1) := dk_42 (dk_at dksX4_into_0 13 rfl rfl)
theorem dX4_into_14 : decode cX4_into 14 = .ok (.getfield 51, 3) := dk_180 0 51 (dk_at dksX4_into_0 14 rfl rfl)
theorem dX4_into_17 : decode cX4_into 17 = .ok (.bipush 19, 2) := dk_16 19 (dk_at dksX4_into_0 17 rfl rfl)
theorem dX4_into_19 : decode cX4_into 19 = .ok (.iload_n 1, 1) := dk_27 (dk_at dksX4_into_0 19 rfl rfl)
theorem dX4_into_20 : decode cX4_into 20 = .ok (.iadd, 1) := dk_96 (dk_at dksX4_into_0 20 rfl rfl)
theorem dX4_into_21 : decode cX4_into 21 = .ok (.iaload, 1) := dk_46 (dk_at dksX4_into_0 21 rfl rfl)
theorem dX4_into_22 : decode cX4_into 22 = .ok (.ireturn, 1) := dk_172 (dk_at dksX4_into_0 22 rfl rfl)
theorem dX4_into_23 : decode cX4_into 23 = .ok (.aload_n 0, 1) := dk_42 (dk_at dksX4_into_0 23 rfl rfl)
theorem dX4_into_24 : decode cX4_into 24 = .ok (.getfield 51, 3) := dk_180 0 51 (dk_at dksX4_into_1 0 rfl rfl)
theorem dX4_into_27 : decode cX4_into 27 = .ok (.bipush 37, 2) := dk_16 37 (dk_at dksX4_into_1 3 rfl rfl)
theorem dX4_into_29 : decode cX4_into 29 = .ok (.iload_n 1, 1) := dk_27 (dk_at dksX4_into_1 5 rfl rfl)
theorem dX4_into_30 : decode cX4_into 30 = .ok (.iadd, 1) := dk_96 (dk_at dksX4_into_1 6 rfl rfl)
theorem dX4_into_31 : decode cX4_into 31 = .ok (.iaload, 1) := dk_46 (dk_at dksX4_into_1 7 rfl rfl)
theorem dX4_into_32 : decode cX4_into 32 = .ok (.iload_n 2, 1) := dk_28 (dk_at dksX4_into_1 8 rfl rfl)
theorem dX4_into_33 : decode cX4_into 33 = .ok (.iadd, 1) := dk_96 (dk_at dksX4_into_1 9 rfl rfl)
theorem dX4_into_34 : decode cX4_into 34 = .ok (.iconst 2, 1) := dk_5 (dk_at dksX4_into_1 10 rfl rfl)
theorem dX4_into_35 : decode cX4_into 35 = .ok (.irem, 1) := dk_112 (dk_at dksX4_into_1 11 rfl rfl)
theorem dX4_into_36 : decode cX4_into 36 = .ok (.ifCond .ne 15, 3) := dk_154 0 15 (dk_at dksX4_into_1 12 rfl rfl)
theorem dX4_into_39 : decode cX4_into 39 = .ok (.aload_n 0, 1) := dk_42 (dk_at dksX4_into_1 15 rfl rfl)
theorem dX4_into_40 : decode cX4_into 40 = .ok (.getfield 51, 3) := dk_180 0 51 (dk_at dksX4_into_1 16 rfl rfl)
theorem dX4_into_43 : decode cX4_into 43 = .ok (.bipush 19, 2) := dk_16 19 (dk_at dksX4_into_1 19 rfl rfl)
theorem dX4_into_45 : decode cX4_into 45 = .ok (.iload_n 1, 1) := dk_27 (dk_at dksX4_into_1 21 rfl rfl)
theorem dX4_into_46 : decode cX4_into 46 = .ok (.iadd, 1) := dk_96 (dk_at dksX4_into_1 22 rfl rfl)
theorem dX4_into_47 : decode cX4_into 47 = .ok (.iaload, 1) := dk_46 (dk_at dksX4_into_1 23 rfl rfl)
theorem dX4_into_48 : decode cX4_into 48 = .ok (.goto 12, 3) := dk_167 0 12 (dk_at dksX4_into_2 0 rfl rfl)
theorem dX4_into_51 : decode cX4_into 51 = .ok (.aload_n 0, 1) := dk_42 (dk_at dksX4_into_2 3 rfl rfl)
theorem dX4_into_52 : decode cX4_into 52 = .ok (.getfield 51, 3) := dk_180 0 51 (dk_at dksX4_into_2 4 rfl rfl)
theorem dX4_into_55 : decode cX4_into 55 = .ok (.bipush 28, 2) := dk_16 28 (dk_at dksX4_into_2 7 rfl rfl)
theorem dX4_into_57 : decode cX4_into 57 = .ok (.iload_n 1, 1) := dk_27 (dk_at dksX4_into_2 9 rfl rfl)
theorem dX4_into_58 : decode cX4_into 58 = .ok (.iadd, 1) := dk_96 (dk_at dksX4_into_2 10 rfl rfl)
theorem dX4_into_59 : decode cX4_into 59 = .ok (.iaload, 1) := dk_46 (dk_at dksX4_into_2 11 rfl rfl)
theorem dX4_into_60 : decode cX4_into 60 = .ok (.ireturn, 1) := dk_172 (dk_at dksX4_into_2 12 rfl rfl)
abbrev cX4_deep : ByteArray := prog_12_method_66_code
def yX4_deep : MethodName := ⟨RX4, "deep", "(I)I"⟩
def dkwX4_deep_3 : List UInt8 := [167, 255, 192, 42, 180, 0, 72, 27, 46, 172]
abbrev dktX4_deep_3 : List UInt8 := dkwX4_deep_3 ++ []
def dkwX4_deep_2 : List UInt8 := [28, 46, 4, 42, 180, 0, 72, 29, 46, 96, 184, 1, 92, 79, 132, 3, 1, 167, 255, 213, 132, 2, 255]
abbrev dktX4_deep_2 : List UInt8 := dkwX4_deep_2 ++ dktX4_deep_3
def dkwX4_deep_1 : List UInt8 := [180, 1, 13, 162, 0, 41, 42, 28, 29, 182, 1, 73, 153, 0, 26, 42, 180, 0, 72, 28, 42, 180, 0, 72]
abbrev dktX4_deep_1 : List UInt8 := dkwX4_deep_1 ++ dktX4_deep_2
def dkwX4_deep_0 : List UInt8 := [42, 180, 1, 13, 4, 100, 61, 28, 155, 0, 66, 42, 180, 0, 72, 28, 3, 79, 28, 4, 96, 62, 29, 42]
abbrev dktX4_deep_0 : List UInt8 := dkwX4_deep_0 ++ dktX4_deep_1
theorem dksX4_deep_0 : cX4_deep.data.toList.drop 0 = dktX4_deep_0 := by decide +kernel
theorem dksX4_deep_1 : cX4_deep.data.toList.drop 24 = dktX4_deep_1 := dk_seg dksX4_deep_0 24 rfl rfl
theorem dksX4_deep_2 : cX4_deep.data.toList.drop 48 = dktX4_deep_2 := dk_seg dksX4_deep_1 24 rfl rfl
theorem dksX4_deep_3 : cX4_deep.data.toList.drop 71 = dktX4_deep_3 := dk_seg dksX4_deep_2 23 rfl rfl
theorem dX4_deep_0 : decode cX4_deep 0 = .ok (.aload_n 0, 1) := dk_42 (dk_at dksX4_deep_0 0 rfl rfl)
theorem dX4_deep_1 : decode cX4_deep 1 = .ok (.getfield 269, 3) := dk_180 1 13 (dk_at dksX4_deep_0 1 rfl rfl)
theorem dX4_deep_4 : decode cX4_deep 4 = .ok (.iconst 1, 1) := dk_4 (dk_at dksX4_deep_0 4 rfl rfl)
theorem dX4_deep_5 : decode cX4_deep 5 = .ok (.isub, 1) := dk_100 (dk_at dksX4_deep_0 5 rfl rfl)
theorem dX4_deep_6 : decode cX4_deep 6 = .ok (.istore_n 2, 1) := dk_61 (dk_at dksX4_deep_0 6 rfl rfl)
theorem dX4_deep_7 : decode cX4_deep 7 = .ok (.iload_n 2, 1) := dk_28 (dk_at dksX4_deep_0 7 rfl rfl)
theorem dX4_deep_8 : decode cX4_deep 8 = .ok (.ifCond .lt 66, 3) := dk_155 0 66 (dk_at dksX4_deep_0 8 rfl rfl)
theorem dX4_deep_11 : decode cX4_deep 11 = .ok (.aload_n 0, 1) := dk_42 (dk_at dksX4_deep_0 11 rfl rfl)
theorem dX4_deep_12 : decode cX4_deep 12 = .ok (.getfield 72, 3) := dk_180 0 72 (dk_at dksX4_deep_0 12 rfl rfl)
theorem dX4_deep_15 : decode cX4_deep 15 = .ok (.iload_n 2, 1) := dk_28 (dk_at dksX4_deep_0 15 rfl rfl)
theorem dX4_deep_16 : decode cX4_deep 16 = .ok (.iconst 0, 1) := dk_3 (dk_at dksX4_deep_0 16 rfl rfl)
theorem dX4_deep_17 : decode cX4_deep 17 = .ok (.iastore, 1) := dk_79 (dk_at dksX4_deep_0 17 rfl rfl)
theorem dX4_deep_18 : decode cX4_deep 18 = .ok (.iload_n 2, 1) := dk_28 (dk_at dksX4_deep_0 18 rfl rfl)
theorem dX4_deep_19 : decode cX4_deep 19 = .ok (.iconst 1, 1) := dk_4 (dk_at dksX4_deep_0 19 rfl rfl)
theorem dX4_deep_20 : decode cX4_deep 20 = .ok (.iadd, 1) := dk_96 (dk_at dksX4_deep_0 20 rfl rfl)
theorem dX4_deep_21 : decode cX4_deep 21 = .ok (.istore_n 3, 1) := dk_62 (dk_at dksX4_deep_0 21 rfl rfl)
theorem dX4_deep_22 : decode cX4_deep 22 = .ok (.iload_n 3, 1) := dk_29 (dk_at dksX4_deep_0 22 rfl rfl)
theorem dX4_deep_23 : decode cX4_deep 23 = .ok (.aload_n 0, 1) := dk_42 (dk_at dksX4_deep_0 23 rfl rfl)
theorem dX4_deep_24 : decode cX4_deep 24 = .ok (.getfield 269, 3) := dk_180 1 13 (dk_at dksX4_deep_1 0 rfl rfl)
theorem dX4_deep_27 : decode cX4_deep 27 = .ok (.if_icmp .ge 41, 3) := dk_162 0 41 (dk_at dksX4_deep_1 3 rfl rfl)
theorem dX4_deep_30 : decode cX4_deep 30 = .ok (.aload_n 0, 1) := dk_42 (dk_at dksX4_deep_1 6 rfl rfl)
theorem dX4_deep_31 : decode cX4_deep 31 = .ok (.iload_n 2, 1) := dk_28 (dk_at dksX4_deep_1 7 rfl rfl)
theorem dX4_deep_32 : decode cX4_deep 32 = .ok (.iload_n 3, 1) := dk_29 (dk_at dksX4_deep_1 8 rfl rfl)
theorem dX4_deep_33 : decode cX4_deep 33 = .ok (.invokevirtual 329, 3) := dk_182 1 73 (dk_at dksX4_deep_1 9 rfl rfl)
theorem dX4_deep_36 : decode cX4_deep 36 = .ok (.ifCond .eq 26, 3) := dk_153 0 26 (dk_at dksX4_deep_1 12 rfl rfl)
theorem dX4_deep_39 : decode cX4_deep 39 = .ok (.aload_n 0, 1) := dk_42 (dk_at dksX4_deep_1 15 rfl rfl)
theorem dX4_deep_40 : decode cX4_deep 40 = .ok (.getfield 72, 3) := dk_180 0 72 (dk_at dksX4_deep_1 16 rfl rfl)
theorem dX4_deep_43 : decode cX4_deep 43 = .ok (.iload_n 2, 1) := dk_28 (dk_at dksX4_deep_1 19 rfl rfl)
theorem dX4_deep_44 : decode cX4_deep 44 = .ok (.aload_n 0, 1) := dk_42 (dk_at dksX4_deep_1 20 rfl rfl)
theorem dX4_deep_45 : decode cX4_deep 45 = .ok (.getfield 72, 3) := dk_180 0 72 (dk_at dksX4_deep_1 21 rfl rfl)
theorem dX4_deep_48 : decode cX4_deep 48 = .ok (.iload_n 2, 1) := dk_28 (dk_at dksX4_deep_2 0 rfl rfl)
theorem dX4_deep_49 : decode cX4_deep 49 = .ok (.iaload, 1) := dk_46 (dk_at dksX4_deep_2 1 rfl rfl)
theorem dX4_deep_50 : decode cX4_deep 50 = .ok (.iconst 1, 1) := dk_4 (dk_at dksX4_deep_2 2 rfl rfl)
theorem dX4_deep_51 : decode cX4_deep 51 = .ok (.aload_n 0, 1) := dk_42 (dk_at dksX4_deep_2 3 rfl rfl)
theorem dX4_deep_52 : decode cX4_deep 52 = .ok (.getfield 72, 3) := dk_180 0 72 (dk_at dksX4_deep_2 4 rfl rfl)
theorem dX4_deep_55 : decode cX4_deep 55 = .ok (.iload_n 3, 1) := dk_29 (dk_at dksX4_deep_2 7 rfl rfl)
theorem dX4_deep_56 : decode cX4_deep 56 = .ok (.iaload, 1) := dk_46 (dk_at dksX4_deep_2 8 rfl rfl)
theorem dX4_deep_57 : decode cX4_deep 57 = .ok (.iadd, 1) := dk_96 (dk_at dksX4_deep_2 9 rfl rfl)
theorem dX4_deep_58 : decode cX4_deep 58 = .ok (.invokestatic 348, 3) := dk_184 1 92 (dk_at dksX4_deep_2 10 rfl rfl)
theorem dX4_deep_61 : decode cX4_deep 61 = .ok (.iastore, 1) := dk_79 (dk_at dksX4_deep_2 13 rfl rfl)
theorem dX4_deep_62 : decode cX4_deep 62 = .ok (.iinc 3 1, 3) := dk_132 3 1 (dk_at dksX4_deep_2 14 rfl rfl)
theorem dX4_deep_65 : decode cX4_deep 65 = .ok (.goto (-43), 3) := dk_167 255 213 (dk_at dksX4_deep_2 17 rfl rfl)
theorem dX4_deep_68 : decode cX4_deep 68 = .ok (.iinc 2 (-1), 3) := dk_132 2 255 (dk_at dksX4_deep_2 20 rfl rfl)
theorem dX4_deep_71 : decode cX4_deep 71 = .ok (.goto (-64), 3) := dk_167 255 192 (dk_at dksX4_deep_3 0 rfl rfl)
theorem dX4_deep_74 : decode cX4_deep 74 = .ok (.aload_n 0, 1) := dk_42 (dk_at dksX4_deep_3 3 rfl rfl)
theorem dX4_deep_75 : decode cX4_deep 75 = .ok (.getfield 72, 3) := dk_180 0 72 (dk_at dksX4_deep_3 4 rfl rfl)
theorem dX4_deep_78 : decode cX4_deep 78 = .ok (.iload_n 1, 1) := dk_27 (dk_at dksX4_deep_3 7 rfl rfl)
theorem dX4_deep_79 : decode cX4_deep 79 = .ok (.iaload, 1) := dk_46 (dk_at dksX4_deep_3 8 rfl rfl)
theorem dX4_deep_80 : decode cX4_deep 80 = .ok (.ireturn, 1) := dk_172 (dk_at dksX4_deep_3 9 rfl rfl)
abbrev cX4_greater : ByteArray := prog_12_method_7_code
def yX4_greater : MethodName := ⟨RX4, "greater", "(II)I"⟩
def dkwX4_greater_0 : List UInt8 := [26, 27, 164, 0, 7, 26, 167, 0, 4, 27, 172]
abbrev dktX4_greater_0 : List UInt8 := dkwX4_greater_0 ++ []
theorem dksX4_greater_0 : cX4_greater.data.toList.drop 0 = dktX4_greater_0 := by decide +kernel
theorem dX4_greater_0 : decode cX4_greater 0 = .ok (.iload_n 0, 1) := dk_26 (dk_at dksX4_greater_0 0 rfl rfl)
theorem dX4_greater_1 : decode cX4_greater 1 = .ok (.iload_n 1, 1) := dk_27 (dk_at dksX4_greater_0 1 rfl rfl)
theorem dX4_greater_2 : decode cX4_greater 2 = .ok (.if_icmp .le 7, 3) := dk_164 0 7 (dk_at dksX4_greater_0 2 rfl rfl)
theorem dX4_greater_5 : decode cX4_greater 5 = .ok (.iload_n 0, 1) := dk_26 (dk_at dksX4_greater_0 5 rfl rfl)
theorem dX4_greater_6 : decode cX4_greater 6 = .ok (.goto 4, 3) := dk_167 0 4 (dk_at dksX4_greater_0 6 rfl rfl)
theorem dX4_greater_9 : decode cX4_greater 9 = .ok (.iload_n 1, 1) := dk_27 (dk_at dksX4_greater_0 9 rfl rfl)
theorem dX4_greater_10 : decode cX4_greater 10 = .ok (.ireturn, 1) := dk_172 (dk_at dksX4_greater_0 10 rfl rfl)
abbrev cX4_hours : ByteArray := prog_12_method_69_code
def yX4_hours : MethodName := ⟨RX4, "hours", "(I)I"⟩
def dkwX4_hours_2 : List UInt8 := [3, 182, 1, 67, 132, 2, 1, 167, 255, 243, 42, 180, 0, 51, 3, 46, 172]
abbrev dktX4_hours_2 : List UInt8 := dkwX4_hours_2 ++ []
def dkwX4_hours_1 : List UInt8 := [17, 39, 15, 164, 0, 9, 42, 4, 182, 1, 107, 172, 42, 182, 1, 110, 3, 61, 28, 27, 162, 0, 14, 42]
abbrev dktX4_hours_1 : List UInt8 := dkwX4_hours_1 ++ dktX4_hours_2
def dkwX4_hours_0 : List UInt8 := [42, 3, 181, 0, 114, 27, 4, 16, 20, 184, 1, 76, 153, 0, 17, 42, 180, 0, 51, 3, 46, 27, 96]
abbrev dktX4_hours_0 : List UInt8 := dkwX4_hours_0 ++ dktX4_hours_1
theorem dksX4_hours_0 : cX4_hours.data.toList.drop 0 = dktX4_hours_0 := by decide +kernel
theorem dksX4_hours_1 : cX4_hours.data.toList.drop 23 = dktX4_hours_1 := dk_seg dksX4_hours_0 23 rfl rfl
theorem dksX4_hours_2 : cX4_hours.data.toList.drop 47 = dktX4_hours_2 := dk_seg dksX4_hours_1 24 rfl rfl
theorem dX4_hours_0 : decode cX4_hours 0 = .ok (.aload_n 0, 1) := dk_42 (dk_at dksX4_hours_0 0 rfl rfl)
theorem dX4_hours_1 : decode cX4_hours 1 = .ok (.iconst 0, 1) := dk_3 (dk_at dksX4_hours_0 1 rfl rfl)
theorem dX4_hours_2 : decode cX4_hours 2 = .ok (.putfield 114, 3) := dk_181 0 114 (dk_at dksX4_hours_0 2 rfl rfl)
theorem dX4_hours_5 : decode cX4_hours 5 = .ok (.iload_n 1, 1) := dk_27 (dk_at dksX4_hours_0 5 rfl rfl)
theorem dX4_hours_6 : decode cX4_hours 6 = .ok (.iconst 1, 1) := dk_4 (dk_at dksX4_hours_0 6 rfl rfl)
theorem dX4_hours_7 : decode cX4_hours 7 = .ok (.bipush 20, 2) := dk_16 20 (dk_at dksX4_hours_0 7 rfl rfl)
theorem dX4_hours_9 : decode cX4_hours 9 = .ok (.invokestatic 332, 3) := dk_184 1 76 (dk_at dksX4_hours_0 9 rfl rfl)
theorem dX4_hours_12 : decode cX4_hours 12 = .ok (.ifCond .eq 17, 3) := dk_153 0 17 (dk_at dksX4_hours_0 12 rfl rfl)
theorem dX4_hours_15 : decode cX4_hours 15 = .ok (.aload_n 0, 1) := dk_42 (dk_at dksX4_hours_0 15 rfl rfl)
theorem dX4_hours_16 : decode cX4_hours 16 = .ok (.getfield 51, 3) := dk_180 0 51 (dk_at dksX4_hours_0 16 rfl rfl)
theorem dX4_hours_19 : decode cX4_hours 19 = .ok (.iconst 0, 1) := dk_3 (dk_at dksX4_hours_0 19 rfl rfl)
theorem dX4_hours_20 : decode cX4_hours 20 = .ok (.iaload, 1) := dk_46 (dk_at dksX4_hours_0 20 rfl rfl)
theorem dX4_hours_21 : decode cX4_hours 21 = .ok (.iload_n 1, 1) := dk_27 (dk_at dksX4_hours_0 21 rfl rfl)
theorem dX4_hours_22 : decode cX4_hours 22 = .ok (.iadd, 1) := dk_96 (dk_at dksX4_hours_0 22 rfl rfl)
theorem dX4_hours_23 : decode cX4_hours 23 = .ok (.sipush 9999, 3) := dk_17 39 15 (dk_at dksX4_hours_1 0 rfl rfl)
theorem dX4_hours_26 : decode cX4_hours 26 = .ok (.if_icmp .le 9, 3) := dk_164 0 9 (dk_at dksX4_hours_1 3 rfl rfl)
theorem dX4_hours_29 : decode cX4_hours 29 = .ok (.aload_n 0, 1) := dk_42 (dk_at dksX4_hours_1 6 rfl rfl)
theorem dX4_hours_30 : decode cX4_hours 30 = .ok (.iconst 1, 1) := dk_4 (dk_at dksX4_hours_1 7 rfl rfl)
theorem dX4_hours_31 : decode cX4_hours 31 = .ok (.invokevirtual 363, 3) := dk_182 1 107 (dk_at dksX4_hours_1 8 rfl rfl)
theorem dX4_hours_34 : decode cX4_hours 34 = .ok (.ireturn, 1) := dk_172 (dk_at dksX4_hours_1 11 rfl rfl)
theorem dX4_hours_35 : decode cX4_hours 35 = .ok (.aload_n 0, 1) := dk_42 (dk_at dksX4_hours_1 12 rfl rfl)
theorem dX4_hours_36 : decode cX4_hours 36 = .ok (.invokevirtual 366, 3) := dk_182 1 110 (dk_at dksX4_hours_1 13 rfl rfl)
theorem dX4_hours_39 : decode cX4_hours 39 = .ok (.iconst 0, 1) := dk_3 (dk_at dksX4_hours_1 16 rfl rfl)
theorem dX4_hours_40 : decode cX4_hours 40 = .ok (.istore_n 2, 1) := dk_61 (dk_at dksX4_hours_1 17 rfl rfl)
theorem dX4_hours_41 : decode cX4_hours 41 = .ok (.iload_n 2, 1) := dk_28 (dk_at dksX4_hours_1 18 rfl rfl)
theorem dX4_hours_42 : decode cX4_hours 42 = .ok (.iload_n 1, 1) := dk_27 (dk_at dksX4_hours_1 19 rfl rfl)
theorem dX4_hours_43 : decode cX4_hours 43 = .ok (.if_icmp .ge 14, 3) := dk_162 0 14 (dk_at dksX4_hours_1 20 rfl rfl)
theorem dX4_hours_46 : decode cX4_hours 46 = .ok (.aload_n 0, 1) := dk_42 (dk_at dksX4_hours_1 23 rfl rfl)
theorem dX4_hours_47 : decode cX4_hours 47 = .ok (.iconst 0, 1) := dk_3 (dk_at dksX4_hours_2 0 rfl rfl)
theorem dX4_hours_48 : decode cX4_hours 48 = .ok (.invokevirtual 323, 3) := dk_182 1 67 (dk_at dksX4_hours_2 1 rfl rfl)
theorem dX4_hours_51 : decode cX4_hours 51 = .ok (.iinc 2 1, 3) := dk_132 2 1 (dk_at dksX4_hours_2 4 rfl rfl)
theorem dX4_hours_54 : decode cX4_hours 54 = .ok (.goto (-13), 3) := dk_167 255 243 (dk_at dksX4_hours_2 7 rfl rfl)
theorem dX4_hours_57 : decode cX4_hours 57 = .ok (.aload_n 0, 1) := dk_42 (dk_at dksX4_hours_2 10 rfl rfl)
theorem dX4_hours_58 : decode cX4_hours 58 = .ok (.getfield 51, 3) := dk_180 0 51 (dk_at dksX4_hours_2 11 rfl rfl)
theorem dX4_hours_61 : decode cX4_hours 61 = .ok (.iconst 0, 1) := dk_3 (dk_at dksX4_hours_2 14 rfl rfl)
theorem dX4_hours_62 : decode cX4_hours 62 = .ok (.iaload, 1) := dk_46 (dk_at dksX4_hours_2 15 rfl rfl)
theorem dX4_hours_63 : decode cX4_hours 63 = .ok (.ireturn, 1) := dk_172 (dk_at dksX4_hours_2 16 rfl rfl)
abbrev cX4_refuses : ByteArray := prog_12_method_43_code
def yX4_refuses : MethodName := ⟨RX4, "refuses", "(I)I"⟩
def dkwX4_refuses_0 : List UInt8 := [42, 180, 0, 29, 27, 92, 46, 4, 96, 79, 2, 172]
abbrev dktX4_refuses_0 : List UInt8 := dkwX4_refuses_0 ++ []
theorem dksX4_refuses_0 : cX4_refuses.data.toList.drop 0 = dktX4_refuses_0 := by decide +kernel
theorem dX4_refuses_0 : decode cX4_refuses 0 = .ok (.aload_n 0, 1) := dk_42 (dk_at dksX4_refuses_0 0 rfl rfl)
theorem dX4_refuses_1 : decode cX4_refuses 1 = .ok (.getfield 29, 3) := dk_180 0 29 (dk_at dksX4_refuses_0 1 rfl rfl)
theorem dX4_refuses_4 : decode cX4_refuses 4 = .ok (.iload_n 1, 1) := dk_27 (dk_at dksX4_refuses_0 4 rfl rfl)
theorem dX4_refuses_5 : decode cX4_refuses 5 = .ok (.dup2, 1) := dk_92 (dk_at dksX4_refuses_0 5 rfl rfl)
theorem dX4_refuses_6 : decode cX4_refuses 6 = .ok (.iaload, 1) := dk_46 (dk_at dksX4_refuses_0 6 rfl rfl)
theorem dX4_refuses_7 : decode cX4_refuses 7 = .ok (.iconst 1, 1) := dk_4 (dk_at dksX4_refuses_0 7 rfl rfl)
theorem dX4_refuses_8 : decode cX4_refuses 8 = .ok (.iadd, 1) := dk_96 (dk_at dksX4_refuses_0 8 rfl rfl)
theorem dX4_refuses_9 : decode cX4_refuses 9 = .ok (.iastore, 1) := dk_79 (dk_at dksX4_refuses_0 9 rfl rfl)
theorem dX4_refuses_10 : decode cX4_refuses 10 = .ok (.iconst (-1), 1) := dk_2 (dk_at dksX4_refuses_0 10 rfl rfl)
theorem dX4_refuses_11 : decode cX4_refuses 11 = .ok (.ireturn, 1) := dk_172 (dk_at dksX4_refuses_0 11 rfl rfl)
abbrev cX4_keeps : ByteArray := prog_12_method_42_code
def yX4_keeps : MethodName := ⟨RX4, "keeps", "()V"⟩
def dkwX4_keeps_3 : List UInt8 := [42, 180, 0, 51, 27, 46, 79, 132, 1, 1, 167, 255, 227, 42, 89, 180, 1, 20, 4, 96, 181, 1, 20, 177]
abbrev dktX4_keeps_3 : List UInt8 := dkwX4_keeps_3 ++ []
def dkwX4_keeps_2 : List UInt8 := [181, 1, 20, 3, 60, 27, 16, 64, 162, 0, 29, 42, 180, 0, 54, 16, 64, 42, 180, 1, 20, 104, 27, 96]
abbrev dktX4_keeps_2 : List UInt8 := dkwX4_keeps_2 ++ dktX4_keeps_3
def dkwX4_keeps_1 : List UInt8 := [16, 64, 100, 42, 180, 0, 54, 27, 46, 79, 132, 1, 1, 167, 255, 231, 42, 89, 180, 1, 20, 4, 100]
abbrev dktX4_keeps_1 : List UInt8 := dkwX4_keeps_1 ++ dktX4_keeps_2
def dkwX4_keeps_0 : List UInt8 := [42, 180, 1, 20, 16, 40, 160, 0, 44, 16, 64, 60, 27, 17, 10, 0, 162, 0, 24, 42, 180, 0, 54, 27]
abbrev dktX4_keeps_0 : List UInt8 := dkwX4_keeps_0 ++ dktX4_keeps_1
theorem dksX4_keeps_0 : cX4_keeps.data.toList.drop 0 = dktX4_keeps_0 := by decide +kernel
theorem dksX4_keeps_1 : cX4_keeps.data.toList.drop 24 = dktX4_keeps_1 := dk_seg dksX4_keeps_0 24 rfl rfl
theorem dksX4_keeps_2 : cX4_keeps.data.toList.drop 47 = dktX4_keeps_2 := dk_seg dksX4_keeps_1 23 rfl rfl
theorem dksX4_keeps_3 : cX4_keeps.data.toList.drop 71 = dktX4_keeps_3 := dk_seg dksX4_keeps_2 24 rfl rfl
theorem dX4_keeps_0 : decode cX4_keeps 0 = .ok (.aload_n 0, 1) := dk_42 (dk_at dksX4_keeps_0 0 rfl rfl)
theorem dX4_keeps_1 : decode cX4_keeps 1 = .ok (.getfield 276, 3) := dk_180 1 20 (dk_at dksX4_keeps_0 1 rfl rfl)
theorem dX4_keeps_4 : decode cX4_keeps 4 = .ok (.bipush 40, 2) := dk_16 40 (dk_at dksX4_keeps_0 4 rfl rfl)
theorem dX4_keeps_6 : decode cX4_keeps 6 = .ok (.if_icmp .ne 44, 3) := dk_160 0 44 (dk_at dksX4_keeps_0 6 rfl rfl)
theorem dX4_keeps_9 : decode cX4_keeps 9 = .ok (.bipush 64, 2) := dk_16 64 (dk_at dksX4_keeps_0 9 rfl rfl)
theorem dX4_keeps_11 : decode cX4_keeps 11 = .ok (.istore_n 1, 1) := dk_60 (dk_at dksX4_keeps_0 11 rfl rfl)
theorem dX4_keeps_12 : decode cX4_keeps 12 = .ok (.iload_n 1, 1) := dk_27 (dk_at dksX4_keeps_0 12 rfl rfl)
theorem dX4_keeps_13 : decode cX4_keeps 13 = .ok (.sipush 2560, 3) := dk_17 10 0 (dk_at dksX4_keeps_0 13 rfl rfl)
theorem dX4_keeps_16 : decode cX4_keeps 16 = .ok (.if_icmp .ge 24, 3) := dk_162 0 24 (dk_at dksX4_keeps_0 16 rfl rfl)
theorem dX4_keeps_19 : decode cX4_keeps 19 = .ok (.aload_n 0, 1) := dk_42 (dk_at dksX4_keeps_0 19 rfl rfl)
theorem dX4_keeps_20 : decode cX4_keeps 20 = .ok (.getfield 54, 3) := dk_180 0 54 (dk_at dksX4_keeps_0 20 rfl rfl)
theorem dX4_keeps_23 : decode cX4_keeps 23 = .ok (.iload_n 1, 1) := dk_27 (dk_at dksX4_keeps_0 23 rfl rfl)
theorem dX4_keeps_24 : decode cX4_keeps 24 = .ok (.bipush 64, 2) := dk_16 64 (dk_at dksX4_keeps_1 0 rfl rfl)
theorem dX4_keeps_26 : decode cX4_keeps 26 = .ok (.isub, 1) := dk_100 (dk_at dksX4_keeps_1 2 rfl rfl)
theorem dX4_keeps_27 : decode cX4_keeps 27 = .ok (.aload_n 0, 1) := dk_42 (dk_at dksX4_keeps_1 3 rfl rfl)
theorem dX4_keeps_28 : decode cX4_keeps 28 = .ok (.getfield 54, 3) := dk_180 0 54 (dk_at dksX4_keeps_1 4 rfl rfl)
theorem dX4_keeps_31 : decode cX4_keeps 31 = .ok (.iload_n 1, 1) := dk_27 (dk_at dksX4_keeps_1 7 rfl rfl)
theorem dX4_keeps_32 : decode cX4_keeps 32 = .ok (.iaload, 1) := dk_46 (dk_at dksX4_keeps_1 8 rfl rfl)
theorem dX4_keeps_33 : decode cX4_keeps 33 = .ok (.iastore, 1) := dk_79 (dk_at dksX4_keeps_1 9 rfl rfl)
theorem dX4_keeps_34 : decode cX4_keeps 34 = .ok (.iinc 1 1, 3) := dk_132 1 1 (dk_at dksX4_keeps_1 10 rfl rfl)
theorem dX4_keeps_37 : decode cX4_keeps 37 = .ok (.goto (-25), 3) := dk_167 255 231 (dk_at dksX4_keeps_1 13 rfl rfl)
theorem dX4_keeps_40 : decode cX4_keeps 40 = .ok (.aload_n 0, 1) := dk_42 (dk_at dksX4_keeps_1 16 rfl rfl)
theorem dX4_keeps_41 : decode cX4_keeps 41 = .ok (.dup, 1) := dk_89 (dk_at dksX4_keeps_1 17 rfl rfl)
theorem dX4_keeps_42 : decode cX4_keeps 42 = .ok (.getfield 276, 3) := dk_180 1 20 (dk_at dksX4_keeps_1 18 rfl rfl)
theorem dX4_keeps_45 : decode cX4_keeps 45 = .ok (.iconst 1, 1) := dk_4 (dk_at dksX4_keeps_1 21 rfl rfl)
theorem dX4_keeps_46 : decode cX4_keeps 46 = .ok (.isub, 1) := dk_100 (dk_at dksX4_keeps_1 22 rfl rfl)
theorem dX4_keeps_47 : decode cX4_keeps 47 = .ok (.putfield 276, 3) := dk_181 1 20 (dk_at dksX4_keeps_2 0 rfl rfl)
theorem dX4_keeps_50 : decode cX4_keeps 50 = .ok (.iconst 0, 1) := dk_3 (dk_at dksX4_keeps_2 3 rfl rfl)
theorem dX4_keeps_51 : decode cX4_keeps 51 = .ok (.istore_n 1, 1) := dk_60 (dk_at dksX4_keeps_2 4 rfl rfl)
theorem dX4_keeps_52 : decode cX4_keeps 52 = .ok (.iload_n 1, 1) := dk_27 (dk_at dksX4_keeps_2 5 rfl rfl)
theorem dX4_keeps_53 : decode cX4_keeps 53 = .ok (.bipush 64, 2) := dk_16 64 (dk_at dksX4_keeps_2 6 rfl rfl)
theorem dX4_keeps_55 : decode cX4_keeps 55 = .ok (.if_icmp .ge 29, 3) := dk_162 0 29 (dk_at dksX4_keeps_2 8 rfl rfl)
theorem dX4_keeps_58 : decode cX4_keeps 58 = .ok (.aload_n 0, 1) := dk_42 (dk_at dksX4_keeps_2 11 rfl rfl)
theorem dX4_keeps_59 : decode cX4_keeps 59 = .ok (.getfield 54, 3) := dk_180 0 54 (dk_at dksX4_keeps_2 12 rfl rfl)
theorem dX4_keeps_62 : decode cX4_keeps 62 = .ok (.bipush 64, 2) := dk_16 64 (dk_at dksX4_keeps_2 15 rfl rfl)
theorem dX4_keeps_64 : decode cX4_keeps 64 = .ok (.aload_n 0, 1) := dk_42 (dk_at dksX4_keeps_2 17 rfl rfl)
theorem dX4_keeps_65 : decode cX4_keeps 65 = .ok (.getfield 276, 3) := dk_180 1 20 (dk_at dksX4_keeps_2 18 rfl rfl)
theorem dX4_keeps_68 : decode cX4_keeps 68 = .ok (.imul, 1) := dk_104 (dk_at dksX4_keeps_2 21 rfl rfl)
theorem dX4_keeps_69 : decode cX4_keeps 69 = .ok (.iload_n 1, 1) := dk_27 (dk_at dksX4_keeps_2 22 rfl rfl)
theorem dX4_keeps_70 : decode cX4_keeps 70 = .ok (.iadd, 1) := dk_96 (dk_at dksX4_keeps_2 23 rfl rfl)
theorem dX4_keeps_71 : decode cX4_keeps 71 = .ok (.aload_n 0, 1) := dk_42 (dk_at dksX4_keeps_3 0 rfl rfl)
theorem dX4_keeps_72 : decode cX4_keeps 72 = .ok (.getfield 51, 3) := dk_180 0 51 (dk_at dksX4_keeps_3 1 rfl rfl)
theorem dX4_keeps_75 : decode cX4_keeps 75 = .ok (.iload_n 1, 1) := dk_27 (dk_at dksX4_keeps_3 4 rfl rfl)
theorem dX4_keeps_76 : decode cX4_keeps 76 = .ok (.iaload, 1) := dk_46 (dk_at dksX4_keeps_3 5 rfl rfl)
theorem dX4_keeps_77 : decode cX4_keeps 77 = .ok (.iastore, 1) := dk_79 (dk_at dksX4_keeps_3 6 rfl rfl)
theorem dX4_keeps_78 : decode cX4_keeps 78 = .ok (.iinc 1 1, 3) := dk_132 1 1 (dk_at dksX4_keeps_3 7 rfl rfl)
theorem dX4_keeps_81 : decode cX4_keeps 81 = .ok (.goto (-29), 3) := dk_167 255 227 (dk_at dksX4_keeps_3 10 rfl rfl)
theorem dX4_keeps_84 : decode cX4_keeps 84 = .ok (.aload_n 0, 1) := dk_42 (dk_at dksX4_keeps_3 13 rfl rfl)
theorem dX4_keeps_85 : decode cX4_keeps 85 = .ok (.dup, 1) := dk_89 (dk_at dksX4_keeps_3 14 rfl rfl)
theorem dX4_keeps_86 : decode cX4_keeps 86 = .ok (.getfield 276, 3) := dk_180 1 20 (dk_at dksX4_keeps_3 15 rfl rfl)
theorem dX4_keeps_89 : decode cX4_keeps 89 = .ok (.iconst 1, 1) := dk_4 (dk_at dksX4_keeps_3 18 rfl rfl)
theorem dX4_keeps_90 : decode cX4_keeps 90 = .ok (.iadd, 1) := dk_96 (dk_at dksX4_keeps_3 19 rfl rfl)
theorem dX4_keeps_91 : decode cX4_keeps 91 = .ok (.putfield 276, 3) := dk_181 1 20 (dk_at dksX4_keeps_3 20 rfl rfl)
theorem dX4_keeps_94 : decode cX4_keeps 94 = .ok (.return_, 1) := dk_177 (dk_at dksX4_keeps_3 23 rfl rfl)
abbrev cX4_hourGoes : ByteArray := prog_12_method_53_code
def yX4_hourGoes : MethodName := ⟨RX4, "hourGoes", "(I)V"⟩
def dkwX4_hourGoes_6 : List UInt8 := [96, 79, 177]
abbrev dktX4_hourGoes_6 : List UInt8 := dkwX4_hourGoes_6 ++ []
def dkwX4_hourGoes_5 : List UInt8 := [180, 1, 37, 29, 96, 181, 1, 37, 132, 2, 1, 167, 255, 186, 42, 180, 0, 51, 27, 3, 96, 92, 46, 4]
abbrev dktX4_hourGoes_5 : List UInt8 := dkwX4_hourGoes_5 ++ dktX4_hourGoes_6
def dkwX4_hourGoes_4 : List UInt8 := [96, 46, 184, 1, 64, 62, 42, 180, 0, 51, 27, 16, 10, 96, 28, 96, 92, 46, 29, 100, 79, 42, 89]
abbrev dktX4_hourGoes_4 : List UInt8 := dkwX4_hourGoes_4 ++ dktX4_hourGoes_5
def dkwX4_hourGoes_3 : List UInt8 := [2, 159, 0, 60, 42, 42, 180, 0, 9, 27, 28, 182, 1, 51, 3, 42, 180, 0, 51, 27, 16, 10, 96, 28]
abbrev dktX4_hourGoes_3 : List UInt8 := dkwX4_hourGoes_3 ++ dktX4_hourGoes_4
def dkwX4_hourGoes_2 : List UInt8 := [96, 182, 1, 61, 132, 2, 1, 167, 255, 213, 3, 61, 28, 42, 180, 1, 13, 162, 0, 68, 42, 180, 0, 9]
abbrev dktX4_hourGoes_2 : List UInt8 := dkwX4_hourGoes_2 ++ dktX4_hourGoes_3
def dkwX4_hourGoes_1 : List UInt8 := [180, 0, 63, 28, 46, 42, 27, 28, 182, 1, 57, 153, 0, 12, 42, 180, 0, 16, 28, 46, 167, 0, 4, 3]
abbrev dktX4_hourGoes_1 : List UInt8 := dkwX4_hourGoes_1 ++ dktX4_hourGoes_2
def dkwX4_hourGoes_0 : List UInt8 := [42, 182, 1, 54, 42, 3, 181, 1, 37, 3, 61, 28, 42, 180, 1, 13, 162, 0, 41, 42, 27, 28, 42]
abbrev dktX4_hourGoes_0 : List UInt8 := dkwX4_hourGoes_0 ++ dktX4_hourGoes_1
theorem dksX4_hourGoes_0 : cX4_hourGoes.data.toList.drop 0 = dktX4_hourGoes_0 := by decide +kernel
theorem dksX4_hourGoes_1 : cX4_hourGoes.data.toList.drop 23 = dktX4_hourGoes_1 := dk_seg dksX4_hourGoes_0 23 rfl rfl
theorem dksX4_hourGoes_2 : cX4_hourGoes.data.toList.drop 47 = dktX4_hourGoes_2 := dk_seg dksX4_hourGoes_1 24 rfl rfl
theorem dksX4_hourGoes_3 : cX4_hourGoes.data.toList.drop 71 = dktX4_hourGoes_3 := dk_seg dksX4_hourGoes_2 24 rfl rfl
theorem dksX4_hourGoes_4 : cX4_hourGoes.data.toList.drop 95 = dktX4_hourGoes_4 := dk_seg dksX4_hourGoes_3 24 rfl rfl
theorem dksX4_hourGoes_5 : cX4_hourGoes.data.toList.drop 118 = dktX4_hourGoes_5 := dk_seg dksX4_hourGoes_4 23 rfl rfl
theorem dksX4_hourGoes_6 : cX4_hourGoes.data.toList.drop 142 = dktX4_hourGoes_6 := dk_seg dksX4_hourGoes_5 24 rfl rfl
theorem dX4_hourGoes_0 : decode cX4_hourGoes 0 = .ok (.aload_n 0, 1) := dk_42 (dk_at dksX4_hourGoes_0 0 rfl rfl)
theorem dX4_hourGoes_1 : decode cX4_hourGoes 1 = .ok (.invokevirtual 310, 3) := dk_182 1 54 (dk_at dksX4_hourGoes_0 1 rfl rfl)
theorem dX4_hourGoes_4 : decode cX4_hourGoes 4 = .ok (.aload_n 0, 1) := dk_42 (dk_at dksX4_hourGoes_0 4 rfl rfl)
theorem dX4_hourGoes_5 : decode cX4_hourGoes 5 = .ok (.iconst 0, 1) := dk_3 (dk_at dksX4_hourGoes_0 5 rfl rfl)
theorem dX4_hourGoes_6 : decode cX4_hourGoes 6 = .ok (.putfield 293, 3) := dk_181 1 37 (dk_at dksX4_hourGoes_0 6 rfl rfl)
theorem dX4_hourGoes_9 : decode cX4_hourGoes 9 = .ok (.iconst 0, 1) := dk_3 (dk_at dksX4_hourGoes_0 9 rfl rfl)
theorem dX4_hourGoes_10 : decode cX4_hourGoes 10 = .ok (.istore_n 2, 1) := dk_61 (dk_at dksX4_hourGoes_0 10 rfl rfl)
theorem dX4_hourGoes_11 : decode cX4_hourGoes 11 = .ok (.iload_n 2, 1) := dk_28 (dk_at dksX4_hourGoes_0 11 rfl rfl)
theorem dX4_hourGoes_12 : decode cX4_hourGoes 12 = .ok (.aload_n 0, 1) := dk_42 (dk_at dksX4_hourGoes_0 12 rfl rfl)
theorem dX4_hourGoes_13 : decode cX4_hourGoes 13 = .ok (.getfield 269, 3) := dk_180 1 13 (dk_at dksX4_hourGoes_0 13 rfl rfl)
theorem dX4_hourGoes_16 : decode cX4_hourGoes 16 = .ok (.if_icmp .ge 41, 3) := dk_162 0 41 (dk_at dksX4_hourGoes_0 16 rfl rfl)
theorem dX4_hourGoes_19 : decode cX4_hourGoes 19 = .ok (.aload_n 0, 1) := dk_42 (dk_at dksX4_hourGoes_0 19 rfl rfl)
theorem dX4_hourGoes_20 : decode cX4_hourGoes 20 = .ok (.iload_n 1, 1) := dk_27 (dk_at dksX4_hourGoes_0 20 rfl rfl)
theorem dX4_hourGoes_21 : decode cX4_hourGoes 21 = .ok (.iload_n 2, 1) := dk_28 (dk_at dksX4_hourGoes_0 21 rfl rfl)
theorem dX4_hourGoes_22 : decode cX4_hourGoes 22 = .ok (.aload_n 0, 1) := dk_42 (dk_at dksX4_hourGoes_0 22 rfl rfl)
theorem dX4_hourGoes_23 : decode cX4_hourGoes 23 = .ok (.getfield 63, 3) := dk_180 0 63 (dk_at dksX4_hourGoes_1 0 rfl rfl)
theorem dX4_hourGoes_26 : decode cX4_hourGoes 26 = .ok (.iload_n 2, 1) := dk_28 (dk_at dksX4_hourGoes_1 3 rfl rfl)
theorem dX4_hourGoes_27 : decode cX4_hourGoes 27 = .ok (.iaload, 1) := dk_46 (dk_at dksX4_hourGoes_1 4 rfl rfl)
theorem dX4_hourGoes_28 : decode cX4_hourGoes 28 = .ok (.aload_n 0, 1) := dk_42 (dk_at dksX4_hourGoes_1 5 rfl rfl)
theorem dX4_hourGoes_29 : decode cX4_hourGoes 29 = .ok (.iload_n 1, 1) := dk_27 (dk_at dksX4_hourGoes_1 6 rfl rfl)
theorem dX4_hourGoes_30 : decode cX4_hourGoes 30 = .ok (.iload_n 2, 1) := dk_28 (dk_at dksX4_hourGoes_1 7 rfl rfl)
theorem dX4_hourGoes_31 : decode cX4_hourGoes 31 = .ok (.invokevirtual 313, 3) := dk_182 1 57 (dk_at dksX4_hourGoes_1 8 rfl rfl)
theorem dX4_hourGoes_34 : decode cX4_hourGoes 34 = .ok (.ifCond .eq 12, 3) := dk_153 0 12 (dk_at dksX4_hourGoes_1 11 rfl rfl)
theorem dX4_hourGoes_37 : decode cX4_hourGoes 37 = .ok (.aload_n 0, 1) := dk_42 (dk_at dksX4_hourGoes_1 14 rfl rfl)
theorem dX4_hourGoes_38 : decode cX4_hourGoes 38 = .ok (.getfield 16, 3) := dk_180 0 16 (dk_at dksX4_hourGoes_1 15 rfl rfl)
theorem dX4_hourGoes_41 : decode cX4_hourGoes 41 = .ok (.iload_n 2, 1) := dk_28 (dk_at dksX4_hourGoes_1 18 rfl rfl)
theorem dX4_hourGoes_42 : decode cX4_hourGoes 42 = .ok (.iaload, 1) := dk_46 (dk_at dksX4_hourGoes_1 19 rfl rfl)
theorem dX4_hourGoes_43 : decode cX4_hourGoes 43 = .ok (.goto 4, 3) := dk_167 0 4 (dk_at dksX4_hourGoes_1 20 rfl rfl)
theorem dX4_hourGoes_46 : decode cX4_hourGoes 46 = .ok (.iconst 0, 1) := dk_3 (dk_at dksX4_hourGoes_1 23 rfl rfl)
theorem dX4_hourGoes_47 : decode cX4_hourGoes 47 = .ok (.iadd, 1) := dk_96 (dk_at dksX4_hourGoes_2 0 rfl rfl)
theorem dX4_hourGoes_48 : decode cX4_hourGoes 48 = .ok (.invokevirtual 317, 3) := dk_182 1 61 (dk_at dksX4_hourGoes_2 1 rfl rfl)
theorem dX4_hourGoes_51 : decode cX4_hourGoes 51 = .ok (.iinc 2 1, 3) := dk_132 2 1 (dk_at dksX4_hourGoes_2 4 rfl rfl)
theorem dX4_hourGoes_54 : decode cX4_hourGoes 54 = .ok (.goto (-43), 3) := dk_167 255 213 (dk_at dksX4_hourGoes_2 7 rfl rfl)
theorem dX4_hourGoes_57 : decode cX4_hourGoes 57 = .ok (.iconst 0, 1) := dk_3 (dk_at dksX4_hourGoes_2 10 rfl rfl)
theorem dX4_hourGoes_58 : decode cX4_hourGoes 58 = .ok (.istore_n 2, 1) := dk_61 (dk_at dksX4_hourGoes_2 11 rfl rfl)
theorem dX4_hourGoes_59 : decode cX4_hourGoes 59 = .ok (.iload_n 2, 1) := dk_28 (dk_at dksX4_hourGoes_2 12 rfl rfl)
theorem dX4_hourGoes_60 : decode cX4_hourGoes 60 = .ok (.aload_n 0, 1) := dk_42 (dk_at dksX4_hourGoes_2 13 rfl rfl)
theorem dX4_hourGoes_61 : decode cX4_hourGoes 61 = .ok (.getfield 269, 3) := dk_180 1 13 (dk_at dksX4_hourGoes_2 14 rfl rfl)
theorem dX4_hourGoes_64 : decode cX4_hourGoes 64 = .ok (.if_icmp .ge 68, 3) := dk_162 0 68 (dk_at dksX4_hourGoes_2 17 rfl rfl)
theorem dX4_hourGoes_67 : decode cX4_hourGoes 67 = .ok (.aload_n 0, 1) := dk_42 (dk_at dksX4_hourGoes_2 20 rfl rfl)
theorem dX4_hourGoes_68 : decode cX4_hourGoes 68 = .ok (.getfield 9, 3) := dk_180 0 9 (dk_at dksX4_hourGoes_2 21 rfl rfl)
theorem dX4_hourGoes_71 : decode cX4_hourGoes 71 = .ok (.iconst (-1), 1) := dk_2 (dk_at dksX4_hourGoes_3 0 rfl rfl)
theorem dX4_hourGoes_72 : decode cX4_hourGoes 72 = .ok (.if_icmp .eq 60, 3) := dk_159 0 60 (dk_at dksX4_hourGoes_3 1 rfl rfl)
theorem dX4_hourGoes_75 : decode cX4_hourGoes 75 = .ok (.aload_n 0, 1) := dk_42 (dk_at dksX4_hourGoes_3 4 rfl rfl)
theorem dX4_hourGoes_76 : decode cX4_hourGoes 76 = .ok (.aload_n 0, 1) := dk_42 (dk_at dksX4_hourGoes_3 5 rfl rfl)
theorem dX4_hourGoes_77 : decode cX4_hourGoes 77 = .ok (.getfield 9, 3) := dk_180 0 9 (dk_at dksX4_hourGoes_3 6 rfl rfl)
theorem dX4_hourGoes_80 : decode cX4_hourGoes 80 = .ok (.iload_n 1, 1) := dk_27 (dk_at dksX4_hourGoes_3 9 rfl rfl)
theorem dX4_hourGoes_81 : decode cX4_hourGoes 81 = .ok (.iload_n 2, 1) := dk_28 (dk_at dksX4_hourGoes_3 10 rfl rfl)
theorem dX4_hourGoes_82 : decode cX4_hourGoes 82 = .ok (.invokevirtual 307, 3) := dk_182 1 51 (dk_at dksX4_hourGoes_3 11 rfl rfl)
theorem dX4_hourGoes_85 : decode cX4_hourGoes 85 = .ok (.iconst 0, 1) := dk_3 (dk_at dksX4_hourGoes_3 14 rfl rfl)
theorem dX4_hourGoes_86 : decode cX4_hourGoes 86 = .ok (.aload_n 0, 1) := dk_42 (dk_at dksX4_hourGoes_3 15 rfl rfl)
theorem dX4_hourGoes_87 : decode cX4_hourGoes 87 = .ok (.getfield 51, 3) := dk_180 0 51 (dk_at dksX4_hourGoes_3 16 rfl rfl)
theorem dX4_hourGoes_90 : decode cX4_hourGoes 90 = .ok (.iload_n 1, 1) := dk_27 (dk_at dksX4_hourGoes_3 19 rfl rfl)
theorem dX4_hourGoes_91 : decode cX4_hourGoes 91 = .ok (.bipush 10, 2) := dk_16 10 (dk_at dksX4_hourGoes_3 20 rfl rfl)
theorem dX4_hourGoes_93 : decode cX4_hourGoes 93 = .ok (.iadd, 1) := dk_96 (dk_at dksX4_hourGoes_3 22 rfl rfl)
theorem dX4_hourGoes_94 : decode cX4_hourGoes 94 = .ok (.iload_n 2, 1) := dk_28 (dk_at dksX4_hourGoes_3 23 rfl rfl)
theorem dX4_hourGoes_95 : decode cX4_hourGoes 95 = .ok (.iadd, 1) := dk_96 (dk_at dksX4_hourGoes_4 0 rfl rfl)
theorem dX4_hourGoes_96 : decode cX4_hourGoes 96 = .ok (.iaload, 1) := dk_46 (dk_at dksX4_hourGoes_4 1 rfl rfl)
theorem dX4_hourGoes_97 : decode cX4_hourGoes 97 = .ok (.invokestatic 320, 3) := dk_184 1 64 (dk_at dksX4_hourGoes_4 2 rfl rfl)
theorem dX4_hourGoes_100 : decode cX4_hourGoes 100 = .ok (.istore_n 3, 1) := dk_62 (dk_at dksX4_hourGoes_4 5 rfl rfl)
theorem dX4_hourGoes_101 : decode cX4_hourGoes 101 = .ok (.aload_n 0, 1) := dk_42 (dk_at dksX4_hourGoes_4 6 rfl rfl)
theorem dX4_hourGoes_102 : decode cX4_hourGoes 102 = .ok (.getfield 51, 3) := dk_180 0 51 (dk_at dksX4_hourGoes_4 7 rfl rfl)
theorem dX4_hourGoes_105 : decode cX4_hourGoes 105 = .ok (.iload_n 1, 1) := dk_27 (dk_at dksX4_hourGoes_4 10 rfl rfl)
theorem dX4_hourGoes_106 : decode cX4_hourGoes 106 = .ok (.bipush 10, 2) := dk_16 10 (dk_at dksX4_hourGoes_4 11 rfl rfl)
theorem dX4_hourGoes_108 : decode cX4_hourGoes 108 = .ok (.iadd, 1) := dk_96 (dk_at dksX4_hourGoes_4 13 rfl rfl)
theorem dX4_hourGoes_109 : decode cX4_hourGoes 109 = .ok (.iload_n 2, 1) := dk_28 (dk_at dksX4_hourGoes_4 14 rfl rfl)
theorem dX4_hourGoes_110 : decode cX4_hourGoes 110 = .ok (.iadd, 1) := dk_96 (dk_at dksX4_hourGoes_4 15 rfl rfl)
theorem dX4_hourGoes_111 : decode cX4_hourGoes 111 = .ok (.dup2, 1) := dk_92 (dk_at dksX4_hourGoes_4 16 rfl rfl)
theorem dX4_hourGoes_112 : decode cX4_hourGoes 112 = .ok (.iaload, 1) := dk_46 (dk_at dksX4_hourGoes_4 17 rfl rfl)
theorem dX4_hourGoes_113 : decode cX4_hourGoes 113 = .ok (.iload_n 3, 1) := dk_29 (dk_at dksX4_hourGoes_4 18 rfl rfl)
theorem dX4_hourGoes_114 : decode cX4_hourGoes 114 = .ok (.isub, 1) := dk_100 (dk_at dksX4_hourGoes_4 19 rfl rfl)
theorem dX4_hourGoes_115 : decode cX4_hourGoes 115 = .ok (.iastore, 1) := dk_79 (dk_at dksX4_hourGoes_4 20 rfl rfl)
theorem dX4_hourGoes_116 : decode cX4_hourGoes 116 = .ok (.aload_n 0, 1) := dk_42 (dk_at dksX4_hourGoes_4 21 rfl rfl)
theorem dX4_hourGoes_117 : decode cX4_hourGoes 117 = .ok (.dup, 1) := dk_89 (dk_at dksX4_hourGoes_4 22 rfl rfl)
theorem dX4_hourGoes_118 : decode cX4_hourGoes 118 = .ok (.getfield 293, 3) := dk_180 1 37 (dk_at dksX4_hourGoes_5 0 rfl rfl)
theorem dX4_hourGoes_121 : decode cX4_hourGoes 121 = .ok (.iload_n 3, 1) := dk_29 (dk_at dksX4_hourGoes_5 3 rfl rfl)
theorem dX4_hourGoes_122 : decode cX4_hourGoes 122 = .ok (.iadd, 1) := dk_96 (dk_at dksX4_hourGoes_5 4 rfl rfl)
theorem dX4_hourGoes_123 : decode cX4_hourGoes 123 = .ok (.putfield 293, 3) := dk_181 1 37 (dk_at dksX4_hourGoes_5 5 rfl rfl)
theorem dX4_hourGoes_126 : decode cX4_hourGoes 126 = .ok (.iinc 2 1, 3) := dk_132 2 1 (dk_at dksX4_hourGoes_5 8 rfl rfl)
theorem dX4_hourGoes_129 : decode cX4_hourGoes 129 = .ok (.goto (-70), 3) := dk_167 255 186 (dk_at dksX4_hourGoes_5 11 rfl rfl)
theorem dX4_hourGoes_132 : decode cX4_hourGoes 132 = .ok (.aload_n 0, 1) := dk_42 (dk_at dksX4_hourGoes_5 14 rfl rfl)
theorem dX4_hourGoes_133 : decode cX4_hourGoes 133 = .ok (.getfield 51, 3) := dk_180 0 51 (dk_at dksX4_hourGoes_5 15 rfl rfl)
theorem dX4_hourGoes_136 : decode cX4_hourGoes 136 = .ok (.iload_n 1, 1) := dk_27 (dk_at dksX4_hourGoes_5 18 rfl rfl)
theorem dX4_hourGoes_137 : decode cX4_hourGoes 137 = .ok (.iconst 0, 1) := dk_3 (dk_at dksX4_hourGoes_5 19 rfl rfl)
theorem dX4_hourGoes_138 : decode cX4_hourGoes 138 = .ok (.iadd, 1) := dk_96 (dk_at dksX4_hourGoes_5 20 rfl rfl)
theorem dX4_hourGoes_139 : decode cX4_hourGoes 139 = .ok (.dup2, 1) := dk_92 (dk_at dksX4_hourGoes_5 21 rfl rfl)
theorem dX4_hourGoes_140 : decode cX4_hourGoes 140 = .ok (.iaload, 1) := dk_46 (dk_at dksX4_hourGoes_5 22 rfl rfl)
theorem dX4_hourGoes_141 : decode cX4_hourGoes 141 = .ok (.iconst 1, 1) := dk_4 (dk_at dksX4_hourGoes_5 23 rfl rfl)
theorem dX4_hourGoes_142 : decode cX4_hourGoes 142 = .ok (.iadd, 1) := dk_96 (dk_at dksX4_hourGoes_6 0 rfl rfl)
theorem dX4_hourGoes_143 : decode cX4_hourGoes 143 = .ok (.iastore, 1) := dk_79 (dk_at dksX4_hourGoes_6 1 rfl rfl)
theorem dX4_hourGoes_144 : decode cX4_hourGoes 144 = .ok (.return_, 1) := dk_177 (dk_at dksX4_hourGoes_6 2 rfl rfl)
abbrev cX4_begins0 : ByteArray := prog_12_method_52_code
def yX4_begins0 : MethodName := ⟨RX4, "begins0", "()V"⟩
def dkwX4_begins0_1 : List UInt8 := [180, 0, 66, 27, 3, 79, 132, 1, 1, 167, 255, 231, 177]
abbrev dktX4_begins0_1 : List UInt8 := dkwX4_begins0_1 ++ []
def dkwX4_begins0_0 : List UInt8 := [42, 3, 181, 1, 44, 3, 60, 27, 42, 180, 1, 13, 162, 0, 23, 42, 180, 0, 63, 27, 3, 79, 42]
abbrev dktX4_begins0_0 : List UInt8 := dkwX4_begins0_0 ++ dktX4_begins0_1
theorem dksX4_begins0_0 : cX4_begins0.data.toList.drop 0 = dktX4_begins0_0 := by decide +kernel
theorem dksX4_begins0_1 : cX4_begins0.data.toList.drop 23 = dktX4_begins0_1 := dk_seg dksX4_begins0_0 23 rfl rfl
theorem dX4_begins0_0 : decode cX4_begins0 0 = .ok (.aload_n 0, 1) := dk_42 (dk_at dksX4_begins0_0 0 rfl rfl)
theorem dX4_begins0_1 : decode cX4_begins0 1 = .ok (.iconst 0, 1) := dk_3 (dk_at dksX4_begins0_0 1 rfl rfl)
theorem dX4_begins0_2 : decode cX4_begins0 2 = .ok (.putfield 300, 3) := dk_181 1 44 (dk_at dksX4_begins0_0 2 rfl rfl)
theorem dX4_begins0_5 : decode cX4_begins0 5 = .ok (.iconst 0, 1) := dk_3 (dk_at dksX4_begins0_0 5 rfl rfl)
theorem dX4_begins0_6 : decode cX4_begins0 6 = .ok (.istore_n 1, 1) := dk_60 (dk_at dksX4_begins0_0 6 rfl rfl)
theorem dX4_begins0_7 : decode cX4_begins0 7 = .ok (.iload_n 1, 1) := dk_27 (dk_at dksX4_begins0_0 7 rfl rfl)
theorem dX4_begins0_8 : decode cX4_begins0 8 = .ok (.aload_n 0, 1) := dk_42 (dk_at dksX4_begins0_0 8 rfl rfl)
theorem dX4_begins0_9 : decode cX4_begins0 9 = .ok (.getfield 269, 3) := dk_180 1 13 (dk_at dksX4_begins0_0 9 rfl rfl)
theorem dX4_begins0_12 : decode cX4_begins0 12 = .ok (.if_icmp .ge 23, 3) := dk_162 0 23 (dk_at dksX4_begins0_0 12 rfl rfl)
theorem dX4_begins0_15 : decode cX4_begins0 15 = .ok (.aload_n 0, 1) := dk_42 (dk_at dksX4_begins0_0 15 rfl rfl)
theorem dX4_begins0_16 : decode cX4_begins0 16 = .ok (.getfield 63, 3) := dk_180 0 63 (dk_at dksX4_begins0_0 16 rfl rfl)
theorem dX4_begins0_19 : decode cX4_begins0 19 = .ok (.iload_n 1, 1) := dk_27 (dk_at dksX4_begins0_0 19 rfl rfl)
theorem dX4_begins0_20 : decode cX4_begins0 20 = .ok (.iconst 0, 1) := dk_3 (dk_at dksX4_begins0_0 20 rfl rfl)
theorem dX4_begins0_21 : decode cX4_begins0 21 = .ok (.iastore, 1) := dk_79 (dk_at dksX4_begins0_0 21 rfl rfl)
theorem dX4_begins0_22 : decode cX4_begins0 22 = .ok (.aload_n 0, 1) := dk_42 (dk_at dksX4_begins0_0 22 rfl rfl)
theorem dX4_begins0_23 : decode cX4_begins0 23 = .ok (.getfield 66, 3) := dk_180 0 66 (dk_at dksX4_begins0_1 0 rfl rfl)
theorem dX4_begins0_26 : decode cX4_begins0 26 = .ok (.iload_n 1, 1) := dk_27 (dk_at dksX4_begins0_1 3 rfl rfl)
theorem dX4_begins0_27 : decode cX4_begins0 27 = .ok (.iconst 0, 1) := dk_3 (dk_at dksX4_begins0_1 4 rfl rfl)
theorem dX4_begins0_28 : decode cX4_begins0 28 = .ok (.iastore, 1) := dk_79 (dk_at dksX4_begins0_1 5 rfl rfl)
theorem dX4_begins0_29 : decode cX4_begins0 29 = .ok (.iinc 1 1, 3) := dk_132 1 1 (dk_at dksX4_begins0_1 6 rfl rfl)
theorem dX4_begins0_32 : decode cX4_begins0 32 = .ok (.goto (-25), 3) := dk_167 255 231 (dk_at dksX4_begins0_1 9 rfl rfl)
theorem dX4_begins0_35 : decode cX4_begins0 35 = .ok (.return_, 1) := dk_177 (dk_at dksX4_begins0_1 12 rfl rfl)
abbrev cX4_runs : ByteArray := prog_12_method_51_code
def yX4_runs : MethodName := ⟨RX4, "runs", "(II)Z"⟩
def dkwX4_runs_2 : List UInt8 := [4, 167, 0, 19, 3, 167, 0, 15, 42, 180, 0, 69, 154, 0, 7, 4, 167, 0, 4, 3, 172]
abbrev dktX4_runs_2 : List UInt8 := dkwX4_runs_2 ++ []
def dkwX4_runs_1 : List UInt8 := [160, 0, 32, 42, 180, 0, 13, 2, 159, 0, 16, 42, 42, 180, 0, 13, 27, 28, 182, 1, 51, 157, 0, 7]
abbrev dktX4_runs_1 : List UInt8 := dkwX4_runs_1 ++ dktX4_runs_2
def dkwX4_runs_0 : List UInt8 := [42, 180, 0, 51, 27, 16, 55, 96, 28, 96, 46, 4, 160, 0, 5, 3, 172, 42, 180, 0, 69, 2]
abbrev dktX4_runs_0 : List UInt8 := dkwX4_runs_0 ++ dktX4_runs_1
theorem dksX4_runs_0 : cX4_runs.data.toList.drop 0 = dktX4_runs_0 := by decide +kernel
theorem dksX4_runs_1 : cX4_runs.data.toList.drop 22 = dktX4_runs_1 := dk_seg dksX4_runs_0 22 rfl rfl
theorem dksX4_runs_2 : cX4_runs.data.toList.drop 46 = dktX4_runs_2 := dk_seg dksX4_runs_1 24 rfl rfl
theorem dX4_runs_0 : decode cX4_runs 0 = .ok (.aload_n 0, 1) := dk_42 (dk_at dksX4_runs_0 0 rfl rfl)
theorem dX4_runs_1 : decode cX4_runs 1 = .ok (.getfield 51, 3) := dk_180 0 51 (dk_at dksX4_runs_0 1 rfl rfl)
theorem dX4_runs_4 : decode cX4_runs 4 = .ok (.iload_n 1, 1) := dk_27 (dk_at dksX4_runs_0 4 rfl rfl)
theorem dX4_runs_5 : decode cX4_runs 5 = .ok (.bipush 55, 2) := dk_16 55 (dk_at dksX4_runs_0 5 rfl rfl)
theorem dX4_runs_7 : decode cX4_runs 7 = .ok (.iadd, 1) := dk_96 (dk_at dksX4_runs_0 7 rfl rfl)
theorem dX4_runs_8 : decode cX4_runs 8 = .ok (.iload_n 2, 1) := dk_28 (dk_at dksX4_runs_0 8 rfl rfl)
theorem dX4_runs_9 : decode cX4_runs 9 = .ok (.iadd, 1) := dk_96 (dk_at dksX4_runs_0 9 rfl rfl)
theorem dX4_runs_10 : decode cX4_runs 10 = .ok (.iaload, 1) := dk_46 (dk_at dksX4_runs_0 10 rfl rfl)
theorem dX4_runs_11 : decode cX4_runs 11 = .ok (.iconst 1, 1) := dk_4 (dk_at dksX4_runs_0 11 rfl rfl)
theorem dX4_runs_12 : decode cX4_runs 12 = .ok (.if_icmp .ne 5, 3) := dk_160 0 5 (dk_at dksX4_runs_0 12 rfl rfl)
theorem dX4_runs_15 : decode cX4_runs 15 = .ok (.iconst 0, 1) := dk_3 (dk_at dksX4_runs_0 15 rfl rfl)
theorem dX4_runs_16 : decode cX4_runs 16 = .ok (.ireturn, 1) := dk_172 (dk_at dksX4_runs_0 16 rfl rfl)
theorem dX4_runs_17 : decode cX4_runs 17 = .ok (.aload_n 0, 1) := dk_42 (dk_at dksX4_runs_0 17 rfl rfl)
theorem dX4_runs_18 : decode cX4_runs 18 = .ok (.getfield 69, 3) := dk_180 0 69 (dk_at dksX4_runs_0 18 rfl rfl)
theorem dX4_runs_21 : decode cX4_runs 21 = .ok (.iconst (-1), 1) := dk_2 (dk_at dksX4_runs_0 21 rfl rfl)
theorem dX4_runs_22 : decode cX4_runs 22 = .ok (.if_icmp .ne 32, 3) := dk_160 0 32 (dk_at dksX4_runs_1 0 rfl rfl)
theorem dX4_runs_25 : decode cX4_runs 25 = .ok (.aload_n 0, 1) := dk_42 (dk_at dksX4_runs_1 3 rfl rfl)
theorem dX4_runs_26 : decode cX4_runs 26 = .ok (.getfield 13, 3) := dk_180 0 13 (dk_at dksX4_runs_1 4 rfl rfl)
theorem dX4_runs_29 : decode cX4_runs 29 = .ok (.iconst (-1), 1) := dk_2 (dk_at dksX4_runs_1 7 rfl rfl)
theorem dX4_runs_30 : decode cX4_runs 30 = .ok (.if_icmp .eq 16, 3) := dk_159 0 16 (dk_at dksX4_runs_1 8 rfl rfl)
theorem dX4_runs_33 : decode cX4_runs 33 = .ok (.aload_n 0, 1) := dk_42 (dk_at dksX4_runs_1 11 rfl rfl)
theorem dX4_runs_34 : decode cX4_runs 34 = .ok (.aload_n 0, 1) := dk_42 (dk_at dksX4_runs_1 12 rfl rfl)
theorem dX4_runs_35 : decode cX4_runs 35 = .ok (.getfield 13, 3) := dk_180 0 13 (dk_at dksX4_runs_1 13 rfl rfl)
theorem dX4_runs_38 : decode cX4_runs 38 = .ok (.iload_n 1, 1) := dk_27 (dk_at dksX4_runs_1 16 rfl rfl)
theorem dX4_runs_39 : decode cX4_runs 39 = .ok (.iload_n 2, 1) := dk_28 (dk_at dksX4_runs_1 17 rfl rfl)
theorem dX4_runs_40 : decode cX4_runs 40 = .ok (.invokevirtual 307, 3) := dk_182 1 51 (dk_at dksX4_runs_1 18 rfl rfl)
theorem dX4_runs_43 : decode cX4_runs 43 = .ok (.ifCond .gt 7, 3) := dk_157 0 7 (dk_at dksX4_runs_1 21 rfl rfl)
theorem dX4_runs_46 : decode cX4_runs 46 = .ok (.iconst 1, 1) := dk_4 (dk_at dksX4_runs_2 0 rfl rfl)
theorem dX4_runs_47 : decode cX4_runs 47 = .ok (.goto 19, 3) := dk_167 0 19 (dk_at dksX4_runs_2 1 rfl rfl)
theorem dX4_runs_50 : decode cX4_runs 50 = .ok (.iconst 0, 1) := dk_3 (dk_at dksX4_runs_2 4 rfl rfl)
theorem dX4_runs_51 : decode cX4_runs 51 = .ok (.goto 15, 3) := dk_167 0 15 (dk_at dksX4_runs_2 5 rfl rfl)
theorem dX4_runs_54 : decode cX4_runs 54 = .ok (.aload_n 0, 1) := dk_42 (dk_at dksX4_runs_2 8 rfl rfl)
theorem dX4_runs_55 : decode cX4_runs 55 = .ok (.getfield 69, 3) := dk_180 0 69 (dk_at dksX4_runs_2 9 rfl rfl)
theorem dX4_runs_58 : decode cX4_runs 58 = .ok (.ifCond .ne 7, 3) := dk_154 0 7 (dk_at dksX4_runs_2 12 rfl rfl)
theorem dX4_runs_61 : decode cX4_runs 61 = .ok (.iconst 1, 1) := dk_4 (dk_at dksX4_runs_2 15 rfl rfl)
theorem dX4_runs_62 : decode cX4_runs 62 = .ok (.goto 4, 3) := dk_167 0 4 (dk_at dksX4_runs_2 16 rfl rfl)
theorem dX4_runs_65 : decode cX4_runs 65 = .ok (.iconst 0, 1) := dk_3 (dk_at dksX4_runs_2 19 rfl rfl)
theorem dX4_runs_66 : decode cX4_runs 66 = .ok (.ireturn, 1) := dk_172 (dk_at dksX4_runs_2 20 rfl rfl)
abbrev cX4_asks : ByteArray := prog_12_method_48_code
def yX4_asks : MethodName := ⟨RX4, "asks", "(III)I"⟩
def dkwX4_asks_3 : List UInt8 := [180, 0, 51, 28, 3, 96, 46, 79, 42, 180, 0, 57, 8, 29, 79, 42, 27, 182, 1, 34, 172]
abbrev dktX4_asks_3 : List UInt8 := dkwX4_asks_3 ++ []
def dkwX4_asks_2 : List UInt8 := [180, 0, 57, 6, 42, 180, 0, 51, 28, 16, 46, 96, 29, 96, 46, 79, 42, 180, 0, 57, 7, 42]
abbrev dktX4_asks_2 : List UInt8 := dkwX4_asks_2 ++ dktX4_asks_3
def dkwX4_asks_1 : List UInt8 := [180, 0, 51, 28, 4, 96, 29, 96, 46, 79, 42, 180, 0, 57, 5, 42, 180, 0, 16, 29, 46, 79, 42]
abbrev dktX4_asks_1 : List UInt8 := dkwX4_asks_1 ++ dktX4_asks_2
def dkwX4_asks_0 : List UInt8 := [42, 180, 0, 57, 3, 42, 180, 0, 51, 28, 16, 10, 96, 29, 96, 46, 79, 42, 180, 0, 57, 4, 42]
abbrev dktX4_asks_0 : List UInt8 := dkwX4_asks_0 ++ dktX4_asks_1
theorem dksX4_asks_0 : cX4_asks.data.toList.drop 0 = dktX4_asks_0 := by decide +kernel
theorem dksX4_asks_1 : cX4_asks.data.toList.drop 23 = dktX4_asks_1 := dk_seg dksX4_asks_0 23 rfl rfl
theorem dksX4_asks_2 : cX4_asks.data.toList.drop 46 = dktX4_asks_2 := dk_seg dksX4_asks_1 23 rfl rfl
theorem dksX4_asks_3 : cX4_asks.data.toList.drop 68 = dktX4_asks_3 := dk_seg dksX4_asks_2 22 rfl rfl
theorem dX4_asks_0 : decode cX4_asks 0 = .ok (.aload_n 0, 1) := dk_42 (dk_at dksX4_asks_0 0 rfl rfl)
theorem dX4_asks_1 : decode cX4_asks 1 = .ok (.getfield 57, 3) := dk_180 0 57 (dk_at dksX4_asks_0 1 rfl rfl)
theorem dX4_asks_4 : decode cX4_asks 4 = .ok (.iconst 0, 1) := dk_3 (dk_at dksX4_asks_0 4 rfl rfl)
theorem dX4_asks_5 : decode cX4_asks 5 = .ok (.aload_n 0, 1) := dk_42 (dk_at dksX4_asks_0 5 rfl rfl)
theorem dX4_asks_6 : decode cX4_asks 6 = .ok (.getfield 51, 3) := dk_180 0 51 (dk_at dksX4_asks_0 6 rfl rfl)
theorem dX4_asks_9 : decode cX4_asks 9 = .ok (.iload_n 2, 1) := dk_28 (dk_at dksX4_asks_0 9 rfl rfl)
theorem dX4_asks_10 : decode cX4_asks 10 = .ok (.bipush 10, 2) := dk_16 10 (dk_at dksX4_asks_0 10 rfl rfl)
theorem dX4_asks_12 : decode cX4_asks 12 = .ok (.iadd, 1) := dk_96 (dk_at dksX4_asks_0 12 rfl rfl)
theorem dX4_asks_13 : decode cX4_asks 13 = .ok (.iload_n 3, 1) := dk_29 (dk_at dksX4_asks_0 13 rfl rfl)
theorem dX4_asks_14 : decode cX4_asks 14 = .ok (.iadd, 1) := dk_96 (dk_at dksX4_asks_0 14 rfl rfl)
theorem dX4_asks_15 : decode cX4_asks 15 = .ok (.iaload, 1) := dk_46 (dk_at dksX4_asks_0 15 rfl rfl)
theorem dX4_asks_16 : decode cX4_asks 16 = .ok (.iastore, 1) := dk_79 (dk_at dksX4_asks_0 16 rfl rfl)
theorem dX4_asks_17 : decode cX4_asks 17 = .ok (.aload_n 0, 1) := dk_42 (dk_at dksX4_asks_0 17 rfl rfl)
theorem dX4_asks_18 : decode cX4_asks 18 = .ok (.getfield 57, 3) := dk_180 0 57 (dk_at dksX4_asks_0 18 rfl rfl)
theorem dX4_asks_21 : decode cX4_asks 21 = .ok (.iconst 1, 1) := dk_4 (dk_at dksX4_asks_0 21 rfl rfl)
theorem dX4_asks_22 : decode cX4_asks 22 = .ok (.aload_n 0, 1) := dk_42 (dk_at dksX4_asks_0 22 rfl rfl)
theorem dX4_asks_23 : decode cX4_asks 23 = .ok (.getfield 51, 3) := dk_180 0 51 (dk_at dksX4_asks_1 0 rfl rfl)
theorem dX4_asks_26 : decode cX4_asks 26 = .ok (.iload_n 2, 1) := dk_28 (dk_at dksX4_asks_1 3 rfl rfl)
theorem dX4_asks_27 : decode cX4_asks 27 = .ok (.iconst 1, 1) := dk_4 (dk_at dksX4_asks_1 4 rfl rfl)
theorem dX4_asks_28 : decode cX4_asks 28 = .ok (.iadd, 1) := dk_96 (dk_at dksX4_asks_1 5 rfl rfl)
theorem dX4_asks_29 : decode cX4_asks 29 = .ok (.iload_n 3, 1) := dk_29 (dk_at dksX4_asks_1 6 rfl rfl)
theorem dX4_asks_30 : decode cX4_asks 30 = .ok (.iadd, 1) := dk_96 (dk_at dksX4_asks_1 7 rfl rfl)
theorem dX4_asks_31 : decode cX4_asks 31 = .ok (.iaload, 1) := dk_46 (dk_at dksX4_asks_1 8 rfl rfl)
theorem dX4_asks_32 : decode cX4_asks 32 = .ok (.iastore, 1) := dk_79 (dk_at dksX4_asks_1 9 rfl rfl)
theorem dX4_asks_33 : decode cX4_asks 33 = .ok (.aload_n 0, 1) := dk_42 (dk_at dksX4_asks_1 10 rfl rfl)
theorem dX4_asks_34 : decode cX4_asks 34 = .ok (.getfield 57, 3) := dk_180 0 57 (dk_at dksX4_asks_1 11 rfl rfl)
theorem dX4_asks_37 : decode cX4_asks 37 = .ok (.iconst 2, 1) := dk_5 (dk_at dksX4_asks_1 14 rfl rfl)
theorem dX4_asks_38 : decode cX4_asks 38 = .ok (.aload_n 0, 1) := dk_42 (dk_at dksX4_asks_1 15 rfl rfl)
theorem dX4_asks_39 : decode cX4_asks 39 = .ok (.getfield 16, 3) := dk_180 0 16 (dk_at dksX4_asks_1 16 rfl rfl)
theorem dX4_asks_42 : decode cX4_asks 42 = .ok (.iload_n 3, 1) := dk_29 (dk_at dksX4_asks_1 19 rfl rfl)
theorem dX4_asks_43 : decode cX4_asks 43 = .ok (.iaload, 1) := dk_46 (dk_at dksX4_asks_1 20 rfl rfl)
theorem dX4_asks_44 : decode cX4_asks 44 = .ok (.iastore, 1) := dk_79 (dk_at dksX4_asks_1 21 rfl rfl)
theorem dX4_asks_45 : decode cX4_asks 45 = .ok (.aload_n 0, 1) := dk_42 (dk_at dksX4_asks_1 22 rfl rfl)
theorem dX4_asks_46 : decode cX4_asks 46 = .ok (.getfield 57, 3) := dk_180 0 57 (dk_at dksX4_asks_2 0 rfl rfl)
theorem dX4_asks_49 : decode cX4_asks 49 = .ok (.iconst 3, 1) := dk_6 (dk_at dksX4_asks_2 3 rfl rfl)
theorem dX4_asks_50 : decode cX4_asks 50 = .ok (.aload_n 0, 1) := dk_42 (dk_at dksX4_asks_2 4 rfl rfl)
theorem dX4_asks_51 : decode cX4_asks 51 = .ok (.getfield 51, 3) := dk_180 0 51 (dk_at dksX4_asks_2 5 rfl rfl)
theorem dX4_asks_54 : decode cX4_asks 54 = .ok (.iload_n 2, 1) := dk_28 (dk_at dksX4_asks_2 8 rfl rfl)
theorem dX4_asks_55 : decode cX4_asks 55 = .ok (.bipush 46, 2) := dk_16 46 (dk_at dksX4_asks_2 9 rfl rfl)
theorem dX4_asks_57 : decode cX4_asks 57 = .ok (.iadd, 1) := dk_96 (dk_at dksX4_asks_2 11 rfl rfl)
theorem dX4_asks_58 : decode cX4_asks 58 = .ok (.iload_n 3, 1) := dk_29 (dk_at dksX4_asks_2 12 rfl rfl)
theorem dX4_asks_59 : decode cX4_asks 59 = .ok (.iadd, 1) := dk_96 (dk_at dksX4_asks_2 13 rfl rfl)
theorem dX4_asks_60 : decode cX4_asks 60 = .ok (.iaload, 1) := dk_46 (dk_at dksX4_asks_2 14 rfl rfl)
theorem dX4_asks_61 : decode cX4_asks 61 = .ok (.iastore, 1) := dk_79 (dk_at dksX4_asks_2 15 rfl rfl)
theorem dX4_asks_62 : decode cX4_asks 62 = .ok (.aload_n 0, 1) := dk_42 (dk_at dksX4_asks_2 16 rfl rfl)
theorem dX4_asks_63 : decode cX4_asks 63 = .ok (.getfield 57, 3) := dk_180 0 57 (dk_at dksX4_asks_2 17 rfl rfl)
theorem dX4_asks_66 : decode cX4_asks 66 = .ok (.iconst 4, 1) := dk_7 (dk_at dksX4_asks_2 20 rfl rfl)
theorem dX4_asks_67 : decode cX4_asks 67 = .ok (.aload_n 0, 1) := dk_42 (dk_at dksX4_asks_2 21 rfl rfl)
theorem dX4_asks_68 : decode cX4_asks 68 = .ok (.getfield 51, 3) := dk_180 0 51 (dk_at dksX4_asks_3 0 rfl rfl)
theorem dX4_asks_71 : decode cX4_asks 71 = .ok (.iload_n 2, 1) := dk_28 (dk_at dksX4_asks_3 3 rfl rfl)
theorem dX4_asks_72 : decode cX4_asks 72 = .ok (.iconst 0, 1) := dk_3 (dk_at dksX4_asks_3 4 rfl rfl)
theorem dX4_asks_73 : decode cX4_asks 73 = .ok (.iadd, 1) := dk_96 (dk_at dksX4_asks_3 5 rfl rfl)
theorem dX4_asks_74 : decode cX4_asks 74 = .ok (.iaload, 1) := dk_46 (dk_at dksX4_asks_3 6 rfl rfl)
theorem dX4_asks_75 : decode cX4_asks 75 = .ok (.iastore, 1) := dk_79 (dk_at dksX4_asks_3 7 rfl rfl)
theorem dX4_asks_76 : decode cX4_asks 76 = .ok (.aload_n 0, 1) := dk_42 (dk_at dksX4_asks_3 8 rfl rfl)
theorem dX4_asks_77 : decode cX4_asks 77 = .ok (.getfield 57, 3) := dk_180 0 57 (dk_at dksX4_asks_3 9 rfl rfl)
theorem dX4_asks_80 : decode cX4_asks 80 = .ok (.iconst 5, 1) := dk_8 (dk_at dksX4_asks_3 12 rfl rfl)
theorem dX4_asks_81 : decode cX4_asks 81 = .ok (.iload_n 3, 1) := dk_29 (dk_at dksX4_asks_3 13 rfl rfl)
theorem dX4_asks_82 : decode cX4_asks 82 = .ok (.iastore, 1) := dk_79 (dk_at dksX4_asks_3 14 rfl rfl)
theorem dX4_asks_83 : decode cX4_asks 83 = .ok (.aload_n 0, 1) := dk_42 (dk_at dksX4_asks_3 15 rfl rfl)
theorem dX4_asks_84 : decode cX4_asks 84 = .ok (.iload_n 1, 1) := dk_27 (dk_at dksX4_asks_3 16 rfl rfl)
theorem dX4_asks_85 : decode cX4_asks 85 = .ok (.invokevirtual 290, 3) := dk_182 1 34 (dk_at dksX4_asks_3 17 rfl rfl)
theorem dX4_asks_88 : decode cX4_asks 88 = .ok (.ireturn, 1) := dk_172 (dk_at dksX4_asks_3 20 rfl rfl)
abbrev cX4_reckons : ByteArray := prog_12_method_47_code
def yX4_reckons : MethodName := ⟨RX4, "reckons", "(I)I"⟩
def dkwX4_reckons_6 : List UInt8 := [42, 180, 0, 60, 3, 46, 172]
abbrev dktX4_reckons_6 : List UInt8 := dkwX4_reckons_6 ++ []
def dkwX4_reckons_5 : List UInt8 := [100, 21, 4, 42, 180, 0, 60, 28, 4, 100, 46, 42, 180, 0, 60, 28, 46, 184, 1, 30, 79, 167, 255, 120]
abbrev dktX4_reckons_5 : List UInt8 := dkwX4_reckons_5 ++ dktX4_reckons_6
def dkwX4_reckons_4 : List UInt8 := [4, 100, 46, 154, 0, 7, 4, 167, 0, 4, 3, 79, 167, 0, 33, 132, 2, 255, 42, 180, 0, 60, 28, 4]
abbrev dktX4_reckons_4 : List UInt8 := dkwX4_reckons_4 ++ dktX4_reckons_5
def dkwX4_reckons_3 : List UInt8 := [132, 2, 1, 167, 0, 66, 21, 4, 6, 160, 0, 30, 42, 180, 0, 60, 28, 4, 100, 42, 180, 0, 60, 28]
abbrev dktX4_reckons_3 : List UInt8 := dkwX4_reckons_3 ++ dktX4_reckons_4
def dkwX4_reckons_2 : List UInt8 := [180, 0, 20, 29, 46, 167, 0, 14, 42, 180, 0, 57, 42, 180, 0, 20, 29, 46, 46, 79, 132, 3, 1]
abbrev dktX4_reckons_2 : List UInt8 := dkwX4_reckons_2 ++ dktX4_reckons_3
def dkwX4_reckons_1 : List UInt8 := [21, 4, 4, 159, 0, 9, 21, 4, 5, 160, 0, 44, 42, 180, 0, 60, 28, 21, 4, 4, 160, 0, 12, 42]
abbrev dktX4_reckons_1 : List UInt8 := dkwX4_reckons_1 ++ dktX4_reckons_2
def dkwX4_reckons_0 : List UInt8 := [3, 61, 27, 62, 42, 180, 0, 20, 29, 46, 153, 0, 133, 42, 180, 0, 20, 29, 46, 54, 4, 132, 3, 1]
abbrev dktX4_reckons_0 : List UInt8 := dkwX4_reckons_0 ++ dktX4_reckons_1
theorem dksX4_reckons_0 : cX4_reckons.data.toList.drop 0 = dktX4_reckons_0 := by decide +kernel
theorem dksX4_reckons_1 : cX4_reckons.data.toList.drop 24 = dktX4_reckons_1 := dk_seg dksX4_reckons_0 24 rfl rfl
theorem dksX4_reckons_2 : cX4_reckons.data.toList.drop 48 = dktX4_reckons_2 := dk_seg dksX4_reckons_1 24 rfl rfl
theorem dksX4_reckons_3 : cX4_reckons.data.toList.drop 71 = dktX4_reckons_3 := dk_seg dksX4_reckons_2 23 rfl rfl
theorem dksX4_reckons_4 : cX4_reckons.data.toList.drop 95 = dktX4_reckons_4 := dk_seg dksX4_reckons_3 24 rfl rfl
theorem dksX4_reckons_5 : cX4_reckons.data.toList.drop 119 = dktX4_reckons_5 := dk_seg dksX4_reckons_4 24 rfl rfl
theorem dksX4_reckons_6 : cX4_reckons.data.toList.drop 143 = dktX4_reckons_6 := dk_seg dksX4_reckons_5 24 rfl rfl
theorem dX4_reckons_0 : decode cX4_reckons 0 = .ok (.iconst 0, 1) := dk_3 (dk_at dksX4_reckons_0 0 rfl rfl)
theorem dX4_reckons_1 : decode cX4_reckons 1 = .ok (.istore_n 2, 1) := dk_61 (dk_at dksX4_reckons_0 1 rfl rfl)
theorem dX4_reckons_2 : decode cX4_reckons 2 = .ok (.iload_n 1, 1) := dk_27 (dk_at dksX4_reckons_0 2 rfl rfl)
theorem dX4_reckons_3 : decode cX4_reckons 3 = .ok (.istore_n 3, 1) := dk_62 (dk_at dksX4_reckons_0 3 rfl rfl)
theorem dX4_reckons_4 : decode cX4_reckons 4 = .ok (.aload_n 0, 1) := dk_42 (dk_at dksX4_reckons_0 4 rfl rfl)
theorem dX4_reckons_5 : decode cX4_reckons 5 = .ok (.getfield 20, 3) := dk_180 0 20 (dk_at dksX4_reckons_0 5 rfl rfl)
theorem dX4_reckons_8 : decode cX4_reckons 8 = .ok (.iload_n 3, 1) := dk_29 (dk_at dksX4_reckons_0 8 rfl rfl)
theorem dX4_reckons_9 : decode cX4_reckons 9 = .ok (.iaload, 1) := dk_46 (dk_at dksX4_reckons_0 9 rfl rfl)
theorem dX4_reckons_10 : decode cX4_reckons 10 = .ok (.ifCond .eq 133, 3) := dk_153 0 133 (dk_at dksX4_reckons_0 10 rfl rfl)
theorem dX4_reckons_13 : decode cX4_reckons 13 = .ok (.aload_n 0, 1) := dk_42 (dk_at dksX4_reckons_0 13 rfl rfl)
theorem dX4_reckons_14 : decode cX4_reckons 14 = .ok (.getfield 20, 3) := dk_180 0 20 (dk_at dksX4_reckons_0 14 rfl rfl)
theorem dX4_reckons_17 : decode cX4_reckons 17 = .ok (.iload_n 3, 1) := dk_29 (dk_at dksX4_reckons_0 17 rfl rfl)
theorem dX4_reckons_18 : decode cX4_reckons 18 = .ok (.iaload, 1) := dk_46 (dk_at dksX4_reckons_0 18 rfl rfl)
theorem dX4_reckons_19 : decode cX4_reckons 19 = .ok (.istore 4, 2) := dk_54 4 (dk_at dksX4_reckons_0 19 rfl rfl)
theorem dX4_reckons_21 : decode cX4_reckons 21 = .ok (.iinc 3 1, 3) := dk_132 3 1 (dk_at dksX4_reckons_0 21 rfl rfl)
theorem dX4_reckons_24 : decode cX4_reckons 24 = .ok (.iload 4, 2) := dk_21 4 (dk_at dksX4_reckons_1 0 rfl rfl)
theorem dX4_reckons_26 : decode cX4_reckons 26 = .ok (.iconst 1, 1) := dk_4 (dk_at dksX4_reckons_1 2 rfl rfl)
theorem dX4_reckons_27 : decode cX4_reckons 27 = .ok (.if_icmp .eq 9, 3) := dk_159 0 9 (dk_at dksX4_reckons_1 3 rfl rfl)
theorem dX4_reckons_30 : decode cX4_reckons 30 = .ok (.iload 4, 2) := dk_21 4 (dk_at dksX4_reckons_1 6 rfl rfl)
theorem dX4_reckons_32 : decode cX4_reckons 32 = .ok (.iconst 2, 1) := dk_5 (dk_at dksX4_reckons_1 8 rfl rfl)
theorem dX4_reckons_33 : decode cX4_reckons 33 = .ok (.if_icmp .ne 44, 3) := dk_160 0 44 (dk_at dksX4_reckons_1 9 rfl rfl)
theorem dX4_reckons_36 : decode cX4_reckons 36 = .ok (.aload_n 0, 1) := dk_42 (dk_at dksX4_reckons_1 12 rfl rfl)
theorem dX4_reckons_37 : decode cX4_reckons 37 = .ok (.getfield 60, 3) := dk_180 0 60 (dk_at dksX4_reckons_1 13 rfl rfl)
theorem dX4_reckons_40 : decode cX4_reckons 40 = .ok (.iload_n 2, 1) := dk_28 (dk_at dksX4_reckons_1 16 rfl rfl)
theorem dX4_reckons_41 : decode cX4_reckons 41 = .ok (.iload 4, 2) := dk_21 4 (dk_at dksX4_reckons_1 17 rfl rfl)
theorem dX4_reckons_43 : decode cX4_reckons 43 = .ok (.iconst 1, 1) := dk_4 (dk_at dksX4_reckons_1 19 rfl rfl)
theorem dX4_reckons_44 : decode cX4_reckons 44 = .ok (.if_icmp .ne 12, 3) := dk_160 0 12 (dk_at dksX4_reckons_1 20 rfl rfl)
theorem dX4_reckons_47 : decode cX4_reckons 47 = .ok (.aload_n 0, 1) := dk_42 (dk_at dksX4_reckons_1 23 rfl rfl)
theorem dX4_reckons_48 : decode cX4_reckons 48 = .ok (.getfield 20, 3) := dk_180 0 20 (dk_at dksX4_reckons_2 0 rfl rfl)
theorem dX4_reckons_51 : decode cX4_reckons 51 = .ok (.iload_n 3, 1) := dk_29 (dk_at dksX4_reckons_2 3 rfl rfl)
theorem dX4_reckons_52 : decode cX4_reckons 52 = .ok (.iaload, 1) := dk_46 (dk_at dksX4_reckons_2 4 rfl rfl)
theorem dX4_reckons_53 : decode cX4_reckons 53 = .ok (.goto 14, 3) := dk_167 0 14 (dk_at dksX4_reckons_2 5 rfl rfl)
theorem dX4_reckons_56 : decode cX4_reckons 56 = .ok (.aload_n 0, 1) := dk_42 (dk_at dksX4_reckons_2 8 rfl rfl)
theorem dX4_reckons_57 : decode cX4_reckons 57 = .ok (.getfield 57, 3) := dk_180 0 57 (dk_at dksX4_reckons_2 9 rfl rfl)
theorem dX4_reckons_60 : decode cX4_reckons 60 = .ok (.aload_n 0, 1) := dk_42 (dk_at dksX4_reckons_2 12 rfl rfl)
theorem dX4_reckons_61 : decode cX4_reckons 61 = .ok (.getfield 20, 3) := dk_180 0 20 (dk_at dksX4_reckons_2 13 rfl rfl)
theorem dX4_reckons_64 : decode cX4_reckons 64 = .ok (.iload_n 3, 1) := dk_29 (dk_at dksX4_reckons_2 16 rfl rfl)
theorem dX4_reckons_65 : decode cX4_reckons 65 = .ok (.iaload, 1) := dk_46 (dk_at dksX4_reckons_2 17 rfl rfl)
theorem dX4_reckons_66 : decode cX4_reckons 66 = .ok (.iaload, 1) := dk_46 (dk_at dksX4_reckons_2 18 rfl rfl)
theorem dX4_reckons_67 : decode cX4_reckons 67 = .ok (.iastore, 1) := dk_79 (dk_at dksX4_reckons_2 19 rfl rfl)
theorem dX4_reckons_68 : decode cX4_reckons 68 = .ok (.iinc 3 1, 3) := dk_132 3 1 (dk_at dksX4_reckons_2 20 rfl rfl)
theorem dX4_reckons_71 : decode cX4_reckons 71 = .ok (.iinc 2 1, 3) := dk_132 2 1 (dk_at dksX4_reckons_3 0 rfl rfl)
theorem dX4_reckons_74 : decode cX4_reckons 74 = .ok (.goto 66, 3) := dk_167 0 66 (dk_at dksX4_reckons_3 3 rfl rfl)
theorem dX4_reckons_77 : decode cX4_reckons 77 = .ok (.iload 4, 2) := dk_21 4 (dk_at dksX4_reckons_3 6 rfl rfl)
theorem dX4_reckons_79 : decode cX4_reckons 79 = .ok (.iconst 3, 1) := dk_6 (dk_at dksX4_reckons_3 8 rfl rfl)
theorem dX4_reckons_80 : decode cX4_reckons 80 = .ok (.if_icmp .ne 30, 3) := dk_160 0 30 (dk_at dksX4_reckons_3 9 rfl rfl)
theorem dX4_reckons_83 : decode cX4_reckons 83 = .ok (.aload_n 0, 1) := dk_42 (dk_at dksX4_reckons_3 12 rfl rfl)
theorem dX4_reckons_84 : decode cX4_reckons 84 = .ok (.getfield 60, 3) := dk_180 0 60 (dk_at dksX4_reckons_3 13 rfl rfl)
theorem dX4_reckons_87 : decode cX4_reckons 87 = .ok (.iload_n 2, 1) := dk_28 (dk_at dksX4_reckons_3 16 rfl rfl)
theorem dX4_reckons_88 : decode cX4_reckons 88 = .ok (.iconst 1, 1) := dk_4 (dk_at dksX4_reckons_3 17 rfl rfl)
theorem dX4_reckons_89 : decode cX4_reckons 89 = .ok (.isub, 1) := dk_100 (dk_at dksX4_reckons_3 18 rfl rfl)
theorem dX4_reckons_90 : decode cX4_reckons 90 = .ok (.aload_n 0, 1) := dk_42 (dk_at dksX4_reckons_3 19 rfl rfl)
theorem dX4_reckons_91 : decode cX4_reckons 91 = .ok (.getfield 60, 3) := dk_180 0 60 (dk_at dksX4_reckons_3 20 rfl rfl)
theorem dX4_reckons_94 : decode cX4_reckons 94 = .ok (.iload_n 2, 1) := dk_28 (dk_at dksX4_reckons_3 23 rfl rfl)
theorem dX4_reckons_95 : decode cX4_reckons 95 = .ok (.iconst 1, 1) := dk_4 (dk_at dksX4_reckons_4 0 rfl rfl)
theorem dX4_reckons_96 : decode cX4_reckons 96 = .ok (.isub, 1) := dk_100 (dk_at dksX4_reckons_4 1 rfl rfl)
theorem dX4_reckons_97 : decode cX4_reckons 97 = .ok (.iaload, 1) := dk_46 (dk_at dksX4_reckons_4 2 rfl rfl)
theorem dX4_reckons_98 : decode cX4_reckons 98 = .ok (.ifCond .ne 7, 3) := dk_154 0 7 (dk_at dksX4_reckons_4 3 rfl rfl)
theorem dX4_reckons_101 : decode cX4_reckons 101 = .ok (.iconst 1, 1) := dk_4 (dk_at dksX4_reckons_4 6 rfl rfl)
theorem dX4_reckons_102 : decode cX4_reckons 102 = .ok (.goto 4, 3) := dk_167 0 4 (dk_at dksX4_reckons_4 7 rfl rfl)
theorem dX4_reckons_105 : decode cX4_reckons 105 = .ok (.iconst 0, 1) := dk_3 (dk_at dksX4_reckons_4 10 rfl rfl)
theorem dX4_reckons_106 : decode cX4_reckons 106 = .ok (.iastore, 1) := dk_79 (dk_at dksX4_reckons_4 11 rfl rfl)
theorem dX4_reckons_107 : decode cX4_reckons 107 = .ok (.goto 33, 3) := dk_167 0 33 (dk_at dksX4_reckons_4 12 rfl rfl)
theorem dX4_reckons_110 : decode cX4_reckons 110 = .ok (.iinc 2 (-1), 3) := dk_132 2 255 (dk_at dksX4_reckons_4 15 rfl rfl)
theorem dX4_reckons_113 : decode cX4_reckons 113 = .ok (.aload_n 0, 1) := dk_42 (dk_at dksX4_reckons_4 18 rfl rfl)
theorem dX4_reckons_114 : decode cX4_reckons 114 = .ok (.getfield 60, 3) := dk_180 0 60 (dk_at dksX4_reckons_4 19 rfl rfl)
theorem dX4_reckons_117 : decode cX4_reckons 117 = .ok (.iload_n 2, 1) := dk_28 (dk_at dksX4_reckons_4 22 rfl rfl)
theorem dX4_reckons_118 : decode cX4_reckons 118 = .ok (.iconst 1, 1) := dk_4 (dk_at dksX4_reckons_4 23 rfl rfl)
theorem dX4_reckons_119 : decode cX4_reckons 119 = .ok (.isub, 1) := dk_100 (dk_at dksX4_reckons_5 0 rfl rfl)
theorem dX4_reckons_120 : decode cX4_reckons 120 = .ok (.iload 4, 2) := dk_21 4 (dk_at dksX4_reckons_5 1 rfl rfl)
theorem dX4_reckons_122 : decode cX4_reckons 122 = .ok (.aload_n 0, 1) := dk_42 (dk_at dksX4_reckons_5 3 rfl rfl)
theorem dX4_reckons_123 : decode cX4_reckons 123 = .ok (.getfield 60, 3) := dk_180 0 60 (dk_at dksX4_reckons_5 4 rfl rfl)
theorem dX4_reckons_126 : decode cX4_reckons 126 = .ok (.iload_n 2, 1) := dk_28 (dk_at dksX4_reckons_5 7 rfl rfl)
theorem dX4_reckons_127 : decode cX4_reckons 127 = .ok (.iconst 1, 1) := dk_4 (dk_at dksX4_reckons_5 8 rfl rfl)
theorem dX4_reckons_128 : decode cX4_reckons 128 = .ok (.isub, 1) := dk_100 (dk_at dksX4_reckons_5 9 rfl rfl)
theorem dX4_reckons_129 : decode cX4_reckons 129 = .ok (.iaload, 1) := dk_46 (dk_at dksX4_reckons_5 10 rfl rfl)
theorem dX4_reckons_130 : decode cX4_reckons 130 = .ok (.aload_n 0, 1) := dk_42 (dk_at dksX4_reckons_5 11 rfl rfl)
theorem dX4_reckons_131 : decode cX4_reckons 131 = .ok (.getfield 60, 3) := dk_180 0 60 (dk_at dksX4_reckons_5 12 rfl rfl)
theorem dX4_reckons_134 : decode cX4_reckons 134 = .ok (.iload_n 2, 1) := dk_28 (dk_at dksX4_reckons_5 15 rfl rfl)
theorem dX4_reckons_135 : decode cX4_reckons 135 = .ok (.iaload, 1) := dk_46 (dk_at dksX4_reckons_5 16 rfl rfl)
theorem dX4_reckons_136 : decode cX4_reckons 136 = .ok (.invokestatic 286, 3) := dk_184 1 30 (dk_at dksX4_reckons_5 17 rfl rfl)
theorem dX4_reckons_139 : decode cX4_reckons 139 = .ok (.iastore, 1) := dk_79 (dk_at dksX4_reckons_5 20 rfl rfl)
theorem dX4_reckons_140 : decode cX4_reckons 140 = .ok (.goto (-136), 3) := dk_167 255 120 (dk_at dksX4_reckons_5 21 rfl rfl)
theorem dX4_reckons_143 : decode cX4_reckons 143 = .ok (.aload_n 0, 1) := dk_42 (dk_at dksX4_reckons_6 0 rfl rfl)
theorem dX4_reckons_144 : decode cX4_reckons 144 = .ok (.getfield 60, 3) := dk_180 0 60 (dk_at dksX4_reckons_6 1 rfl rfl)
theorem dX4_reckons_147 : decode cX4_reckons 147 = .ok (.iconst 0, 1) := dk_3 (dk_at dksX4_reckons_6 4 rfl rfl)
theorem dX4_reckons_148 : decode cX4_reckons 148 = .ok (.iaload, 1) := dk_46 (dk_at dksX4_reckons_6 5 rfl rfl)
theorem dX4_reckons_149 : decode cX4_reckons 149 = .ok (.ireturn, 1) := dk_172 (dk_at dksX4_reckons_6 6 rfl rfl)
abbrev cX4_works : ByteArray := prog_12_method_46_code
def yX4_works : MethodName := ⟨RX4, "works", "(III)I"⟩
def dkwX4_works_5 : List UInt8 := [167, 0, 6, 27, 28, 108, 172]
abbrev dktX4_works_5 : List UInt8 := dkwX4_works_5 ++ []
def dkwX4_works_4 : List UInt8 := [167, 0, 4, 3, 172, 27, 28, 96, 172, 27, 28, 100, 172, 27, 28, 104, 172, 28, 154, 0, 7, 3]
abbrev dktX4_works_4 : List UInt8 := dkwX4_works_4 ++ dktX4_works_5
def dkwX4_works_3 : List UInt8 := [167, 0, 4, 3, 172, 27, 28, 162, 0, 7, 4, 167, 0, 4, 3, 172, 27, 28, 160, 0, 7, 4]
abbrev dktX4_works_3 : List UInt8 := dkwX4_works_3 ++ dktX4_works_4
def dkwX4_works_2 : List UInt8 := [27, 153, 0, 11, 28, 153, 0, 7, 4, 167, 0, 4, 3, 172, 27, 154, 0, 7, 28, 153, 0, 7, 4]
abbrev dktX4_works_2 : List UInt8 := dkwX4_works_2 ++ dktX4_works_3
def dkwX4_works_1 : List UInt8 := [170, 0, 0, 0, 0, 0, 105, 0, 0, 0, 4, 0, 0, 0, 10, 0, 0, 0, 43, 0, 0, 0, 57, 0, 0, 0, 71, 0, 0, 0, 82, 0, 0, 0, 93, 0, 0, 0, 97, 0, 0, 0, 101]
abbrev dktX4_works_1 : List UInt8 := dkwX4_works_1 ++ dktX4_works_2
def dkwX4_works_0 : List UInt8 := [26]
abbrev dktX4_works_0 : List UInt8 := dkwX4_works_0 ++ dktX4_works_1
theorem dksX4_works_0 : cX4_works.data.toList.drop 0 = dktX4_works_0 := by decide +kernel
theorem dksX4_works_1 : cX4_works.data.toList.drop 1 = dktX4_works_1 := dk_seg dksX4_works_0 1 rfl rfl
theorem dksX4_works_2 : cX4_works.data.toList.drop 44 = dktX4_works_2 := dk_seg dksX4_works_1 43 rfl rfl
theorem dksX4_works_3 : cX4_works.data.toList.drop 67 = dktX4_works_3 := dk_seg dksX4_works_2 23 rfl rfl
theorem dksX4_works_4 : cX4_works.data.toList.drop 89 = dktX4_works_4 := dk_seg dksX4_works_3 22 rfl rfl
theorem dksX4_works_5 : cX4_works.data.toList.drop 111 = dktX4_works_5 := dk_seg dksX4_works_4 22 rfl rfl
theorem dX4_works_0 : decode cX4_works 0 = .ok (.iload_n 0, 1) := dk_26 (dk_at dksX4_works_0 0 rfl rfl)
theorem dX4_works_1 : decode cX4_works 1 = .ok (.tableswitch 105 4 10 #[43, 57, 71, 82, 93, 97, 101], 43) := by decide +kernel
theorem dX4_works_44 : decode cX4_works 44 = .ok (.iload_n 1, 1) := dk_27 (dk_at dksX4_works_2 0 rfl rfl)
theorem dX4_works_45 : decode cX4_works 45 = .ok (.ifCond .eq 11, 3) := dk_153 0 11 (dk_at dksX4_works_2 1 rfl rfl)
theorem dX4_works_48 : decode cX4_works 48 = .ok (.iload_n 2, 1) := dk_28 (dk_at dksX4_works_2 4 rfl rfl)
theorem dX4_works_49 : decode cX4_works 49 = .ok (.ifCond .eq 7, 3) := dk_153 0 7 (dk_at dksX4_works_2 5 rfl rfl)
theorem dX4_works_52 : decode cX4_works 52 = .ok (.iconst 1, 1) := dk_4 (dk_at dksX4_works_2 8 rfl rfl)
theorem dX4_works_53 : decode cX4_works 53 = .ok (.goto 4, 3) := dk_167 0 4 (dk_at dksX4_works_2 9 rfl rfl)
theorem dX4_works_56 : decode cX4_works 56 = .ok (.iconst 0, 1) := dk_3 (dk_at dksX4_works_2 12 rfl rfl)
theorem dX4_works_57 : decode cX4_works 57 = .ok (.ireturn, 1) := dk_172 (dk_at dksX4_works_2 13 rfl rfl)
theorem dX4_works_58 : decode cX4_works 58 = .ok (.iload_n 1, 1) := dk_27 (dk_at dksX4_works_2 14 rfl rfl)
theorem dX4_works_59 : decode cX4_works 59 = .ok (.ifCond .ne 7, 3) := dk_154 0 7 (dk_at dksX4_works_2 15 rfl rfl)
theorem dX4_works_62 : decode cX4_works 62 = .ok (.iload_n 2, 1) := dk_28 (dk_at dksX4_works_2 18 rfl rfl)
theorem dX4_works_63 : decode cX4_works 63 = .ok (.ifCond .eq 7, 3) := dk_153 0 7 (dk_at dksX4_works_2 19 rfl rfl)
theorem dX4_works_66 : decode cX4_works 66 = .ok (.iconst 1, 1) := dk_4 (dk_at dksX4_works_2 22 rfl rfl)
theorem dX4_works_67 : decode cX4_works 67 = .ok (.goto 4, 3) := dk_167 0 4 (dk_at dksX4_works_3 0 rfl rfl)
theorem dX4_works_70 : decode cX4_works 70 = .ok (.iconst 0, 1) := dk_3 (dk_at dksX4_works_3 3 rfl rfl)
theorem dX4_works_71 : decode cX4_works 71 = .ok (.ireturn, 1) := dk_172 (dk_at dksX4_works_3 4 rfl rfl)
theorem dX4_works_72 : decode cX4_works 72 = .ok (.iload_n 1, 1) := dk_27 (dk_at dksX4_works_3 5 rfl rfl)
theorem dX4_works_73 : decode cX4_works 73 = .ok (.iload_n 2, 1) := dk_28 (dk_at dksX4_works_3 6 rfl rfl)
theorem dX4_works_74 : decode cX4_works 74 = .ok (.if_icmp .ge 7, 3) := dk_162 0 7 (dk_at dksX4_works_3 7 rfl rfl)
theorem dX4_works_77 : decode cX4_works 77 = .ok (.iconst 1, 1) := dk_4 (dk_at dksX4_works_3 10 rfl rfl)
theorem dX4_works_78 : decode cX4_works 78 = .ok (.goto 4, 3) := dk_167 0 4 (dk_at dksX4_works_3 11 rfl rfl)
theorem dX4_works_81 : decode cX4_works 81 = .ok (.iconst 0, 1) := dk_3 (dk_at dksX4_works_3 14 rfl rfl)
theorem dX4_works_82 : decode cX4_works 82 = .ok (.ireturn, 1) := dk_172 (dk_at dksX4_works_3 15 rfl rfl)
theorem dX4_works_83 : decode cX4_works 83 = .ok (.iload_n 1, 1) := dk_27 (dk_at dksX4_works_3 16 rfl rfl)
theorem dX4_works_84 : decode cX4_works 84 = .ok (.iload_n 2, 1) := dk_28 (dk_at dksX4_works_3 17 rfl rfl)
theorem dX4_works_85 : decode cX4_works 85 = .ok (.if_icmp .ne 7, 3) := dk_160 0 7 (dk_at dksX4_works_3 18 rfl rfl)
theorem dX4_works_88 : decode cX4_works 88 = .ok (.iconst 1, 1) := dk_4 (dk_at dksX4_works_3 21 rfl rfl)
theorem dX4_works_89 : decode cX4_works 89 = .ok (.goto 4, 3) := dk_167 0 4 (dk_at dksX4_works_4 0 rfl rfl)
theorem dX4_works_92 : decode cX4_works 92 = .ok (.iconst 0, 1) := dk_3 (dk_at dksX4_works_4 3 rfl rfl)
theorem dX4_works_93 : decode cX4_works 93 = .ok (.ireturn, 1) := dk_172 (dk_at dksX4_works_4 4 rfl rfl)
theorem dX4_works_94 : decode cX4_works 94 = .ok (.iload_n 1, 1) := dk_27 (dk_at dksX4_works_4 5 rfl rfl)
theorem dX4_works_95 : decode cX4_works 95 = .ok (.iload_n 2, 1) := dk_28 (dk_at dksX4_works_4 6 rfl rfl)
theorem dX4_works_96 : decode cX4_works 96 = .ok (.iadd, 1) := dk_96 (dk_at dksX4_works_4 7 rfl rfl)
theorem dX4_works_97 : decode cX4_works 97 = .ok (.ireturn, 1) := dk_172 (dk_at dksX4_works_4 8 rfl rfl)
theorem dX4_works_98 : decode cX4_works 98 = .ok (.iload_n 1, 1) := dk_27 (dk_at dksX4_works_4 9 rfl rfl)
theorem dX4_works_99 : decode cX4_works 99 = .ok (.iload_n 2, 1) := dk_28 (dk_at dksX4_works_4 10 rfl rfl)
theorem dX4_works_100 : decode cX4_works 100 = .ok (.isub, 1) := dk_100 (dk_at dksX4_works_4 11 rfl rfl)
theorem dX4_works_101 : decode cX4_works 101 = .ok (.ireturn, 1) := dk_172 (dk_at dksX4_works_4 12 rfl rfl)
theorem dX4_works_102 : decode cX4_works 102 = .ok (.iload_n 1, 1) := dk_27 (dk_at dksX4_works_4 13 rfl rfl)
theorem dX4_works_103 : decode cX4_works 103 = .ok (.iload_n 2, 1) := dk_28 (dk_at dksX4_works_4 14 rfl rfl)
theorem dX4_works_104 : decode cX4_works 104 = .ok (.imul, 1) := dk_104 (dk_at dksX4_works_4 15 rfl rfl)
theorem dX4_works_105 : decode cX4_works 105 = .ok (.ireturn, 1) := dk_172 (dk_at dksX4_works_4 16 rfl rfl)
theorem dX4_works_106 : decode cX4_works 106 = .ok (.iload_n 2, 1) := dk_28 (dk_at dksX4_works_4 17 rfl rfl)
theorem dX4_works_107 : decode cX4_works 107 = .ok (.ifCond .ne 7, 3) := dk_154 0 7 (dk_at dksX4_works_4 18 rfl rfl)
theorem dX4_works_110 : decode cX4_works 110 = .ok (.iconst 0, 1) := dk_3 (dk_at dksX4_works_4 21 rfl rfl)
theorem dX4_works_111 : decode cX4_works 111 = .ok (.goto 6, 3) := dk_167 0 6 (dk_at dksX4_works_5 0 rfl rfl)
theorem dX4_works_114 : decode cX4_works 114 = .ok (.iload_n 1, 1) := dk_27 (dk_at dksX4_works_5 3 rfl rfl)
theorem dX4_works_115 : decode cX4_works 115 = .ok (.iload_n 2, 1) := dk_28 (dk_at dksX4_works_5 4 rfl rfl)
theorem dX4_works_116 : decode cX4_works 116 = .ok (.idiv, 1) := dk_108 (dk_at dksX4_works_5 5 rfl rfl)
theorem dX4_works_117 : decode cX4_works 117 = .ok (.ireturn, 1) := dk_172 (dk_at dksX4_works_5 6 rfl rfl)
abbrev cX4_gets : ByteArray := prog_12_method_50_code
def yX4_gets : MethodName := ⟨RX4, "gets", "(III)V"⟩
def dkwX4_gets_5 : List UInt8 := [177]
abbrev dktX4_gets_5 : List UInt8 := dkwX4_gets_5 ++ []
def dkwX4_gets_4 : List UInt8 := [154, 0, 4, 177, 42, 89, 180, 1, 44, 4, 28, 120, 128, 181, 1, 44, 42, 27, 28, 21, 5, 182, 1, 47]
abbrev dktX4_gets_4 : List UInt8 := dkwX4_gets_4 ++ dktX4_gets_5
def dkwX4_gets_3 : List UInt8 := [16, 46, 96, 28, 96, 46, 21, 5, 96, 184, 1, 41, 79, 42, 180, 0, 66, 28, 21, 5, 79, 21, 5]
abbrev dktX4_gets_3 : List UInt8 := dkwX4_gets_3 ++ dktX4_gets_4
def dkwX4_gets_2 : List UInt8 := [96, 28, 96, 46, 112, 79, 42, 180, 0, 51, 27, 16, 46, 96, 28, 96, 19, 1, 40, 42, 180, 0, 51, 27]
abbrev dktX4_gets_2 : List UInt8 := dkwX4_gets_2 ++ dktX4_gets_3
def dkwX4_gets_1 : List UInt8 := [28, 96, 46, 108, 54, 5, 42, 180, 0, 51, 27, 16, 10, 96, 28, 96, 21, 4, 42, 180, 0, 51, 27, 4]
abbrev dktX4_gets_1 : List UInt8 := dkwX4_gets_1 ++ dktX4_gets_2
def dkwX4_gets_0 : List UInt8 := [42, 180, 0, 51, 27, 16, 10, 96, 28, 96, 46, 29, 96, 54, 4, 21, 4, 42, 180, 0, 51, 27, 4, 96]
abbrev dktX4_gets_0 : List UInt8 := dkwX4_gets_0 ++ dktX4_gets_1
theorem dksX4_gets_0 : cX4_gets.data.toList.drop 0 = dktX4_gets_0 := by decide +kernel
theorem dksX4_gets_1 : cX4_gets.data.toList.drop 24 = dktX4_gets_1 := dk_seg dksX4_gets_0 24 rfl rfl
theorem dksX4_gets_2 : cX4_gets.data.toList.drop 48 = dktX4_gets_2 := dk_seg dksX4_gets_1 24 rfl rfl
theorem dksX4_gets_3 : cX4_gets.data.toList.drop 72 = dktX4_gets_3 := dk_seg dksX4_gets_2 24 rfl rfl
theorem dksX4_gets_4 : cX4_gets.data.toList.drop 95 = dktX4_gets_4 := dk_seg dksX4_gets_3 23 rfl rfl
theorem dksX4_gets_5 : cX4_gets.data.toList.drop 119 = dktX4_gets_5 := dk_seg dksX4_gets_4 24 rfl rfl
theorem dX4_gets_0 : decode cX4_gets 0 = .ok (.aload_n 0, 1) := dk_42 (dk_at dksX4_gets_0 0 rfl rfl)
theorem dX4_gets_1 : decode cX4_gets 1 = .ok (.getfield 51, 3) := dk_180 0 51 (dk_at dksX4_gets_0 1 rfl rfl)
theorem dX4_gets_4 : decode cX4_gets 4 = .ok (.iload_n 1, 1) := dk_27 (dk_at dksX4_gets_0 4 rfl rfl)
theorem dX4_gets_5 : decode cX4_gets 5 = .ok (.bipush 10, 2) := dk_16 10 (dk_at dksX4_gets_0 5 rfl rfl)
theorem dX4_gets_7 : decode cX4_gets 7 = .ok (.iadd, 1) := dk_96 (dk_at dksX4_gets_0 7 rfl rfl)
theorem dX4_gets_8 : decode cX4_gets 8 = .ok (.iload_n 2, 1) := dk_28 (dk_at dksX4_gets_0 8 rfl rfl)
theorem dX4_gets_9 : decode cX4_gets 9 = .ok (.iadd, 1) := dk_96 (dk_at dksX4_gets_0 9 rfl rfl)
theorem dX4_gets_10 : decode cX4_gets 10 = .ok (.iaload, 1) := dk_46 (dk_at dksX4_gets_0 10 rfl rfl)
theorem dX4_gets_11 : decode cX4_gets 11 = .ok (.iload_n 3, 1) := dk_29 (dk_at dksX4_gets_0 11 rfl rfl)
theorem dX4_gets_12 : decode cX4_gets 12 = .ok (.iadd, 1) := dk_96 (dk_at dksX4_gets_0 12 rfl rfl)
theorem dX4_gets_13 : decode cX4_gets 13 = .ok (.istore 4, 2) := dk_54 4 (dk_at dksX4_gets_0 13 rfl rfl)
theorem dX4_gets_15 : decode cX4_gets 15 = .ok (.iload 4, 2) := dk_21 4 (dk_at dksX4_gets_0 15 rfl rfl)
theorem dX4_gets_17 : decode cX4_gets 17 = .ok (.aload_n 0, 1) := dk_42 (dk_at dksX4_gets_0 17 rfl rfl)
theorem dX4_gets_18 : decode cX4_gets 18 = .ok (.getfield 51, 3) := dk_180 0 51 (dk_at dksX4_gets_0 18 rfl rfl)
theorem dX4_gets_21 : decode cX4_gets 21 = .ok (.iload_n 1, 1) := dk_27 (dk_at dksX4_gets_0 21 rfl rfl)
theorem dX4_gets_22 : decode cX4_gets 22 = .ok (.iconst 1, 1) := dk_4 (dk_at dksX4_gets_0 22 rfl rfl)
theorem dX4_gets_23 : decode cX4_gets 23 = .ok (.iadd, 1) := dk_96 (dk_at dksX4_gets_0 23 rfl rfl)
theorem dX4_gets_24 : decode cX4_gets 24 = .ok (.iload_n 2, 1) := dk_28 (dk_at dksX4_gets_1 0 rfl rfl)
theorem dX4_gets_25 : decode cX4_gets 25 = .ok (.iadd, 1) := dk_96 (dk_at dksX4_gets_1 1 rfl rfl)
theorem dX4_gets_26 : decode cX4_gets 26 = .ok (.iaload, 1) := dk_46 (dk_at dksX4_gets_1 2 rfl rfl)
theorem dX4_gets_27 : decode cX4_gets 27 = .ok (.idiv, 1) := dk_108 (dk_at dksX4_gets_1 3 rfl rfl)
theorem dX4_gets_28 : decode cX4_gets 28 = .ok (.istore 5, 2) := dk_54 5 (dk_at dksX4_gets_1 4 rfl rfl)
theorem dX4_gets_30 : decode cX4_gets 30 = .ok (.aload_n 0, 1) := dk_42 (dk_at dksX4_gets_1 6 rfl rfl)
theorem dX4_gets_31 : decode cX4_gets 31 = .ok (.getfield 51, 3) := dk_180 0 51 (dk_at dksX4_gets_1 7 rfl rfl)
theorem dX4_gets_34 : decode cX4_gets 34 = .ok (.iload_n 1, 1) := dk_27 (dk_at dksX4_gets_1 10 rfl rfl)
theorem dX4_gets_35 : decode cX4_gets 35 = .ok (.bipush 10, 2) := dk_16 10 (dk_at dksX4_gets_1 11 rfl rfl)
theorem dX4_gets_37 : decode cX4_gets 37 = .ok (.iadd, 1) := dk_96 (dk_at dksX4_gets_1 13 rfl rfl)
theorem dX4_gets_38 : decode cX4_gets 38 = .ok (.iload_n 2, 1) := dk_28 (dk_at dksX4_gets_1 14 rfl rfl)
theorem dX4_gets_39 : decode cX4_gets 39 = .ok (.iadd, 1) := dk_96 (dk_at dksX4_gets_1 15 rfl rfl)
theorem dX4_gets_40 : decode cX4_gets 40 = .ok (.iload 4, 2) := dk_21 4 (dk_at dksX4_gets_1 16 rfl rfl)
theorem dX4_gets_42 : decode cX4_gets 42 = .ok (.aload_n 0, 1) := dk_42 (dk_at dksX4_gets_1 18 rfl rfl)
theorem dX4_gets_43 : decode cX4_gets 43 = .ok (.getfield 51, 3) := dk_180 0 51 (dk_at dksX4_gets_1 19 rfl rfl)
theorem dX4_gets_46 : decode cX4_gets 46 = .ok (.iload_n 1, 1) := dk_27 (dk_at dksX4_gets_1 22 rfl rfl)
theorem dX4_gets_47 : decode cX4_gets 47 = .ok (.iconst 1, 1) := dk_4 (dk_at dksX4_gets_1 23 rfl rfl)
theorem dX4_gets_48 : decode cX4_gets 48 = .ok (.iadd, 1) := dk_96 (dk_at dksX4_gets_2 0 rfl rfl)
theorem dX4_gets_49 : decode cX4_gets 49 = .ok (.iload_n 2, 1) := dk_28 (dk_at dksX4_gets_2 1 rfl rfl)
theorem dX4_gets_50 : decode cX4_gets 50 = .ok (.iadd, 1) := dk_96 (dk_at dksX4_gets_2 2 rfl rfl)
theorem dX4_gets_51 : decode cX4_gets 51 = .ok (.iaload, 1) := dk_46 (dk_at dksX4_gets_2 3 rfl rfl)
theorem dX4_gets_52 : decode cX4_gets 52 = .ok (.irem, 1) := dk_112 (dk_at dksX4_gets_2 4 rfl rfl)
theorem dX4_gets_53 : decode cX4_gets 53 = .ok (.iastore, 1) := dk_79 (dk_at dksX4_gets_2 5 rfl rfl)
theorem dX4_gets_54 : decode cX4_gets 54 = .ok (.aload_n 0, 1) := dk_42 (dk_at dksX4_gets_2 6 rfl rfl)
theorem dX4_gets_55 : decode cX4_gets 55 = .ok (.getfield 51, 3) := dk_180 0 51 (dk_at dksX4_gets_2 7 rfl rfl)
theorem dX4_gets_58 : decode cX4_gets 58 = .ok (.iload_n 1, 1) := dk_27 (dk_at dksX4_gets_2 10 rfl rfl)
theorem dX4_gets_59 : decode cX4_gets 59 = .ok (.bipush 46, 2) := dk_16 46 (dk_at dksX4_gets_2 11 rfl rfl)
theorem dX4_gets_61 : decode cX4_gets 61 = .ok (.iadd, 1) := dk_96 (dk_at dksX4_gets_2 13 rfl rfl)
theorem dX4_gets_62 : decode cX4_gets 62 = .ok (.iload_n 2, 1) := dk_28 (dk_at dksX4_gets_2 14 rfl rfl)
theorem dX4_gets_63 : decode cX4_gets 63 = .ok (.iadd, 1) := dk_96 (dk_at dksX4_gets_2 15 rfl rfl)
theorem dX4_gets_64 : decode cX4_gets 64 = .ok (.ldc_w 296, 3) := dk_19 1 40 (dk_at dksX4_gets_2 16 rfl rfl)
theorem dX4_gets_67 : decode cX4_gets 67 = .ok (.aload_n 0, 1) := dk_42 (dk_at dksX4_gets_2 19 rfl rfl)
theorem dX4_gets_68 : decode cX4_gets 68 = .ok (.getfield 51, 3) := dk_180 0 51 (dk_at dksX4_gets_2 20 rfl rfl)
theorem dX4_gets_71 : decode cX4_gets 71 = .ok (.iload_n 1, 1) := dk_27 (dk_at dksX4_gets_2 23 rfl rfl)
theorem dX4_gets_72 : decode cX4_gets 72 = .ok (.bipush 46, 2) := dk_16 46 (dk_at dksX4_gets_3 0 rfl rfl)
theorem dX4_gets_74 : decode cX4_gets 74 = .ok (.iadd, 1) := dk_96 (dk_at dksX4_gets_3 2 rfl rfl)
theorem dX4_gets_75 : decode cX4_gets 75 = .ok (.iload_n 2, 1) := dk_28 (dk_at dksX4_gets_3 3 rfl rfl)
theorem dX4_gets_76 : decode cX4_gets 76 = .ok (.iadd, 1) := dk_96 (dk_at dksX4_gets_3 4 rfl rfl)
theorem dX4_gets_77 : decode cX4_gets 77 = .ok (.iaload, 1) := dk_46 (dk_at dksX4_gets_3 5 rfl rfl)
theorem dX4_gets_78 : decode cX4_gets 78 = .ok (.iload 5, 2) := dk_21 5 (dk_at dksX4_gets_3 6 rfl rfl)
theorem dX4_gets_80 : decode cX4_gets 80 = .ok (.iadd, 1) := dk_96 (dk_at dksX4_gets_3 8 rfl rfl)
theorem dX4_gets_81 : decode cX4_gets 81 = .ok (.invokestatic 297, 3) := dk_184 1 41 (dk_at dksX4_gets_3 9 rfl rfl)
theorem dX4_gets_84 : decode cX4_gets 84 = .ok (.iastore, 1) := dk_79 (dk_at dksX4_gets_3 12 rfl rfl)
theorem dX4_gets_85 : decode cX4_gets 85 = .ok (.aload_n 0, 1) := dk_42 (dk_at dksX4_gets_3 13 rfl rfl)
theorem dX4_gets_86 : decode cX4_gets 86 = .ok (.getfield 66, 3) := dk_180 0 66 (dk_at dksX4_gets_3 14 rfl rfl)
theorem dX4_gets_89 : decode cX4_gets 89 = .ok (.iload_n 2, 1) := dk_28 (dk_at dksX4_gets_3 17 rfl rfl)
theorem dX4_gets_90 : decode cX4_gets 90 = .ok (.iload 5, 2) := dk_21 5 (dk_at dksX4_gets_3 18 rfl rfl)
theorem dX4_gets_92 : decode cX4_gets 92 = .ok (.iastore, 1) := dk_79 (dk_at dksX4_gets_3 20 rfl rfl)
theorem dX4_gets_93 : decode cX4_gets 93 = .ok (.iload 5, 2) := dk_21 5 (dk_at dksX4_gets_3 21 rfl rfl)
theorem dX4_gets_95 : decode cX4_gets 95 = .ok (.ifCond .ne 4, 3) := dk_154 0 4 (dk_at dksX4_gets_4 0 rfl rfl)
theorem dX4_gets_98 : decode cX4_gets 98 = .ok (.return_, 1) := dk_177 (dk_at dksX4_gets_4 3 rfl rfl)
theorem dX4_gets_99 : decode cX4_gets 99 = .ok (.aload_n 0, 1) := dk_42 (dk_at dksX4_gets_4 4 rfl rfl)
theorem dX4_gets_100 : decode cX4_gets 100 = .ok (.dup, 1) := dk_89 (dk_at dksX4_gets_4 5 rfl rfl)
theorem dX4_gets_101 : decode cX4_gets 101 = .ok (.getfield 300, 3) := dk_180 1 44 (dk_at dksX4_gets_4 6 rfl rfl)
theorem dX4_gets_104 : decode cX4_gets 104 = .ok (.iconst 1, 1) := dk_4 (dk_at dksX4_gets_4 9 rfl rfl)
theorem dX4_gets_105 : decode cX4_gets 105 = .ok (.iload_n 2, 1) := dk_28 (dk_at dksX4_gets_4 10 rfl rfl)
theorem dX4_gets_106 : decode cX4_gets 106 = .ok (.ishl, 1) := dk_120 (dk_at dksX4_gets_4 11 rfl rfl)
theorem dX4_gets_107 : decode cX4_gets 107 = .ok (.ior, 1) := dk_128 (dk_at dksX4_gets_4 12 rfl rfl)
theorem dX4_gets_108 : decode cX4_gets 108 = .ok (.putfield 300, 3) := dk_181 1 44 (dk_at dksX4_gets_4 13 rfl rfl)
theorem dX4_gets_111 : decode cX4_gets 111 = .ok (.aload_n 0, 1) := dk_42 (dk_at dksX4_gets_4 16 rfl rfl)
theorem dX4_gets_112 : decode cX4_gets 112 = .ok (.iload_n 1, 1) := dk_27 (dk_at dksX4_gets_4 17 rfl rfl)
theorem dX4_gets_113 : decode cX4_gets 113 = .ok (.iload_n 2, 1) := dk_28 (dk_at dksX4_gets_4 18 rfl rfl)
theorem dX4_gets_114 : decode cX4_gets 114 = .ok (.iload 5, 2) := dk_21 5 (dk_at dksX4_gets_4 19 rfl rfl)
theorem dX4_gets_116 : decode cX4_gets 116 = .ok (.invokevirtual 303, 3) := dk_182 1 47 (dk_at dksX4_gets_4 21 rfl rfl)
theorem dX4_gets_119 : decode cX4_gets 119 = .ok (.return_, 1) := dk_177 (dk_at dksX4_gets_5 0 rfl rfl)
abbrev cX4_falls : ByteArray := prog_12_method_49_code
def yX4_falls : MethodName := ⟨RX4, "falls", "(III)V"⟩
def dkwX4_falls_6 : List UInt8 := [79, 177]
abbrev dktX4_falls_6 : List UInt8 := dkwX4_falls_6 ++ []
def dkwX4_falls_5 : List UInt8 := [180, 0, 51, 27, 16, 37, 96, 28, 96, 42, 180, 0, 51, 27, 16, 37, 96, 28, 96, 46, 29, 96, 5, 112]
abbrev dktX4_falls_5 : List UInt8 := dkwX4_falls_5 ++ dktX4_falls_6
def dkwX4_falls_4 : List UInt8 := [21, 4, 92, 46, 21, 6, 96, 79, 42, 180, 0, 63, 21, 5, 92, 46, 29, 21, 6, 100, 96, 79, 42]
abbrev dktX4_falls_4 : List UInt8 := dkwX4_falls_4 ++ dktX4_falls_5
def dkwX4_falls_3 : List UInt8 := [96, 28, 96, 46, 154, 0, 11, 29, 4, 96, 5, 108, 167, 0, 6, 29, 5, 108, 54, 6, 42, 180, 0, 63]
abbrev dktX4_falls_3 : List UInt8 := dkwX4_falls_3 ++ dktX4_falls_4
def dkwX4_falls_2 : List UInt8 := [160, 0, 17, 42, 180, 0, 63, 21, 4, 92, 46, 29, 96, 79, 167, 0, 82, 42, 180, 0, 51, 27, 16, 37]
abbrev dktX4_falls_2 : List UInt8 := dkwX4_falls_2 ++ dktX4_falls_3
def dkwX4_falls_1 : List UInt8 := [54, 5, 21, 4, 2, 160, 0, 16, 42, 89, 180, 1, 37, 29, 96, 181, 1, 37, 167, 0, 102, 21, 5, 2]
abbrev dktX4_falls_1 : List UInt8 := dkwX4_falls_1 ++ dktX4_falls_2
def dkwX4_falls_0 : List UInt8 := [42, 180, 0, 51, 27, 16, 19, 96, 28, 96, 46, 54, 4, 42, 180, 0, 51, 27, 16, 28, 96, 28, 96, 46]
abbrev dktX4_falls_0 : List UInt8 := dkwX4_falls_0 ++ dktX4_falls_1
theorem dksX4_falls_0 : cX4_falls.data.toList.drop 0 = dktX4_falls_0 := by decide +kernel
theorem dksX4_falls_1 : cX4_falls.data.toList.drop 24 = dktX4_falls_1 := dk_seg dksX4_falls_0 24 rfl rfl
theorem dksX4_falls_2 : cX4_falls.data.toList.drop 48 = dktX4_falls_2 := dk_seg dksX4_falls_1 24 rfl rfl
theorem dksX4_falls_3 : cX4_falls.data.toList.drop 72 = dktX4_falls_3 := dk_seg dksX4_falls_2 24 rfl rfl
theorem dksX4_falls_4 : cX4_falls.data.toList.drop 96 = dktX4_falls_4 := dk_seg dksX4_falls_3 24 rfl rfl
theorem dksX4_falls_5 : cX4_falls.data.toList.drop 119 = dktX4_falls_5 := dk_seg dksX4_falls_4 23 rfl rfl
theorem dksX4_falls_6 : cX4_falls.data.toList.drop 143 = dktX4_falls_6 := dk_seg dksX4_falls_5 24 rfl rfl
theorem dX4_falls_0 : decode cX4_falls 0 = .ok (.aload_n 0, 1) := dk_42 (dk_at dksX4_falls_0 0 rfl rfl)
theorem dX4_falls_1 : decode cX4_falls 1 = .ok (.getfield 51, 3) := dk_180 0 51 (dk_at dksX4_falls_0 1 rfl rfl)
theorem dX4_falls_4 : decode cX4_falls 4 = .ok (.iload_n 1, 1) := dk_27 (dk_at dksX4_falls_0 4 rfl rfl)
theorem dX4_falls_5 : decode cX4_falls 5 = .ok (.bipush 19, 2) := dk_16 19 (dk_at dksX4_falls_0 5 rfl rfl)
theorem dX4_falls_7 : decode cX4_falls 7 = .ok (.iadd, 1) := dk_96 (dk_at dksX4_falls_0 7 rfl rfl)
theorem dX4_falls_8 : decode cX4_falls 8 = .ok (.iload_n 2, 1) := dk_28 (dk_at dksX4_falls_0 8 rfl rfl)
theorem dX4_falls_9 : decode cX4_falls 9 = .ok (.iadd, 1) := dk_96 (dk_at dksX4_falls_0 9 rfl rfl)
theorem dX4_falls_10 : decode cX4_falls 10 = .ok (.iaload, 1) := dk_46 (dk_at dksX4_falls_0 10 rfl rfl)
theorem dX4_falls_11 : decode cX4_falls 11 = .ok (.istore 4, 2) := dk_54 4 (dk_at dksX4_falls_0 11 rfl rfl)
theorem dX4_falls_13 : decode cX4_falls 13 = .ok (.aload_n 0, 1) := dk_42 (dk_at dksX4_falls_0 13 rfl rfl)
theorem dX4_falls_14 : decode cX4_falls 14 = .ok (.getfield 51, 3) := dk_180 0 51 (dk_at dksX4_falls_0 14 rfl rfl)
theorem dX4_falls_17 : decode cX4_falls 17 = .ok (.iload_n 1, 1) := dk_27 (dk_at dksX4_falls_0 17 rfl rfl)
theorem dX4_falls_18 : decode cX4_falls 18 = .ok (.bipush 28, 2) := dk_16 28 (dk_at dksX4_falls_0 18 rfl rfl)
theorem dX4_falls_20 : decode cX4_falls 20 = .ok (.iadd, 1) := dk_96 (dk_at dksX4_falls_0 20 rfl rfl)
theorem dX4_falls_21 : decode cX4_falls 21 = .ok (.iload_n 2, 1) := dk_28 (dk_at dksX4_falls_0 21 rfl rfl)
theorem dX4_falls_22 : decode cX4_falls 22 = .ok (.iadd, 1) := dk_96 (dk_at dksX4_falls_0 22 rfl rfl)
theorem dX4_falls_23 : decode cX4_falls 23 = .ok (.iaload, 1) := dk_46 (dk_at dksX4_falls_0 23 rfl rfl)
theorem dX4_falls_24 : decode cX4_falls 24 = .ok (.istore 5, 2) := dk_54 5 (dk_at dksX4_falls_1 0 rfl rfl)
theorem dX4_falls_26 : decode cX4_falls 26 = .ok (.iload 4, 2) := dk_21 4 (dk_at dksX4_falls_1 2 rfl rfl)
theorem dX4_falls_28 : decode cX4_falls 28 = .ok (.iconst (-1), 1) := dk_2 (dk_at dksX4_falls_1 4 rfl rfl)
theorem dX4_falls_29 : decode cX4_falls 29 = .ok (.if_icmp .ne 16, 3) := dk_160 0 16 (dk_at dksX4_falls_1 5 rfl rfl)
theorem dX4_falls_32 : decode cX4_falls 32 = .ok (.aload_n 0, 1) := dk_42 (dk_at dksX4_falls_1 8 rfl rfl)
theorem dX4_falls_33 : decode cX4_falls 33 = .ok (.dup, 1) := dk_89 (dk_at dksX4_falls_1 9 rfl rfl)
theorem dX4_falls_34 : decode cX4_falls 34 = .ok (.getfield 293, 3) := dk_180 1 37 (dk_at dksX4_falls_1 10 rfl rfl)
theorem dX4_falls_37 : decode cX4_falls 37 = .ok (.iload_n 3, 1) := dk_29 (dk_at dksX4_falls_1 13 rfl rfl)
theorem dX4_falls_38 : decode cX4_falls 38 = .ok (.iadd, 1) := dk_96 (dk_at dksX4_falls_1 14 rfl rfl)
theorem dX4_falls_39 : decode cX4_falls 39 = .ok (.putfield 293, 3) := dk_181 1 37 (dk_at dksX4_falls_1 15 rfl rfl)
theorem dX4_falls_42 : decode cX4_falls 42 = .ok (.goto 102, 3) := dk_167 0 102 (dk_at dksX4_falls_1 18 rfl rfl)
theorem dX4_falls_45 : decode cX4_falls 45 = .ok (.iload 5, 2) := dk_21 5 (dk_at dksX4_falls_1 21 rfl rfl)
theorem dX4_falls_47 : decode cX4_falls 47 = .ok (.iconst (-1), 1) := dk_2 (dk_at dksX4_falls_1 23 rfl rfl)
theorem dX4_falls_48 : decode cX4_falls 48 = .ok (.if_icmp .ne 17, 3) := dk_160 0 17 (dk_at dksX4_falls_2 0 rfl rfl)
theorem dX4_falls_51 : decode cX4_falls 51 = .ok (.aload_n 0, 1) := dk_42 (dk_at dksX4_falls_2 3 rfl rfl)
theorem dX4_falls_52 : decode cX4_falls 52 = .ok (.getfield 63, 3) := dk_180 0 63 (dk_at dksX4_falls_2 4 rfl rfl)
theorem dX4_falls_55 : decode cX4_falls 55 = .ok (.iload 4, 2) := dk_21 4 (dk_at dksX4_falls_2 7 rfl rfl)
theorem dX4_falls_57 : decode cX4_falls 57 = .ok (.dup2, 1) := dk_92 (dk_at dksX4_falls_2 9 rfl rfl)
theorem dX4_falls_58 : decode cX4_falls 58 = .ok (.iaload, 1) := dk_46 (dk_at dksX4_falls_2 10 rfl rfl)
theorem dX4_falls_59 : decode cX4_falls 59 = .ok (.iload_n 3, 1) := dk_29 (dk_at dksX4_falls_2 11 rfl rfl)
theorem dX4_falls_60 : decode cX4_falls 60 = .ok (.iadd, 1) := dk_96 (dk_at dksX4_falls_2 12 rfl rfl)
theorem dX4_falls_61 : decode cX4_falls 61 = .ok (.iastore, 1) := dk_79 (dk_at dksX4_falls_2 13 rfl rfl)
theorem dX4_falls_62 : decode cX4_falls 62 = .ok (.goto 82, 3) := dk_167 0 82 (dk_at dksX4_falls_2 14 rfl rfl)
theorem dX4_falls_65 : decode cX4_falls 65 = .ok (.aload_n 0, 1) := dk_42 (dk_at dksX4_falls_2 17 rfl rfl)
theorem dX4_falls_66 : decode cX4_falls 66 = .ok (.getfield 51, 3) := dk_180 0 51 (dk_at dksX4_falls_2 18 rfl rfl)
theorem dX4_falls_69 : decode cX4_falls 69 = .ok (.iload_n 1, 1) := dk_27 (dk_at dksX4_falls_2 21 rfl rfl)
theorem dX4_falls_70 : decode cX4_falls 70 = .ok (.bipush 37, 2) := dk_16 37 (dk_at dksX4_falls_2 22 rfl rfl)
theorem dX4_falls_72 : decode cX4_falls 72 = .ok (.iadd, 1) := dk_96 (dk_at dksX4_falls_3 0 rfl rfl)
theorem dX4_falls_73 : decode cX4_falls 73 = .ok (.iload_n 2, 1) := dk_28 (dk_at dksX4_falls_3 1 rfl rfl)
theorem dX4_falls_74 : decode cX4_falls 74 = .ok (.iadd, 1) := dk_96 (dk_at dksX4_falls_3 2 rfl rfl)
theorem dX4_falls_75 : decode cX4_falls 75 = .ok (.iaload, 1) := dk_46 (dk_at dksX4_falls_3 3 rfl rfl)
theorem dX4_falls_76 : decode cX4_falls 76 = .ok (.ifCond .ne 11, 3) := dk_154 0 11 (dk_at dksX4_falls_3 4 rfl rfl)
theorem dX4_falls_79 : decode cX4_falls 79 = .ok (.iload_n 3, 1) := dk_29 (dk_at dksX4_falls_3 7 rfl rfl)
theorem dX4_falls_80 : decode cX4_falls 80 = .ok (.iconst 1, 1) := dk_4 (dk_at dksX4_falls_3 8 rfl rfl)
theorem dX4_falls_81 : decode cX4_falls 81 = .ok (.iadd, 1) := dk_96 (dk_at dksX4_falls_3 9 rfl rfl)
theorem dX4_falls_82 : decode cX4_falls 82 = .ok (.iconst 2, 1) := dk_5 (dk_at dksX4_falls_3 10 rfl rfl)
theorem dX4_falls_83 : decode cX4_falls 83 = .ok (.idiv, 1) := dk_108 (dk_at dksX4_falls_3 11 rfl rfl)
theorem dX4_falls_84 : decode cX4_falls 84 = .ok (.goto 6, 3) := dk_167 0 6 (dk_at dksX4_falls_3 12 rfl rfl)
theorem dX4_falls_87 : decode cX4_falls 87 = .ok (.iload_n 3, 1) := dk_29 (dk_at dksX4_falls_3 15 rfl rfl)
theorem dX4_falls_88 : decode cX4_falls 88 = .ok (.iconst 2, 1) := dk_5 (dk_at dksX4_falls_3 16 rfl rfl)
theorem dX4_falls_89 : decode cX4_falls 89 = .ok (.idiv, 1) := dk_108 (dk_at dksX4_falls_3 17 rfl rfl)
theorem dX4_falls_90 : decode cX4_falls 90 = .ok (.istore 6, 2) := dk_54 6 (dk_at dksX4_falls_3 18 rfl rfl)
theorem dX4_falls_92 : decode cX4_falls 92 = .ok (.aload_n 0, 1) := dk_42 (dk_at dksX4_falls_3 20 rfl rfl)
theorem dX4_falls_93 : decode cX4_falls 93 = .ok (.getfield 63, 3) := dk_180 0 63 (dk_at dksX4_falls_3 21 rfl rfl)
theorem dX4_falls_96 : decode cX4_falls 96 = .ok (.iload 4, 2) := dk_21 4 (dk_at dksX4_falls_4 0 rfl rfl)
theorem dX4_falls_98 : decode cX4_falls 98 = .ok (.dup2, 1) := dk_92 (dk_at dksX4_falls_4 2 rfl rfl)
theorem dX4_falls_99 : decode cX4_falls 99 = .ok (.iaload, 1) := dk_46 (dk_at dksX4_falls_4 3 rfl rfl)
theorem dX4_falls_100 : decode cX4_falls 100 = .ok (.iload 6, 2) := dk_21 6 (dk_at dksX4_falls_4 4 rfl rfl)
theorem dX4_falls_102 : decode cX4_falls 102 = .ok (.iadd, 1) := dk_96 (dk_at dksX4_falls_4 6 rfl rfl)
theorem dX4_falls_103 : decode cX4_falls 103 = .ok (.iastore, 1) := dk_79 (dk_at dksX4_falls_4 7 rfl rfl)
theorem dX4_falls_104 : decode cX4_falls 104 = .ok (.aload_n 0, 1) := dk_42 (dk_at dksX4_falls_4 8 rfl rfl)
theorem dX4_falls_105 : decode cX4_falls 105 = .ok (.getfield 63, 3) := dk_180 0 63 (dk_at dksX4_falls_4 9 rfl rfl)
theorem dX4_falls_108 : decode cX4_falls 108 = .ok (.iload 5, 2) := dk_21 5 (dk_at dksX4_falls_4 12 rfl rfl)
theorem dX4_falls_110 : decode cX4_falls 110 = .ok (.dup2, 1) := dk_92 (dk_at dksX4_falls_4 14 rfl rfl)
theorem dX4_falls_111 : decode cX4_falls 111 = .ok (.iaload, 1) := dk_46 (dk_at dksX4_falls_4 15 rfl rfl)
theorem dX4_falls_112 : decode cX4_falls 112 = .ok (.iload_n 3, 1) := dk_29 (dk_at dksX4_falls_4 16 rfl rfl)
theorem dX4_falls_113 : decode cX4_falls 113 = .ok (.iload 6, 2) := dk_21 6 (dk_at dksX4_falls_4 17 rfl rfl)
theorem dX4_falls_115 : decode cX4_falls 115 = .ok (.isub, 1) := dk_100 (dk_at dksX4_falls_4 19 rfl rfl)
theorem dX4_falls_116 : decode cX4_falls 116 = .ok (.iadd, 1) := dk_96 (dk_at dksX4_falls_4 20 rfl rfl)
theorem dX4_falls_117 : decode cX4_falls 117 = .ok (.iastore, 1) := dk_79 (dk_at dksX4_falls_4 21 rfl rfl)
theorem dX4_falls_118 : decode cX4_falls 118 = .ok (.aload_n 0, 1) := dk_42 (dk_at dksX4_falls_4 22 rfl rfl)
theorem dX4_falls_119 : decode cX4_falls 119 = .ok (.getfield 51, 3) := dk_180 0 51 (dk_at dksX4_falls_5 0 rfl rfl)
theorem dX4_falls_122 : decode cX4_falls 122 = .ok (.iload_n 1, 1) := dk_27 (dk_at dksX4_falls_5 3 rfl rfl)
theorem dX4_falls_123 : decode cX4_falls 123 = .ok (.bipush 37, 2) := dk_16 37 (dk_at dksX4_falls_5 4 rfl rfl)
theorem dX4_falls_125 : decode cX4_falls 125 = .ok (.iadd, 1) := dk_96 (dk_at dksX4_falls_5 6 rfl rfl)
theorem dX4_falls_126 : decode cX4_falls 126 = .ok (.iload_n 2, 1) := dk_28 (dk_at dksX4_falls_5 7 rfl rfl)
theorem dX4_falls_127 : decode cX4_falls 127 = .ok (.iadd, 1) := dk_96 (dk_at dksX4_falls_5 8 rfl rfl)
theorem dX4_falls_128 : decode cX4_falls 128 = .ok (.aload_n 0, 1) := dk_42 (dk_at dksX4_falls_5 9 rfl rfl)
theorem dX4_falls_129 : decode cX4_falls 129 = .ok (.getfield 51, 3) := dk_180 0 51 (dk_at dksX4_falls_5 10 rfl rfl)
theorem dX4_falls_132 : decode cX4_falls 132 = .ok (.iload_n 1, 1) := dk_27 (dk_at dksX4_falls_5 13 rfl rfl)
theorem dX4_falls_133 : decode cX4_falls 133 = .ok (.bipush 37, 2) := dk_16 37 (dk_at dksX4_falls_5 14 rfl rfl)
theorem dX4_falls_135 : decode cX4_falls 135 = .ok (.iadd, 1) := dk_96 (dk_at dksX4_falls_5 16 rfl rfl)
theorem dX4_falls_136 : decode cX4_falls 136 = .ok (.iload_n 2, 1) := dk_28 (dk_at dksX4_falls_5 17 rfl rfl)
theorem dX4_falls_137 : decode cX4_falls 137 = .ok (.iadd, 1) := dk_96 (dk_at dksX4_falls_5 18 rfl rfl)
theorem dX4_falls_138 : decode cX4_falls 138 = .ok (.iaload, 1) := dk_46 (dk_at dksX4_falls_5 19 rfl rfl)
theorem dX4_falls_139 : decode cX4_falls 139 = .ok (.iload_n 3, 1) := dk_29 (dk_at dksX4_falls_5 20 rfl rfl)
theorem dX4_falls_140 : decode cX4_falls 140 = .ok (.iadd, 1) := dk_96 (dk_at dksX4_falls_5 21 rfl rfl)
theorem dX4_falls_141 : decode cX4_falls 141 = .ok (.iconst 2, 1) := dk_5 (dk_at dksX4_falls_5 22 rfl rfl)
theorem dX4_falls_142 : decode cX4_falls 142 = .ok (.irem, 1) := dk_112 (dk_at dksX4_falls_5 23 rfl rfl)
theorem dX4_falls_143 : decode cX4_falls 143 = .ok (.iastore, 1) := dk_79 (dk_at dksX4_falls_6 0 rfl rfl)
theorem dX4_falls_144 : decode cX4_falls 144 = .ok (.return_, 1) := dk_177 (dk_at dksX4_falls_6 1 rfl rfl)
abbrev cX4_bounded : ByteArray := prog_12_method_5_code
def yX4_bounded : MethodName := ⟨RX4, "bounded", "(III)I"⟩
def dkwX4_bounded_0 : List UInt8 := [26, 27, 162, 0, 7, 27, 167, 0, 13, 26, 28, 164, 0, 7, 28, 167, 0, 4, 26, 172]
abbrev dktX4_bounded_0 : List UInt8 := dkwX4_bounded_0 ++ []
theorem dksX4_bounded_0 : cX4_bounded.data.toList.drop 0 = dktX4_bounded_0 := by decide +kernel
theorem dX4_bounded_0 : decode cX4_bounded 0 = .ok (.iload_n 0, 1) := dk_26 (dk_at dksX4_bounded_0 0 rfl rfl)
theorem dX4_bounded_1 : decode cX4_bounded 1 = .ok (.iload_n 1, 1) := dk_27 (dk_at dksX4_bounded_0 1 rfl rfl)
theorem dX4_bounded_2 : decode cX4_bounded 2 = .ok (.if_icmp .ge 7, 3) := dk_162 0 7 (dk_at dksX4_bounded_0 2 rfl rfl)
theorem dX4_bounded_5 : decode cX4_bounded 5 = .ok (.iload_n 1, 1) := dk_27 (dk_at dksX4_bounded_0 5 rfl rfl)
theorem dX4_bounded_6 : decode cX4_bounded 6 = .ok (.goto 13, 3) := dk_167 0 13 (dk_at dksX4_bounded_0 6 rfl rfl)
theorem dX4_bounded_9 : decode cX4_bounded 9 = .ok (.iload_n 0, 1) := dk_26 (dk_at dksX4_bounded_0 9 rfl rfl)
theorem dX4_bounded_10 : decode cX4_bounded 10 = .ok (.iload_n 2, 1) := dk_28 (dk_at dksX4_bounded_0 10 rfl rfl)
theorem dX4_bounded_11 : decode cX4_bounded 11 = .ok (.if_icmp .le 7, 3) := dk_164 0 7 (dk_at dksX4_bounded_0 11 rfl rfl)
theorem dX4_bounded_14 : decode cX4_bounded 14 = .ok (.iload_n 2, 1) := dk_28 (dk_at dksX4_bounded_0 14 rfl rfl)
theorem dX4_bounded_15 : decode cX4_bounded 15 = .ok (.goto 4, 3) := dk_167 0 4 (dk_at dksX4_bounded_0 15 rfl rfl)
theorem dX4_bounded_18 : decode cX4_bounded 18 = .ok (.iload_n 0, 1) := dk_26 (dk_at dksX4_bounded_0 18 rfl rfl)
theorem dX4_bounded_19 : decode cX4_bounded 19 = .ok (.ireturn, 1) := dk_172 (dk_at dksX4_bounded_0 19 rfl rfl)
abbrev cX4_lead : ByteArray := prog_12_method_71_code
def yX4_lead : MethodName := ⟨RX4, "lead", "(II)Z"⟩
def dkwX4_lead_4 : List UInt8 := [3, 27, 28, 182, 1, 113, 4, 172]
abbrev dktX4_lead_4 : List UInt8 := dkwX4_lead_4 ++ []
def dkwX4_lead_3 : List UInt8 := [46, 28, 160, 0, 17, 42, 4, 182, 1, 107, 158, 0, 7, 4, 167, 0, 4, 3, 172, 42, 182, 1, 110, 42]
abbrev dktX4_lead_3 : List UInt8 := dkwX4_lead_3 ++ dktX4_lead_4
def dkwX4_lead_2 : List UInt8 := [164, 0, 29, 42, 180, 0, 51, 16, 28, 27, 96, 46, 2, 160, 0, 30, 42, 180, 0, 51, 16, 19, 27, 96]
abbrev dktX4_lead_2 : List UInt8 := dkwX4_lead_2 ++ dktX4_lead_3
def dkwX4_lead_1 : List UInt8 := [162, 0, 7, 4, 167, 0, 4, 3, 4, 182, 1, 6, 154, 0, 5, 3, 172, 28, 2, 159, 0, 8, 28, 27]
abbrev dktX4_lead_1 : List UInt8 := dkwX4_lead_1 ++ dktX4_lead_2
def dkwX4_lead_0 : List UInt8 := [42, 3, 181, 0, 114, 42, 27, 182, 1, 95, 153, 0, 29, 42, 28, 2, 161, 0, 15, 28, 42, 180, 1, 13]
abbrev dktX4_lead_0 : List UInt8 := dkwX4_lead_0 ++ dktX4_lead_1
theorem dksX4_lead_0 : cX4_lead.data.toList.drop 0 = dktX4_lead_0 := by decide +kernel
theorem dksX4_lead_1 : cX4_lead.data.toList.drop 24 = dktX4_lead_1 := dk_seg dksX4_lead_0 24 rfl rfl
theorem dksX4_lead_2 : cX4_lead.data.toList.drop 48 = dktX4_lead_2 := dk_seg dksX4_lead_1 24 rfl rfl
theorem dksX4_lead_3 : cX4_lead.data.toList.drop 72 = dktX4_lead_3 := dk_seg dksX4_lead_2 24 rfl rfl
theorem dksX4_lead_4 : cX4_lead.data.toList.drop 96 = dktX4_lead_4 := dk_seg dksX4_lead_3 24 rfl rfl
theorem dX4_lead_0 : decode cX4_lead 0 = .ok (.aload_n 0, 1) := dk_42 (dk_at dksX4_lead_0 0 rfl rfl)
theorem dX4_lead_1 : decode cX4_lead 1 = .ok (.iconst 0, 1) := dk_3 (dk_at dksX4_lead_0 1 rfl rfl)
theorem dX4_lead_2 : decode cX4_lead 2 = .ok (.putfield 114, 3) := dk_181 0 114 (dk_at dksX4_lead_0 2 rfl rfl)
theorem dX4_lead_5 : decode cX4_lead 5 = .ok (.aload_n 0, 1) := dk_42 (dk_at dksX4_lead_0 5 rfl rfl)
theorem dX4_lead_6 : decode cX4_lead 6 = .ok (.iload_n 1, 1) := dk_27 (dk_at dksX4_lead_0 6 rfl rfl)
theorem dX4_lead_7 : decode cX4_lead 7 = .ok (.invokevirtual 351, 3) := dk_182 1 95 (dk_at dksX4_lead_0 7 rfl rfl)
theorem dX4_lead_10 : decode cX4_lead 10 = .ok (.ifCond .eq 29, 3) := dk_153 0 29 (dk_at dksX4_lead_0 10 rfl rfl)
theorem dX4_lead_13 : decode cX4_lead 13 = .ok (.aload_n 0, 1) := dk_42 (dk_at dksX4_lead_0 13 rfl rfl)
theorem dX4_lead_14 : decode cX4_lead 14 = .ok (.iload_n 2, 1) := dk_28 (dk_at dksX4_lead_0 14 rfl rfl)
theorem dX4_lead_15 : decode cX4_lead 15 = .ok (.iconst (-1), 1) := dk_2 (dk_at dksX4_lead_0 15 rfl rfl)
theorem dX4_lead_16 : decode cX4_lead 16 = .ok (.if_icmp .lt 15, 3) := dk_161 0 15 (dk_at dksX4_lead_0 16 rfl rfl)
theorem dX4_lead_19 : decode cX4_lead 19 = .ok (.iload_n 2, 1) := dk_28 (dk_at dksX4_lead_0 19 rfl rfl)
theorem dX4_lead_20 : decode cX4_lead 20 = .ok (.aload_n 0, 1) := dk_42 (dk_at dksX4_lead_0 20 rfl rfl)
theorem dX4_lead_21 : decode cX4_lead 21 = .ok (.getfield 269, 3) := dk_180 1 13 (dk_at dksX4_lead_0 21 rfl rfl)
theorem dX4_lead_24 : decode cX4_lead 24 = .ok (.if_icmp .ge 7, 3) := dk_162 0 7 (dk_at dksX4_lead_1 0 rfl rfl)
theorem dX4_lead_27 : decode cX4_lead 27 = .ok (.iconst 1, 1) := dk_4 (dk_at dksX4_lead_1 3 rfl rfl)
theorem dX4_lead_28 : decode cX4_lead 28 = .ok (.goto 4, 3) := dk_167 0 4 (dk_at dksX4_lead_1 4 rfl rfl)
theorem dX4_lead_31 : decode cX4_lead 31 = .ok (.iconst 0, 1) := dk_3 (dk_at dksX4_lead_1 7 rfl rfl)
theorem dX4_lead_32 : decode cX4_lead 32 = .ok (.iconst 1, 1) := dk_4 (dk_at dksX4_lead_1 8 rfl rfl)
theorem dX4_lead_33 : decode cX4_lead 33 = .ok (.invokevirtual 262, 3) := dk_182 1 6 (dk_at dksX4_lead_1 9 rfl rfl)
theorem dX4_lead_36 : decode cX4_lead 36 = .ok (.ifCond .ne 5, 3) := dk_154 0 5 (dk_at dksX4_lead_1 12 rfl rfl)
theorem dX4_lead_39 : decode cX4_lead 39 = .ok (.iconst 0, 1) := dk_3 (dk_at dksX4_lead_1 15 rfl rfl)
theorem dX4_lead_40 : decode cX4_lead 40 = .ok (.ireturn, 1) := dk_172 (dk_at dksX4_lead_1 16 rfl rfl)
theorem dX4_lead_41 : decode cX4_lead 41 = .ok (.iload_n 2, 1) := dk_28 (dk_at dksX4_lead_1 17 rfl rfl)
theorem dX4_lead_42 : decode cX4_lead 42 = .ok (.iconst (-1), 1) := dk_2 (dk_at dksX4_lead_1 18 rfl rfl)
theorem dX4_lead_43 : decode cX4_lead 43 = .ok (.if_icmp .eq 8, 3) := dk_159 0 8 (dk_at dksX4_lead_1 19 rfl rfl)
theorem dX4_lead_46 : decode cX4_lead 46 = .ok (.iload_n 2, 1) := dk_28 (dk_at dksX4_lead_1 22 rfl rfl)
theorem dX4_lead_47 : decode cX4_lead 47 = .ok (.iload_n 1, 1) := dk_27 (dk_at dksX4_lead_1 23 rfl rfl)
theorem dX4_lead_48 : decode cX4_lead 48 = .ok (.if_icmp .le 29, 3) := dk_164 0 29 (dk_at dksX4_lead_2 0 rfl rfl)
theorem dX4_lead_51 : decode cX4_lead 51 = .ok (.aload_n 0, 1) := dk_42 (dk_at dksX4_lead_2 3 rfl rfl)
theorem dX4_lead_52 : decode cX4_lead 52 = .ok (.getfield 51, 3) := dk_180 0 51 (dk_at dksX4_lead_2 4 rfl rfl)
theorem dX4_lead_55 : decode cX4_lead 55 = .ok (.bipush 28, 2) := dk_16 28 (dk_at dksX4_lead_2 7 rfl rfl)
theorem dX4_lead_57 : decode cX4_lead 57 = .ok (.iload_n 1, 1) := dk_27 (dk_at dksX4_lead_2 9 rfl rfl)
theorem dX4_lead_58 : decode cX4_lead 58 = .ok (.iadd, 1) := dk_96 (dk_at dksX4_lead_2 10 rfl rfl)
theorem dX4_lead_59 : decode cX4_lead 59 = .ok (.iaload, 1) := dk_46 (dk_at dksX4_lead_2 11 rfl rfl)
theorem dX4_lead_60 : decode cX4_lead 60 = .ok (.iconst (-1), 1) := dk_2 (dk_at dksX4_lead_2 12 rfl rfl)
theorem dX4_lead_61 : decode cX4_lead 61 = .ok (.if_icmp .ne 30, 3) := dk_160 0 30 (dk_at dksX4_lead_2 13 rfl rfl)
theorem dX4_lead_64 : decode cX4_lead 64 = .ok (.aload_n 0, 1) := dk_42 (dk_at dksX4_lead_2 16 rfl rfl)
theorem dX4_lead_65 : decode cX4_lead 65 = .ok (.getfield 51, 3) := dk_180 0 51 (dk_at dksX4_lead_2 17 rfl rfl)
theorem dX4_lead_68 : decode cX4_lead 68 = .ok (.bipush 19, 2) := dk_16 19 (dk_at dksX4_lead_2 20 rfl rfl)
theorem dX4_lead_70 : decode cX4_lead 70 = .ok (.iload_n 1, 1) := dk_27 (dk_at dksX4_lead_2 22 rfl rfl)
theorem dX4_lead_71 : decode cX4_lead 71 = .ok (.iadd, 1) := dk_96 (dk_at dksX4_lead_2 23 rfl rfl)
theorem dX4_lead_72 : decode cX4_lead 72 = .ok (.iaload, 1) := dk_46 (dk_at dksX4_lead_3 0 rfl rfl)
theorem dX4_lead_73 : decode cX4_lead 73 = .ok (.iload_n 2, 1) := dk_28 (dk_at dksX4_lead_3 1 rfl rfl)
theorem dX4_lead_74 : decode cX4_lead 74 = .ok (.if_icmp .ne 17, 3) := dk_160 0 17 (dk_at dksX4_lead_3 2 rfl rfl)
theorem dX4_lead_77 : decode cX4_lead 77 = .ok (.aload_n 0, 1) := dk_42 (dk_at dksX4_lead_3 5 rfl rfl)
theorem dX4_lead_78 : decode cX4_lead 78 = .ok (.iconst 1, 1) := dk_4 (dk_at dksX4_lead_3 6 rfl rfl)
theorem dX4_lead_79 : decode cX4_lead 79 = .ok (.invokevirtual 363, 3) := dk_182 1 107 (dk_at dksX4_lead_3 7 rfl rfl)
theorem dX4_lead_82 : decode cX4_lead 82 = .ok (.ifCond .le 7, 3) := dk_158 0 7 (dk_at dksX4_lead_3 10 rfl rfl)
theorem dX4_lead_85 : decode cX4_lead 85 = .ok (.iconst 1, 1) := dk_4 (dk_at dksX4_lead_3 13 rfl rfl)
theorem dX4_lead_86 : decode cX4_lead 86 = .ok (.goto 4, 3) := dk_167 0 4 (dk_at dksX4_lead_3 14 rfl rfl)
theorem dX4_lead_89 : decode cX4_lead 89 = .ok (.iconst 0, 1) := dk_3 (dk_at dksX4_lead_3 17 rfl rfl)
theorem dX4_lead_90 : decode cX4_lead 90 = .ok (.ireturn, 1) := dk_172 (dk_at dksX4_lead_3 18 rfl rfl)
theorem dX4_lead_91 : decode cX4_lead 91 = .ok (.aload_n 0, 1) := dk_42 (dk_at dksX4_lead_3 19 rfl rfl)
theorem dX4_lead_92 : decode cX4_lead 92 = .ok (.invokevirtual 366, 3) := dk_182 1 110 (dk_at dksX4_lead_3 20 rfl rfl)
theorem dX4_lead_95 : decode cX4_lead 95 = .ok (.aload_n 0, 1) := dk_42 (dk_at dksX4_lead_3 23 rfl rfl)
theorem dX4_lead_96 : decode cX4_lead 96 = .ok (.iconst 0, 1) := dk_3 (dk_at dksX4_lead_4 0 rfl rfl)
theorem dX4_lead_97 : decode cX4_lead 97 = .ok (.iload_n 1, 1) := dk_27 (dk_at dksX4_lead_4 1 rfl rfl)
theorem dX4_lead_98 : decode cX4_lead 98 = .ok (.iload_n 2, 1) := dk_28 (dk_at dksX4_lead_4 2 rfl rfl)
theorem dX4_lead_99 : decode cX4_lead 99 = .ok (.invokevirtual 369, 3) := dk_182 1 113 (dk_at dksX4_lead_4 3 rfl rfl)
theorem dX4_lead_102 : decode cX4_lead 102 = .ok (.iconst 1, 1) := dk_4 (dk_at dksX4_lead_4 6 rfl rfl)
theorem dX4_lead_103 : decode cX4_lead 103 = .ok (.ireturn, 1) := dk_172 (dk_at dksX4_lead_4 7 rfl rfl)
abbrev cX4_leads : ByteArray := prog_12_method_70_code
def yX4_leads : MethodName := ⟨RX4, "leads", "(III)V"⟩
def dkwX4_leads_1 : List UInt8 := [42, 180, 0, 51, 27, 16, 37, 96, 28, 96, 3, 79, 177]
abbrev dktX4_leads_1 : List UInt8 := dkwX4_leads_1 ++ []
def dkwX4_leads_0 : List UInt8 := [42, 180, 0, 51, 27, 16, 19, 96, 28, 96, 29, 79, 42, 180, 0, 51, 27, 16, 28, 96, 28, 96, 2, 79]
abbrev dktX4_leads_0 : List UInt8 := dkwX4_leads_0 ++ dktX4_leads_1
theorem dksX4_leads_0 : cX4_leads.data.toList.drop 0 = dktX4_leads_0 := by decide +kernel
theorem dksX4_leads_1 : cX4_leads.data.toList.drop 24 = dktX4_leads_1 := dk_seg dksX4_leads_0 24 rfl rfl
theorem dX4_leads_0 : decode cX4_leads 0 = .ok (.aload_n 0, 1) := dk_42 (dk_at dksX4_leads_0 0 rfl rfl)
theorem dX4_leads_1 : decode cX4_leads 1 = .ok (.getfield 51, 3) := dk_180 0 51 (dk_at dksX4_leads_0 1 rfl rfl)
theorem dX4_leads_4 : decode cX4_leads 4 = .ok (.iload_n 1, 1) := dk_27 (dk_at dksX4_leads_0 4 rfl rfl)
theorem dX4_leads_5 : decode cX4_leads 5 = .ok (.bipush 19, 2) := dk_16 19 (dk_at dksX4_leads_0 5 rfl rfl)
theorem dX4_leads_7 : decode cX4_leads 7 = .ok (.iadd, 1) := dk_96 (dk_at dksX4_leads_0 7 rfl rfl)
theorem dX4_leads_8 : decode cX4_leads 8 = .ok (.iload_n 2, 1) := dk_28 (dk_at dksX4_leads_0 8 rfl rfl)
theorem dX4_leads_9 : decode cX4_leads 9 = .ok (.iadd, 1) := dk_96 (dk_at dksX4_leads_0 9 rfl rfl)
theorem dX4_leads_10 : decode cX4_leads 10 = .ok (.iload_n 3, 1) := dk_29 (dk_at dksX4_leads_0 10 rfl rfl)
theorem dX4_leads_11 : decode cX4_leads 11 = .ok (.iastore, 1) := dk_79 (dk_at dksX4_leads_0 11 rfl rfl)
theorem dX4_leads_12 : decode cX4_leads 12 = .ok (.aload_n 0, 1) := dk_42 (dk_at dksX4_leads_0 12 rfl rfl)
theorem dX4_leads_13 : decode cX4_leads 13 = .ok (.getfield 51, 3) := dk_180 0 51 (dk_at dksX4_leads_0 13 rfl rfl)
theorem dX4_leads_16 : decode cX4_leads 16 = .ok (.iload_n 1, 1) := dk_27 (dk_at dksX4_leads_0 16 rfl rfl)
theorem dX4_leads_17 : decode cX4_leads 17 = .ok (.bipush 28, 2) := dk_16 28 (dk_at dksX4_leads_0 17 rfl rfl)
theorem dX4_leads_19 : decode cX4_leads 19 = .ok (.iadd, 1) := dk_96 (dk_at dksX4_leads_0 19 rfl rfl)
theorem dX4_leads_20 : decode cX4_leads 20 = .ok (.iload_n 2, 1) := dk_28 (dk_at dksX4_leads_0 20 rfl rfl)
theorem dX4_leads_21 : decode cX4_leads 21 = .ok (.iadd, 1) := dk_96 (dk_at dksX4_leads_0 21 rfl rfl)
theorem dX4_leads_22 : decode cX4_leads 22 = .ok (.iconst (-1), 1) := dk_2 (dk_at dksX4_leads_0 22 rfl rfl)
theorem dX4_leads_23 : decode cX4_leads 23 = .ok (.iastore, 1) := dk_79 (dk_at dksX4_leads_0 23 rfl rfl)
theorem dX4_leads_24 : decode cX4_leads 24 = .ok (.aload_n 0, 1) := dk_42 (dk_at dksX4_leads_1 0 rfl rfl)
theorem dX4_leads_25 : decode cX4_leads 25 = .ok (.getfield 51, 3) := dk_180 0 51 (dk_at dksX4_leads_1 1 rfl rfl)
theorem dX4_leads_28 : decode cX4_leads 28 = .ok (.iload_n 1, 1) := dk_27 (dk_at dksX4_leads_1 4 rfl rfl)
theorem dX4_leads_29 : decode cX4_leads 29 = .ok (.bipush 37, 2) := dk_16 37 (dk_at dksX4_leads_1 5 rfl rfl)
theorem dX4_leads_31 : decode cX4_leads 31 = .ok (.iadd, 1) := dk_96 (dk_at dksX4_leads_1 7 rfl rfl)
theorem dX4_leads_32 : decode cX4_leads 32 = .ok (.iload_n 2, 1) := dk_28 (dk_at dksX4_leads_1 8 rfl rfl)
theorem dX4_leads_33 : decode cX4_leads 33 = .ok (.iadd, 1) := dk_96 (dk_at dksX4_leads_1 9 rfl rfl)
theorem dX4_leads_34 : decode cX4_leads 34 = .ok (.iconst 0, 1) := dk_3 (dk_at dksX4_leads_1 10 rfl rfl)
theorem dX4_leads_35 : decode cX4_leads 35 = .ok (.iastore, 1) := dk_79 (dk_at dksX4_leads_1 11 rfl rfl)
theorem dX4_leads_36 : decode cX4_leads 36 = .ok (.return_, 1) := dk_177 (dk_at dksX4_leads_1 12 rfl rfl)
abbrev cX4_plug : ByteArray := prog_12_method_72_code
def yX4_plug : MethodName := ⟨RX4, "plug", "(IZ)Z"⟩
def dkwX4_plug_3 : List UInt8 := [167, 0, 4, 3, 79, 4, 172]
abbrev dktX4_plug_3 : List UInt8 := dkwX4_plug_3 ++ []
def dkwX4_plug_2 : List UInt8 := [167, 0, 4, 3, 172, 42, 182, 1, 110, 42, 180, 0, 51, 16, 55, 27, 96, 28, 153, 0, 7, 4]
abbrev dktX4_plug_2 : List UInt8 := dkwX4_plug_2 ++ dktX4_plug_3
def dkwX4_plug_1 : List UInt8 := [4, 160, 0, 7, 4, 167, 0, 4, 3, 28, 160, 0, 17, 42, 4, 182, 1, 107, 158, 0, 7, 4]
abbrev dktX4_plug_1 : List UInt8 := dkwX4_plug_1 ++ dktX4_plug_2
def dkwX4_plug_0 : List UInt8 := [42, 3, 181, 0, 114, 42, 27, 182, 1, 95, 154, 0, 5, 3, 172, 42, 180, 0, 51, 16, 55, 27, 96, 46]
abbrev dktX4_plug_0 : List UInt8 := dkwX4_plug_0 ++ dktX4_plug_1
theorem dksX4_plug_0 : cX4_plug.data.toList.drop 0 = dktX4_plug_0 := by decide +kernel
theorem dksX4_plug_1 : cX4_plug.data.toList.drop 24 = dktX4_plug_1 := dk_seg dksX4_plug_0 24 rfl rfl
theorem dksX4_plug_2 : cX4_plug.data.toList.drop 46 = dktX4_plug_2 := dk_seg dksX4_plug_1 22 rfl rfl
theorem dksX4_plug_3 : cX4_plug.data.toList.drop 68 = dktX4_plug_3 := dk_seg dksX4_plug_2 22 rfl rfl
theorem dX4_plug_0 : decode cX4_plug 0 = .ok (.aload_n 0, 1) := dk_42 (dk_at dksX4_plug_0 0 rfl rfl)
theorem dX4_plug_1 : decode cX4_plug 1 = .ok (.iconst 0, 1) := dk_3 (dk_at dksX4_plug_0 1 rfl rfl)
theorem dX4_plug_2 : decode cX4_plug 2 = .ok (.putfield 114, 3) := dk_181 0 114 (dk_at dksX4_plug_0 2 rfl rfl)
theorem dX4_plug_5 : decode cX4_plug 5 = .ok (.aload_n 0, 1) := dk_42 (dk_at dksX4_plug_0 5 rfl rfl)
theorem dX4_plug_6 : decode cX4_plug 6 = .ok (.iload_n 1, 1) := dk_27 (dk_at dksX4_plug_0 6 rfl rfl)
theorem dX4_plug_7 : decode cX4_plug 7 = .ok (.invokevirtual 351, 3) := dk_182 1 95 (dk_at dksX4_plug_0 7 rfl rfl)
theorem dX4_plug_10 : decode cX4_plug 10 = .ok (.ifCond .ne 5, 3) := dk_154 0 5 (dk_at dksX4_plug_0 10 rfl rfl)
theorem dX4_plug_13 : decode cX4_plug 13 = .ok (.iconst 0, 1) := dk_3 (dk_at dksX4_plug_0 13 rfl rfl)
theorem dX4_plug_14 : decode cX4_plug 14 = .ok (.ireturn, 1) := dk_172 (dk_at dksX4_plug_0 14 rfl rfl)
theorem dX4_plug_15 : decode cX4_plug 15 = .ok (.aload_n 0, 1) := dk_42 (dk_at dksX4_plug_0 15 rfl rfl)
theorem dX4_plug_16 : decode cX4_plug 16 = .ok (.getfield 51, 3) := dk_180 0 51 (dk_at dksX4_plug_0 16 rfl rfl)
theorem dX4_plug_19 : decode cX4_plug 19 = .ok (.bipush 55, 2) := dk_16 55 (dk_at dksX4_plug_0 19 rfl rfl)
theorem dX4_plug_21 : decode cX4_plug 21 = .ok (.iload_n 1, 1) := dk_27 (dk_at dksX4_plug_0 21 rfl rfl)
theorem dX4_plug_22 : decode cX4_plug 22 = .ok (.iadd, 1) := dk_96 (dk_at dksX4_plug_0 22 rfl rfl)
theorem dX4_plug_23 : decode cX4_plug 23 = .ok (.iaload, 1) := dk_46 (dk_at dksX4_plug_0 23 rfl rfl)
theorem dX4_plug_24 : decode cX4_plug 24 = .ok (.iconst 1, 1) := dk_4 (dk_at dksX4_plug_1 0 rfl rfl)
theorem dX4_plug_25 : decode cX4_plug 25 = .ok (.if_icmp .ne 7, 3) := dk_160 0 7 (dk_at dksX4_plug_1 1 rfl rfl)
theorem dX4_plug_28 : decode cX4_plug 28 = .ok (.iconst 1, 1) := dk_4 (dk_at dksX4_plug_1 4 rfl rfl)
theorem dX4_plug_29 : decode cX4_plug 29 = .ok (.goto 4, 3) := dk_167 0 4 (dk_at dksX4_plug_1 5 rfl rfl)
theorem dX4_plug_32 : decode cX4_plug 32 = .ok (.iconst 0, 1) := dk_3 (dk_at dksX4_plug_1 8 rfl rfl)
theorem dX4_plug_33 : decode cX4_plug 33 = .ok (.iload_n 2, 1) := dk_28 (dk_at dksX4_plug_1 9 rfl rfl)
theorem dX4_plug_34 : decode cX4_plug 34 = .ok (.if_icmp .ne 17, 3) := dk_160 0 17 (dk_at dksX4_plug_1 10 rfl rfl)
theorem dX4_plug_37 : decode cX4_plug 37 = .ok (.aload_n 0, 1) := dk_42 (dk_at dksX4_plug_1 13 rfl rfl)
theorem dX4_plug_38 : decode cX4_plug 38 = .ok (.iconst 1, 1) := dk_4 (dk_at dksX4_plug_1 14 rfl rfl)
theorem dX4_plug_39 : decode cX4_plug 39 = .ok (.invokevirtual 363, 3) := dk_182 1 107 (dk_at dksX4_plug_1 15 rfl rfl)
theorem dX4_plug_42 : decode cX4_plug 42 = .ok (.ifCond .le 7, 3) := dk_158 0 7 (dk_at dksX4_plug_1 18 rfl rfl)
theorem dX4_plug_45 : decode cX4_plug 45 = .ok (.iconst 1, 1) := dk_4 (dk_at dksX4_plug_1 21 rfl rfl)
theorem dX4_plug_46 : decode cX4_plug 46 = .ok (.goto 4, 3) := dk_167 0 4 (dk_at dksX4_plug_2 0 rfl rfl)
theorem dX4_plug_49 : decode cX4_plug 49 = .ok (.iconst 0, 1) := dk_3 (dk_at dksX4_plug_2 3 rfl rfl)
theorem dX4_plug_50 : decode cX4_plug 50 = .ok (.ireturn, 1) := dk_172 (dk_at dksX4_plug_2 4 rfl rfl)
theorem dX4_plug_51 : decode cX4_plug 51 = .ok (.aload_n 0, 1) := dk_42 (dk_at dksX4_plug_2 5 rfl rfl)
theorem dX4_plug_52 : decode cX4_plug 52 = .ok (.invokevirtual 366, 3) := dk_182 1 110 (dk_at dksX4_plug_2 6 rfl rfl)
theorem dX4_plug_55 : decode cX4_plug 55 = .ok (.aload_n 0, 1) := dk_42 (dk_at dksX4_plug_2 9 rfl rfl)
theorem dX4_plug_56 : decode cX4_plug 56 = .ok (.getfield 51, 3) := dk_180 0 51 (dk_at dksX4_plug_2 10 rfl rfl)
theorem dX4_plug_59 : decode cX4_plug 59 = .ok (.bipush 55, 2) := dk_16 55 (dk_at dksX4_plug_2 13 rfl rfl)
theorem dX4_plug_61 : decode cX4_plug 61 = .ok (.iload_n 1, 1) := dk_27 (dk_at dksX4_plug_2 15 rfl rfl)
theorem dX4_plug_62 : decode cX4_plug 62 = .ok (.iadd, 1) := dk_96 (dk_at dksX4_plug_2 16 rfl rfl)
theorem dX4_plug_63 : decode cX4_plug 63 = .ok (.iload_n 2, 1) := dk_28 (dk_at dksX4_plug_2 17 rfl rfl)
theorem dX4_plug_64 : decode cX4_plug 64 = .ok (.ifCond .eq 7, 3) := dk_153 0 7 (dk_at dksX4_plug_2 18 rfl rfl)
theorem dX4_plug_67 : decode cX4_plug 67 = .ok (.iconst 1, 1) := dk_4 (dk_at dksX4_plug_2 21 rfl rfl)
theorem dX4_plug_68 : decode cX4_plug 68 = .ok (.goto 4, 3) := dk_167 0 4 (dk_at dksX4_plug_3 0 rfl rfl)
theorem dX4_plug_71 : decode cX4_plug 71 = .ok (.iconst 0, 1) := dk_3 (dk_at dksX4_plug_3 3 rfl rfl)
theorem dX4_plug_72 : decode cX4_plug 72 = .ok (.iastore, 1) := dk_79 (dk_at dksX4_plug_3 4 rfl rfl)
theorem dX4_plug_73 : decode cX4_plug 73 = .ok (.iconst 1, 1) := dk_4 (dk_at dksX4_plug_3 5 rfl rfl)
theorem dX4_plug_74 : decode cX4_plug 74 = .ok (.ireturn, 1) := dk_172 (dk_at dksX4_plug_3 6 rfl rfl)
abbrev cX4_pour : ByteArray := prog_12_method_74_code
def yX4_pour : MethodName := ⟨RX4, "pour", "(II)I"⟩
def dkwX4_pour_1 : List UInt8 := [154, 0, 9, 42, 4, 182, 1, 107, 172, 42, 182, 1, 110, 42, 3, 27, 28, 182, 1, 116, 172]
abbrev dktX4_pour_1 : List UInt8 := dkwX4_pour_1 ++ []
def dkwX4_pour_0 : List UInt8 := [42, 3, 181, 0, 114, 42, 27, 182, 1, 95, 154, 0, 5, 3, 172, 28, 4, 16, 50, 184, 1, 76]
abbrev dktX4_pour_0 : List UInt8 := dkwX4_pour_0 ++ dktX4_pour_1
theorem dksX4_pour_0 : cX4_pour.data.toList.drop 0 = dktX4_pour_0 := by decide +kernel
theorem dksX4_pour_1 : cX4_pour.data.toList.drop 22 = dktX4_pour_1 := dk_seg dksX4_pour_0 22 rfl rfl
theorem dX4_pour_0 : decode cX4_pour 0 = .ok (.aload_n 0, 1) := dk_42 (dk_at dksX4_pour_0 0 rfl rfl)
theorem dX4_pour_1 : decode cX4_pour 1 = .ok (.iconst 0, 1) := dk_3 (dk_at dksX4_pour_0 1 rfl rfl)
theorem dX4_pour_2 : decode cX4_pour 2 = .ok (.putfield 114, 3) := dk_181 0 114 (dk_at dksX4_pour_0 2 rfl rfl)
theorem dX4_pour_5 : decode cX4_pour 5 = .ok (.aload_n 0, 1) := dk_42 (dk_at dksX4_pour_0 5 rfl rfl)
theorem dX4_pour_6 : decode cX4_pour 6 = .ok (.iload_n 1, 1) := dk_27 (dk_at dksX4_pour_0 6 rfl rfl)
theorem dX4_pour_7 : decode cX4_pour 7 = .ok (.invokevirtual 351, 3) := dk_182 1 95 (dk_at dksX4_pour_0 7 rfl rfl)
theorem dX4_pour_10 : decode cX4_pour 10 = .ok (.ifCond .ne 5, 3) := dk_154 0 5 (dk_at dksX4_pour_0 10 rfl rfl)
theorem dX4_pour_13 : decode cX4_pour 13 = .ok (.iconst 0, 1) := dk_3 (dk_at dksX4_pour_0 13 rfl rfl)
theorem dX4_pour_14 : decode cX4_pour 14 = .ok (.ireturn, 1) := dk_172 (dk_at dksX4_pour_0 14 rfl rfl)
theorem dX4_pour_15 : decode cX4_pour 15 = .ok (.iload_n 2, 1) := dk_28 (dk_at dksX4_pour_0 15 rfl rfl)
theorem dX4_pour_16 : decode cX4_pour 16 = .ok (.iconst 1, 1) := dk_4 (dk_at dksX4_pour_0 16 rfl rfl)
theorem dX4_pour_17 : decode cX4_pour 17 = .ok (.bipush 50, 2) := dk_16 50 (dk_at dksX4_pour_0 17 rfl rfl)
theorem dX4_pour_19 : decode cX4_pour 19 = .ok (.invokestatic 332, 3) := dk_184 1 76 (dk_at dksX4_pour_0 19 rfl rfl)
theorem dX4_pour_22 : decode cX4_pour 22 = .ok (.ifCond .ne 9, 3) := dk_154 0 9 (dk_at dksX4_pour_1 0 rfl rfl)
theorem dX4_pour_25 : decode cX4_pour 25 = .ok (.aload_n 0, 1) := dk_42 (dk_at dksX4_pour_1 3 rfl rfl)
theorem dX4_pour_26 : decode cX4_pour 26 = .ok (.iconst 1, 1) := dk_4 (dk_at dksX4_pour_1 4 rfl rfl)
theorem dX4_pour_27 : decode cX4_pour 27 = .ok (.invokevirtual 363, 3) := dk_182 1 107 (dk_at dksX4_pour_1 5 rfl rfl)
theorem dX4_pour_30 : decode cX4_pour 30 = .ok (.ireturn, 1) := dk_172 (dk_at dksX4_pour_1 8 rfl rfl)
theorem dX4_pour_31 : decode cX4_pour 31 = .ok (.aload_n 0, 1) := dk_42 (dk_at dksX4_pour_1 9 rfl rfl)
theorem dX4_pour_32 : decode cX4_pour 32 = .ok (.invokevirtual 366, 3) := dk_182 1 110 (dk_at dksX4_pour_1 10 rfl rfl)
theorem dX4_pour_35 : decode cX4_pour 35 = .ok (.aload_n 0, 1) := dk_42 (dk_at dksX4_pour_1 13 rfl rfl)
theorem dX4_pour_36 : decode cX4_pour 36 = .ok (.iconst 0, 1) := dk_3 (dk_at dksX4_pour_1 14 rfl rfl)
theorem dX4_pour_37 : decode cX4_pour 37 = .ok (.iload_n 1, 1) := dk_27 (dk_at dksX4_pour_1 15 rfl rfl)
theorem dX4_pour_38 : decode cX4_pour 38 = .ok (.iload_n 2, 1) := dk_28 (dk_at dksX4_pour_1 16 rfl rfl)
theorem dX4_pour_39 : decode cX4_pour 39 = .ok (.invokevirtual 372, 3) := dk_182 1 116 (dk_at dksX4_pour_1 17 rfl rfl)
theorem dX4_pour_42 : decode cX4_pour 42 = .ok (.ireturn, 1) := dk_172 (dk_at dksX4_pour_1 20 rfl rfl)
abbrev cX4_pours : ByteArray := prog_12_method_73_code
def yX4_pours : MethodName := ⟨RX4, "pours", "(III)I"⟩
def dkwX4_pours_2 : List UInt8 := [46, 172]
abbrev dktX4_pours_2 : List UInt8 := dkwX4_pours_2 ++ []
def dkwX4_pours_1 : List UInt8 := [27, 21, 4, 42, 180, 0, 63, 21, 4, 46, 182, 1, 61, 132, 4, 1, 167, 255, 230, 42, 180, 0, 66, 28]
abbrev dktX4_pours_1 : List UInt8 := dkwX4_pours_1 ++ dktX4_pours_2
def dkwX4_pours_0 : List UInt8 := [42, 182, 1, 54, 42, 180, 0, 63, 28, 29, 79, 28, 54, 4, 21, 4, 42, 180, 1, 13, 162, 0, 23, 42]
abbrev dktX4_pours_0 : List UInt8 := dkwX4_pours_0 ++ dktX4_pours_1
theorem dksX4_pours_0 : cX4_pours.data.toList.drop 0 = dktX4_pours_0 := by decide +kernel
theorem dksX4_pours_1 : cX4_pours.data.toList.drop 24 = dktX4_pours_1 := dk_seg dksX4_pours_0 24 rfl rfl
theorem dksX4_pours_2 : cX4_pours.data.toList.drop 48 = dktX4_pours_2 := dk_seg dksX4_pours_1 24 rfl rfl
theorem dX4_pours_0 : decode cX4_pours 0 = .ok (.aload_n 0, 1) := dk_42 (dk_at dksX4_pours_0 0 rfl rfl)
theorem dX4_pours_1 : decode cX4_pours 1 = .ok (.invokevirtual 310, 3) := dk_182 1 54 (dk_at dksX4_pours_0 1 rfl rfl)
theorem dX4_pours_4 : decode cX4_pours 4 = .ok (.aload_n 0, 1) := dk_42 (dk_at dksX4_pours_0 4 rfl rfl)
theorem dX4_pours_5 : decode cX4_pours 5 = .ok (.getfield 63, 3) := dk_180 0 63 (dk_at dksX4_pours_0 5 rfl rfl)
theorem dX4_pours_8 : decode cX4_pours 8 = .ok (.iload_n 2, 1) := dk_28 (dk_at dksX4_pours_0 8 rfl rfl)
theorem dX4_pours_9 : decode cX4_pours 9 = .ok (.iload_n 3, 1) := dk_29 (dk_at dksX4_pours_0 9 rfl rfl)
theorem dX4_pours_10 : decode cX4_pours 10 = .ok (.iastore, 1) := dk_79 (dk_at dksX4_pours_0 10 rfl rfl)
theorem dX4_pours_11 : decode cX4_pours 11 = .ok (.iload_n 2, 1) := dk_28 (dk_at dksX4_pours_0 11 rfl rfl)
theorem dX4_pours_12 : decode cX4_pours 12 = .ok (.istore 4, 2) := dk_54 4 (dk_at dksX4_pours_0 12 rfl rfl)
theorem dX4_pours_14 : decode cX4_pours 14 = .ok (.iload 4, 2) := dk_21 4 (dk_at dksX4_pours_0 14 rfl rfl)
theorem dX4_pours_16 : decode cX4_pours 16 = .ok (.aload_n 0, 1) := dk_42 (dk_at dksX4_pours_0 16 rfl rfl)
theorem dX4_pours_17 : decode cX4_pours 17 = .ok (.getfield 269, 3) := dk_180 1 13 (dk_at dksX4_pours_0 17 rfl rfl)
theorem dX4_pours_20 : decode cX4_pours 20 = .ok (.if_icmp .ge 23, 3) := dk_162 0 23 (dk_at dksX4_pours_0 20 rfl rfl)
theorem dX4_pours_23 : decode cX4_pours 23 = .ok (.aload_n 0, 1) := dk_42 (dk_at dksX4_pours_0 23 rfl rfl)
theorem dX4_pours_24 : decode cX4_pours 24 = .ok (.iload_n 1, 1) := dk_27 (dk_at dksX4_pours_1 0 rfl rfl)
theorem dX4_pours_25 : decode cX4_pours 25 = .ok (.iload 4, 2) := dk_21 4 (dk_at dksX4_pours_1 1 rfl rfl)
theorem dX4_pours_27 : decode cX4_pours 27 = .ok (.aload_n 0, 1) := dk_42 (dk_at dksX4_pours_1 3 rfl rfl)
theorem dX4_pours_28 : decode cX4_pours 28 = .ok (.getfield 63, 3) := dk_180 0 63 (dk_at dksX4_pours_1 4 rfl rfl)
theorem dX4_pours_31 : decode cX4_pours 31 = .ok (.iload 4, 2) := dk_21 4 (dk_at dksX4_pours_1 7 rfl rfl)
theorem dX4_pours_33 : decode cX4_pours 33 = .ok (.iaload, 1) := dk_46 (dk_at dksX4_pours_1 9 rfl rfl)
theorem dX4_pours_34 : decode cX4_pours 34 = .ok (.invokevirtual 317, 3) := dk_182 1 61 (dk_at dksX4_pours_1 10 rfl rfl)
theorem dX4_pours_37 : decode cX4_pours 37 = .ok (.iinc 4 1, 3) := dk_132 4 1 (dk_at dksX4_pours_1 13 rfl rfl)
theorem dX4_pours_40 : decode cX4_pours 40 = .ok (.goto (-26), 3) := dk_167 255 230 (dk_at dksX4_pours_1 16 rfl rfl)
theorem dX4_pours_43 : decode cX4_pours 43 = .ok (.aload_n 0, 1) := dk_42 (dk_at dksX4_pours_1 19 rfl rfl)
theorem dX4_pours_44 : decode cX4_pours 44 = .ok (.getfield 66, 3) := dk_180 0 66 (dk_at dksX4_pours_1 20 rfl rfl)
theorem dX4_pours_47 : decode cX4_pours 47 = .ok (.iload_n 2, 1) := dk_28 (dk_at dksX4_pours_1 23 rfl rfl)
theorem dX4_pours_48 : decode cX4_pours 48 = .ok (.iaload, 1) := dk_46 (dk_at dksX4_pours_2 0 rfl rfl)
theorem dX4_pours_49 : decode cX4_pours 49 = .ok (.ireturn, 1) := dk_172 (dk_at dksX4_pours_2 1 rfl rfl)
abbrev cX4_crack : ByteArray := prog_12_method_76_code
def yX4_crack : MethodName := ⟨RX4, "crack", "(II)I"⟩
def dkwX4_crack_2 : List UInt8 := [182, 1, 110, 42, 3, 27, 28, 182, 1, 119, 29, 172]
abbrev dktX4_crack_2 : List UInt8 := dkwX4_crack_2 ++ []
def dkwX4_crack_1 : List UInt8 := [28, 4, 16, 30, 184, 1, 76, 153, 0, 8, 29, 28, 160, 0, 9, 42, 4, 182, 1, 107, 172, 42]
abbrev dktX4_crack_1 : List UInt8 := dkwX4_crack_1 ++ dktX4_crack_2
def dkwX4_crack_0 : List UInt8 := [42, 3, 181, 0, 114, 42, 27, 182, 1, 95, 154, 0, 5, 3, 172, 42, 180, 0, 51, 4, 27, 96, 46, 62]
abbrev dktX4_crack_0 : List UInt8 := dkwX4_crack_0 ++ dktX4_crack_1
theorem dksX4_crack_0 : cX4_crack.data.toList.drop 0 = dktX4_crack_0 := by decide +kernel
theorem dksX4_crack_1 : cX4_crack.data.toList.drop 24 = dktX4_crack_1 := dk_seg dksX4_crack_0 24 rfl rfl
theorem dksX4_crack_2 : cX4_crack.data.toList.drop 46 = dktX4_crack_2 := dk_seg dksX4_crack_1 22 rfl rfl
theorem dX4_crack_0 : decode cX4_crack 0 = .ok (.aload_n 0, 1) := dk_42 (dk_at dksX4_crack_0 0 rfl rfl)
theorem dX4_crack_1 : decode cX4_crack 1 = .ok (.iconst 0, 1) := dk_3 (dk_at dksX4_crack_0 1 rfl rfl)
theorem dX4_crack_2 : decode cX4_crack 2 = .ok (.putfield 114, 3) := dk_181 0 114 (dk_at dksX4_crack_0 2 rfl rfl)
theorem dX4_crack_5 : decode cX4_crack 5 = .ok (.aload_n 0, 1) := dk_42 (dk_at dksX4_crack_0 5 rfl rfl)
theorem dX4_crack_6 : decode cX4_crack 6 = .ok (.iload_n 1, 1) := dk_27 (dk_at dksX4_crack_0 6 rfl rfl)
theorem dX4_crack_7 : decode cX4_crack 7 = .ok (.invokevirtual 351, 3) := dk_182 1 95 (dk_at dksX4_crack_0 7 rfl rfl)
theorem dX4_crack_10 : decode cX4_crack 10 = .ok (.ifCond .ne 5, 3) := dk_154 0 5 (dk_at dksX4_crack_0 10 rfl rfl)
theorem dX4_crack_13 : decode cX4_crack 13 = .ok (.iconst 0, 1) := dk_3 (dk_at dksX4_crack_0 13 rfl rfl)
theorem dX4_crack_14 : decode cX4_crack 14 = .ok (.ireturn, 1) := dk_172 (dk_at dksX4_crack_0 14 rfl rfl)
theorem dX4_crack_15 : decode cX4_crack 15 = .ok (.aload_n 0, 1) := dk_42 (dk_at dksX4_crack_0 15 rfl rfl)
theorem dX4_crack_16 : decode cX4_crack 16 = .ok (.getfield 51, 3) := dk_180 0 51 (dk_at dksX4_crack_0 16 rfl rfl)
theorem dX4_crack_19 : decode cX4_crack 19 = .ok (.iconst 1, 1) := dk_4 (dk_at dksX4_crack_0 19 rfl rfl)
theorem dX4_crack_20 : decode cX4_crack 20 = .ok (.iload_n 1, 1) := dk_27 (dk_at dksX4_crack_0 20 rfl rfl)
theorem dX4_crack_21 : decode cX4_crack 21 = .ok (.iadd, 1) := dk_96 (dk_at dksX4_crack_0 21 rfl rfl)
theorem dX4_crack_22 : decode cX4_crack 22 = .ok (.iaload, 1) := dk_46 (dk_at dksX4_crack_0 22 rfl rfl)
theorem dX4_crack_23 : decode cX4_crack 23 = .ok (.istore_n 3, 1) := dk_62 (dk_at dksX4_crack_0 23 rfl rfl)
theorem dX4_crack_24 : decode cX4_crack 24 = .ok (.iload_n 2, 1) := dk_28 (dk_at dksX4_crack_1 0 rfl rfl)
theorem dX4_crack_25 : decode cX4_crack 25 = .ok (.iconst 1, 1) := dk_4 (dk_at dksX4_crack_1 1 rfl rfl)
theorem dX4_crack_26 : decode cX4_crack 26 = .ok (.bipush 30, 2) := dk_16 30 (dk_at dksX4_crack_1 2 rfl rfl)
theorem dX4_crack_28 : decode cX4_crack 28 = .ok (.invokestatic 332, 3) := dk_184 1 76 (dk_at dksX4_crack_1 4 rfl rfl)
theorem dX4_crack_31 : decode cX4_crack 31 = .ok (.ifCond .eq 8, 3) := dk_153 0 8 (dk_at dksX4_crack_1 7 rfl rfl)
theorem dX4_crack_34 : decode cX4_crack 34 = .ok (.iload_n 3, 1) := dk_29 (dk_at dksX4_crack_1 10 rfl rfl)
theorem dX4_crack_35 : decode cX4_crack 35 = .ok (.iload_n 2, 1) := dk_28 (dk_at dksX4_crack_1 11 rfl rfl)
theorem dX4_crack_36 : decode cX4_crack 36 = .ok (.if_icmp .ne 9, 3) := dk_160 0 9 (dk_at dksX4_crack_1 12 rfl rfl)
theorem dX4_crack_39 : decode cX4_crack 39 = .ok (.aload_n 0, 1) := dk_42 (dk_at dksX4_crack_1 15 rfl rfl)
theorem dX4_crack_40 : decode cX4_crack 40 = .ok (.iconst 1, 1) := dk_4 (dk_at dksX4_crack_1 16 rfl rfl)
theorem dX4_crack_41 : decode cX4_crack 41 = .ok (.invokevirtual 363, 3) := dk_182 1 107 (dk_at dksX4_crack_1 17 rfl rfl)
theorem dX4_crack_44 : decode cX4_crack 44 = .ok (.ireturn, 1) := dk_172 (dk_at dksX4_crack_1 20 rfl rfl)
theorem dX4_crack_45 : decode cX4_crack 45 = .ok (.aload_n 0, 1) := dk_42 (dk_at dksX4_crack_1 21 rfl rfl)
theorem dX4_crack_46 : decode cX4_crack 46 = .ok (.invokevirtual 366, 3) := dk_182 1 110 (dk_at dksX4_crack_2 0 rfl rfl)
theorem dX4_crack_49 : decode cX4_crack 49 = .ok (.aload_n 0, 1) := dk_42 (dk_at dksX4_crack_2 3 rfl rfl)
theorem dX4_crack_50 : decode cX4_crack 50 = .ok (.iconst 0, 1) := dk_3 (dk_at dksX4_crack_2 4 rfl rfl)
theorem dX4_crack_51 : decode cX4_crack 51 = .ok (.iload_n 1, 1) := dk_27 (dk_at dksX4_crack_2 5 rfl rfl)
theorem dX4_crack_52 : decode cX4_crack 52 = .ok (.iload_n 2, 1) := dk_28 (dk_at dksX4_crack_2 6 rfl rfl)
theorem dX4_crack_53 : decode cX4_crack 53 = .ok (.invokevirtual 375, 3) := dk_182 1 119 (dk_at dksX4_crack_2 7 rfl rfl)
theorem dX4_crack_56 : decode cX4_crack 56 = .ok (.iload_n 3, 1) := dk_29 (dk_at dksX4_crack_2 10 rfl rfl)
theorem dX4_crack_57 : decode cX4_crack 57 = .ok (.ireturn, 1) := dk_172 (dk_at dksX4_crack_2 11 rfl rfl)
abbrev cX4_cracks : ByteArray := prog_12_method_75_code
def yX4_cracks : MethodName := ⟨RX4, "cracks", "(III)V"⟩
def dkwX4_cracks_1 : List UInt8 := [180, 0, 51, 27, 16, 10, 96, 28, 96, 46, 29, 4, 100, 184, 1, 41, 79, 177]
abbrev dktX4_cracks_1 : List UInt8 := dkwX4_cracks_1 ++ []
def dkwX4_cracks_0 : List UInt8 := [42, 180, 0, 51, 27, 4, 96, 28, 96, 29, 79, 42, 180, 0, 51, 27, 16, 10, 96, 28, 96, 42]
abbrev dktX4_cracks_0 : List UInt8 := dkwX4_cracks_0 ++ dktX4_cracks_1
theorem dksX4_cracks_0 : cX4_cracks.data.toList.drop 0 = dktX4_cracks_0 := by decide +kernel
theorem dksX4_cracks_1 : cX4_cracks.data.toList.drop 22 = dktX4_cracks_1 := dk_seg dksX4_cracks_0 22 rfl rfl
theorem dX4_cracks_0 : decode cX4_cracks 0 = .ok (.aload_n 0, 1) := dk_42 (dk_at dksX4_cracks_0 0 rfl rfl)
theorem dX4_cracks_1 : decode cX4_cracks 1 = .ok (.getfield 51, 3) := dk_180 0 51 (dk_at dksX4_cracks_0 1 rfl rfl)
theorem dX4_cracks_4 : decode cX4_cracks 4 = .ok (.iload_n 1, 1) := dk_27 (dk_at dksX4_cracks_0 4 rfl rfl)
theorem dX4_cracks_5 : decode cX4_cracks 5 = .ok (.iconst 1, 1) := dk_4 (dk_at dksX4_cracks_0 5 rfl rfl)
theorem dX4_cracks_6 : decode cX4_cracks 6 = .ok (.iadd, 1) := dk_96 (dk_at dksX4_cracks_0 6 rfl rfl)
theorem dX4_cracks_7 : decode cX4_cracks 7 = .ok (.iload_n 2, 1) := dk_28 (dk_at dksX4_cracks_0 7 rfl rfl)
theorem dX4_cracks_8 : decode cX4_cracks 8 = .ok (.iadd, 1) := dk_96 (dk_at dksX4_cracks_0 8 rfl rfl)
theorem dX4_cracks_9 : decode cX4_cracks 9 = .ok (.iload_n 3, 1) := dk_29 (dk_at dksX4_cracks_0 9 rfl rfl)
theorem dX4_cracks_10 : decode cX4_cracks 10 = .ok (.iastore, 1) := dk_79 (dk_at dksX4_cracks_0 10 rfl rfl)
theorem dX4_cracks_11 : decode cX4_cracks 11 = .ok (.aload_n 0, 1) := dk_42 (dk_at dksX4_cracks_0 11 rfl rfl)
theorem dX4_cracks_12 : decode cX4_cracks 12 = .ok (.getfield 51, 3) := dk_180 0 51 (dk_at dksX4_cracks_0 12 rfl rfl)
theorem dX4_cracks_15 : decode cX4_cracks 15 = .ok (.iload_n 1, 1) := dk_27 (dk_at dksX4_cracks_0 15 rfl rfl)
theorem dX4_cracks_16 : decode cX4_cracks 16 = .ok (.bipush 10, 2) := dk_16 10 (dk_at dksX4_cracks_0 16 rfl rfl)
theorem dX4_cracks_18 : decode cX4_cracks 18 = .ok (.iadd, 1) := dk_96 (dk_at dksX4_cracks_0 18 rfl rfl)
theorem dX4_cracks_19 : decode cX4_cracks 19 = .ok (.iload_n 2, 1) := dk_28 (dk_at dksX4_cracks_0 19 rfl rfl)
theorem dX4_cracks_20 : decode cX4_cracks 20 = .ok (.iadd, 1) := dk_96 (dk_at dksX4_cracks_0 20 rfl rfl)
theorem dX4_cracks_21 : decode cX4_cracks 21 = .ok (.aload_n 0, 1) := dk_42 (dk_at dksX4_cracks_0 21 rfl rfl)
theorem dX4_cracks_22 : decode cX4_cracks 22 = .ok (.getfield 51, 3) := dk_180 0 51 (dk_at dksX4_cracks_1 0 rfl rfl)
theorem dX4_cracks_25 : decode cX4_cracks 25 = .ok (.iload_n 1, 1) := dk_27 (dk_at dksX4_cracks_1 3 rfl rfl)
theorem dX4_cracks_26 : decode cX4_cracks 26 = .ok (.bipush 10, 2) := dk_16 10 (dk_at dksX4_cracks_1 4 rfl rfl)
theorem dX4_cracks_28 : decode cX4_cracks 28 = .ok (.iadd, 1) := dk_96 (dk_at dksX4_cracks_1 6 rfl rfl)
theorem dX4_cracks_29 : decode cX4_cracks 29 = .ok (.iload_n 2, 1) := dk_28 (dk_at dksX4_cracks_1 7 rfl rfl)
theorem dX4_cracks_30 : decode cX4_cracks 30 = .ok (.iadd, 1) := dk_96 (dk_at dksX4_cracks_1 8 rfl rfl)
theorem dX4_cracks_31 : decode cX4_cracks 31 = .ok (.iaload, 1) := dk_46 (dk_at dksX4_cracks_1 9 rfl rfl)
theorem dX4_cracks_32 : decode cX4_cracks 32 = .ok (.iload_n 3, 1) := dk_29 (dk_at dksX4_cracks_1 10 rfl rfl)
theorem dX4_cracks_33 : decode cX4_cracks 33 = .ok (.iconst 1, 1) := dk_4 (dk_at dksX4_cracks_1 11 rfl rfl)
theorem dX4_cracks_34 : decode cX4_cracks 34 = .ok (.isub, 1) := dk_100 (dk_at dksX4_cracks_1 12 rfl rfl)
theorem dX4_cracks_35 : decode cX4_cracks 35 = .ok (.invokestatic 297, 3) := dk_184 1 41 (dk_at dksX4_cracks_1 13 rfl rfl)
theorem dX4_cracks_38 : decode cX4_cracks 38 = .ok (.iastore, 1) := dk_79 (dk_at dksX4_cracks_1 16 rfl rfl)
theorem dX4_cracks_39 : decode cX4_cracks 39 = .ok (.return_, 1) := dk_177 (dk_at dksX4_cracks_1 17 rfl rfl)
abbrev cX4_then : ByteArray := prog_12_method_77_code
def yX4_then : MethodName := ⟨RX4, "then", "(III)I"⟩
def dkwX4_then_3 : List UInt8 := [167, 255, 230, 29, 154, 0, 15, 42, 180, 0, 51, 16, 74, 27, 96, 46, 167, 0, 5, 21, 4, 172]
abbrev dktX4_then_3 : List UInt8 := dkwX4_then_3 ++ []
def dkwX4_then_2 : List UInt8 := [162, 0, 26, 42, 16, 64, 182, 1, 67, 21, 4, 42, 180, 0, 66, 27, 46, 96, 54, 4, 132, 5, 1]
abbrev dktX4_then_2 : List UInt8 := dkwX4_then_2 ++ dktX4_then_3
def dkwX4_then_1 : List UInt8 := [3, 5, 182, 1, 122, 154, 0, 5, 3, 172, 3, 54, 4, 42, 182, 1, 125, 3, 54, 5, 21, 5, 28]
abbrev dktX4_then_1 : List UInt8 := dkwX4_then_1 ++ dktX4_then_2
def dkwX4_then_0 : List UInt8 := [42, 3, 181, 0, 114, 42, 27, 182, 1, 95, 153, 0, 22, 42, 29, 4, 182, 1, 98, 153, 0, 13, 42, 28]
abbrev dktX4_then_0 : List UInt8 := dkwX4_then_0 ++ dktX4_then_1
theorem dksX4_then_0 : cX4_then.data.toList.drop 0 = dktX4_then_0 := by decide +kernel
theorem dksX4_then_1 : cX4_then.data.toList.drop 24 = dktX4_then_1 := dk_seg dksX4_then_0 24 rfl rfl
theorem dksX4_then_2 : cX4_then.data.toList.drop 47 = dktX4_then_2 := dk_seg dksX4_then_1 23 rfl rfl
theorem dksX4_then_3 : cX4_then.data.toList.drop 70 = dktX4_then_3 := dk_seg dksX4_then_2 23 rfl rfl
theorem dX4_then_0 : decode cX4_then 0 = .ok (.aload_n 0, 1) := dk_42 (dk_at dksX4_then_0 0 rfl rfl)
theorem dX4_then_1 : decode cX4_then 1 = .ok (.iconst 0, 1) := dk_3 (dk_at dksX4_then_0 1 rfl rfl)
theorem dX4_then_2 : decode cX4_then 2 = .ok (.putfield 114, 3) := dk_181 0 114 (dk_at dksX4_then_0 2 rfl rfl)
theorem dX4_then_5 : decode cX4_then 5 = .ok (.aload_n 0, 1) := dk_42 (dk_at dksX4_then_0 5 rfl rfl)
theorem dX4_then_6 : decode cX4_then 6 = .ok (.iload_n 1, 1) := dk_27 (dk_at dksX4_then_0 6 rfl rfl)
theorem dX4_then_7 : decode cX4_then 7 = .ok (.invokevirtual 351, 3) := dk_182 1 95 (dk_at dksX4_then_0 7 rfl rfl)
theorem dX4_then_10 : decode cX4_then 10 = .ok (.ifCond .eq 22, 3) := dk_153 0 22 (dk_at dksX4_then_0 10 rfl rfl)
theorem dX4_then_13 : decode cX4_then 13 = .ok (.aload_n 0, 1) := dk_42 (dk_at dksX4_then_0 13 rfl rfl)
theorem dX4_then_14 : decode cX4_then 14 = .ok (.iload_n 3, 1) := dk_29 (dk_at dksX4_then_0 14 rfl rfl)
theorem dX4_then_15 : decode cX4_then 15 = .ok (.iconst 1, 1) := dk_4 (dk_at dksX4_then_0 15 rfl rfl)
theorem dX4_then_16 : decode cX4_then 16 = .ok (.invokevirtual 354, 3) := dk_182 1 98 (dk_at dksX4_then_0 16 rfl rfl)
theorem dX4_then_19 : decode cX4_then 19 = .ok (.ifCond .eq 13, 3) := dk_153 0 13 (dk_at dksX4_then_0 19 rfl rfl)
theorem dX4_then_22 : decode cX4_then 22 = .ok (.aload_n 0, 1) := dk_42 (dk_at dksX4_then_0 22 rfl rfl)
theorem dX4_then_23 : decode cX4_then 23 = .ok (.iload_n 2, 1) := dk_28 (dk_at dksX4_then_0 23 rfl rfl)
theorem dX4_then_24 : decode cX4_then 24 = .ok (.iconst 0, 1) := dk_3 (dk_at dksX4_then_1 0 rfl rfl)
theorem dX4_then_25 : decode cX4_then 25 = .ok (.iconst 2, 1) := dk_5 (dk_at dksX4_then_1 1 rfl rfl)
theorem dX4_then_26 : decode cX4_then 26 = .ok (.invokevirtual 378, 3) := dk_182 1 122 (dk_at dksX4_then_1 2 rfl rfl)
theorem dX4_then_29 : decode cX4_then 29 = .ok (.ifCond .ne 5, 3) := dk_154 0 5 (dk_at dksX4_then_1 5 rfl rfl)
theorem dX4_then_32 : decode cX4_then 32 = .ok (.iconst 0, 1) := dk_3 (dk_at dksX4_then_1 8 rfl rfl)
theorem dX4_then_33 : decode cX4_then 33 = .ok (.ireturn, 1) := dk_172 (dk_at dksX4_then_1 9 rfl rfl)
theorem dX4_then_34 : decode cX4_then 34 = .ok (.iconst 0, 1) := dk_3 (dk_at dksX4_then_1 10 rfl rfl)
theorem dX4_then_35 : decode cX4_then 35 = .ok (.istore 4, 2) := dk_54 4 (dk_at dksX4_then_1 11 rfl rfl)
theorem dX4_then_37 : decode cX4_then 37 = .ok (.aload_n 0, 1) := dk_42 (dk_at dksX4_then_1 13 rfl rfl)
theorem dX4_then_38 : decode cX4_then 38 = .ok (.invokevirtual 381, 3) := dk_182 1 125 (dk_at dksX4_then_1 14 rfl rfl)
theorem dX4_then_41 : decode cX4_then 41 = .ok (.iconst 0, 1) := dk_3 (dk_at dksX4_then_1 17 rfl rfl)
theorem dX4_then_42 : decode cX4_then 42 = .ok (.istore 5, 2) := dk_54 5 (dk_at dksX4_then_1 18 rfl rfl)
theorem dX4_then_44 : decode cX4_then 44 = .ok (.iload 5, 2) := dk_21 5 (dk_at dksX4_then_1 20 rfl rfl)
theorem dX4_then_46 : decode cX4_then 46 = .ok (.iload_n 2, 1) := dk_28 (dk_at dksX4_then_1 22 rfl rfl)
theorem dX4_then_47 : decode cX4_then 47 = .ok (.if_icmp .ge 26, 3) := dk_162 0 26 (dk_at dksX4_then_2 0 rfl rfl)
theorem dX4_then_50 : decode cX4_then 50 = .ok (.aload_n 0, 1) := dk_42 (dk_at dksX4_then_2 3 rfl rfl)
theorem dX4_then_51 : decode cX4_then 51 = .ok (.bipush 64, 2) := dk_16 64 (dk_at dksX4_then_2 4 rfl rfl)
theorem dX4_then_53 : decode cX4_then 53 = .ok (.invokevirtual 323, 3) := dk_182 1 67 (dk_at dksX4_then_2 6 rfl rfl)
theorem dX4_then_56 : decode cX4_then 56 = .ok (.iload 4, 2) := dk_21 4 (dk_at dksX4_then_2 9 rfl rfl)
theorem dX4_then_58 : decode cX4_then 58 = .ok (.aload_n 0, 1) := dk_42 (dk_at dksX4_then_2 11 rfl rfl)
theorem dX4_then_59 : decode cX4_then 59 = .ok (.getfield 66, 3) := dk_180 0 66 (dk_at dksX4_then_2 12 rfl rfl)
theorem dX4_then_62 : decode cX4_then 62 = .ok (.iload_n 1, 1) := dk_27 (dk_at dksX4_then_2 15 rfl rfl)
theorem dX4_then_63 : decode cX4_then 63 = .ok (.iaload, 1) := dk_46 (dk_at dksX4_then_2 16 rfl rfl)
theorem dX4_then_64 : decode cX4_then 64 = .ok (.iadd, 1) := dk_96 (dk_at dksX4_then_2 17 rfl rfl)
theorem dX4_then_65 : decode cX4_then 65 = .ok (.istore 4, 2) := dk_54 4 (dk_at dksX4_then_2 18 rfl rfl)
theorem dX4_then_67 : decode cX4_then 67 = .ok (.iinc 5 1, 3) := dk_132 5 1 (dk_at dksX4_then_2 20 rfl rfl)
theorem dX4_then_70 : decode cX4_then 70 = .ok (.goto (-26), 3) := dk_167 255 230 (dk_at dksX4_then_3 0 rfl rfl)
theorem dX4_then_73 : decode cX4_then 73 = .ok (.iload_n 3, 1) := dk_29 (dk_at dksX4_then_3 3 rfl rfl)
theorem dX4_then_74 : decode cX4_then 74 = .ok (.ifCond .ne 15, 3) := dk_154 0 15 (dk_at dksX4_then_3 4 rfl rfl)
theorem dX4_then_77 : decode cX4_then 77 = .ok (.aload_n 0, 1) := dk_42 (dk_at dksX4_then_3 7 rfl rfl)
theorem dX4_then_78 : decode cX4_then 78 = .ok (.getfield 51, 3) := dk_180 0 51 (dk_at dksX4_then_3 8 rfl rfl)
theorem dX4_then_81 : decode cX4_then 81 = .ok (.bipush 74, 2) := dk_16 74 (dk_at dksX4_then_3 11 rfl rfl)
theorem dX4_then_83 : decode cX4_then 83 = .ok (.iload_n 1, 1) := dk_27 (dk_at dksX4_then_3 13 rfl rfl)
theorem dX4_then_84 : decode cX4_then 84 = .ok (.iadd, 1) := dk_96 (dk_at dksX4_then_3 14 rfl rfl)
theorem dX4_then_85 : decode cX4_then 85 = .ok (.iaload, 1) := dk_46 (dk_at dksX4_then_3 15 rfl rfl)
theorem dX4_then_86 : decode cX4_then 86 = .ok (.goto 5, 3) := dk_167 0 5 (dk_at dksX4_then_3 16 rfl rfl)
theorem dX4_then_89 : decode cX4_then 89 = .ok (.iload 4, 2) := dk_21 4 (dk_at dksX4_then_3 19 rfl rfl)
theorem dX4_then_91 : decode cX4_then 91 = .ok (.ireturn, 1) := dk_172 (dk_at dksX4_then_3 21 rfl rfl)
abbrev cX4_isSoon : ByteArray := prog_12_method_65_code
def yX4_isSoon : MethodName := ⟨RX4, "isSoon", "(III)Z"⟩
def dkwX4_isSoon_0 : List UInt8 := [42, 27, 28, 17, 0, 200, 184, 1, 76, 29, 182, 1, 6, 172]
abbrev dktX4_isSoon_0 : List UInt8 := dkwX4_isSoon_0 ++ []
theorem dksX4_isSoon_0 : cX4_isSoon.data.toList.drop 0 = dktX4_isSoon_0 := by decide +kernel
theorem dX4_isSoon_0 : decode cX4_isSoon 0 = .ok (.aload_n 0, 1) := dk_42 (dk_at dksX4_isSoon_0 0 rfl rfl)
theorem dX4_isSoon_1 : decode cX4_isSoon 1 = .ok (.iload_n 1, 1) := dk_27 (dk_at dksX4_isSoon_0 1 rfl rfl)
theorem dX4_isSoon_2 : decode cX4_isSoon 2 = .ok (.iload_n 2, 1) := dk_28 (dk_at dksX4_isSoon_0 2 rfl rfl)
theorem dX4_isSoon_3 : decode cX4_isSoon 3 = .ok (.sipush 200, 3) := dk_17 0 200 (dk_at dksX4_isSoon_0 3 rfl rfl)
theorem dX4_isSoon_6 : decode cX4_isSoon 6 = .ok (.invokestatic 332, 3) := dk_184 1 76 (dk_at dksX4_isSoon_0 6 rfl rfl)
theorem dX4_isSoon_9 : decode cX4_isSoon 9 = .ok (.iload_n 3, 1) := dk_29 (dk_at dksX4_isSoon_0 9 rfl rfl)
theorem dX4_isSoon_10 : decode cX4_isSoon 10 = .ok (.invokevirtual 262, 3) := dk_182 1 6 (dk_at dksX4_isSoon_0 10 rfl rfl)
theorem dX4_isSoon_13 : decode cX4_isSoon 13 = .ok (.ireturn, 1) := dk_172 (dk_at dksX4_isSoon_0 13 rfl rfl)
abbrev cX4_tries : ByteArray := prog_12_method_45_code
def yX4_tries : MethodName := ⟨RX4, "tries", "()V"⟩
def dkwX4_tries_1 : List UInt8 := [132, 1, 1, 167, 255, 232, 177]
abbrev dktX4_tries_1 : List UInt8 := dkwX4_tries_1 ++ []
def dkwX4_tries_0 : List UInt8 := [3, 60, 27, 16, 64, 162, 0, 24, 42, 180, 0, 51, 16, 64, 27, 96, 42, 180, 0, 51, 27, 46, 79]
abbrev dktX4_tries_0 : List UInt8 := dkwX4_tries_0 ++ dktX4_tries_1
theorem dksX4_tries_0 : cX4_tries.data.toList.drop 0 = dktX4_tries_0 := by decide +kernel
theorem dksX4_tries_1 : cX4_tries.data.toList.drop 23 = dktX4_tries_1 := dk_seg dksX4_tries_0 23 rfl rfl
theorem dX4_tries_0 : decode cX4_tries 0 = .ok (.iconst 0, 1) := dk_3 (dk_at dksX4_tries_0 0 rfl rfl)
theorem dX4_tries_1 : decode cX4_tries 1 = .ok (.istore_n 1, 1) := dk_60 (dk_at dksX4_tries_0 1 rfl rfl)
theorem dX4_tries_2 : decode cX4_tries 2 = .ok (.iload_n 1, 1) := dk_27 (dk_at dksX4_tries_0 2 rfl rfl)
theorem dX4_tries_3 : decode cX4_tries 3 = .ok (.bipush 64, 2) := dk_16 64 (dk_at dksX4_tries_0 3 rfl rfl)
theorem dX4_tries_5 : decode cX4_tries 5 = .ok (.if_icmp .ge 24, 3) := dk_162 0 24 (dk_at dksX4_tries_0 5 rfl rfl)
theorem dX4_tries_8 : decode cX4_tries 8 = .ok (.aload_n 0, 1) := dk_42 (dk_at dksX4_tries_0 8 rfl rfl)
theorem dX4_tries_9 : decode cX4_tries 9 = .ok (.getfield 51, 3) := dk_180 0 51 (dk_at dksX4_tries_0 9 rfl rfl)
theorem dX4_tries_12 : decode cX4_tries 12 = .ok (.bipush 64, 2) := dk_16 64 (dk_at dksX4_tries_0 12 rfl rfl)
theorem dX4_tries_14 : decode cX4_tries 14 = .ok (.iload_n 1, 1) := dk_27 (dk_at dksX4_tries_0 14 rfl rfl)
theorem dX4_tries_15 : decode cX4_tries 15 = .ok (.iadd, 1) := dk_96 (dk_at dksX4_tries_0 15 rfl rfl)
theorem dX4_tries_16 : decode cX4_tries 16 = .ok (.aload_n 0, 1) := dk_42 (dk_at dksX4_tries_0 16 rfl rfl)
theorem dX4_tries_17 : decode cX4_tries 17 = .ok (.getfield 51, 3) := dk_180 0 51 (dk_at dksX4_tries_0 17 rfl rfl)
theorem dX4_tries_20 : decode cX4_tries 20 = .ok (.iload_n 1, 1) := dk_27 (dk_at dksX4_tries_0 20 rfl rfl)
theorem dX4_tries_21 : decode cX4_tries 21 = .ok (.iaload, 1) := dk_46 (dk_at dksX4_tries_0 21 rfl rfl)
theorem dX4_tries_22 : decode cX4_tries 22 = .ok (.iastore, 1) := dk_79 (dk_at dksX4_tries_0 22 rfl rfl)
theorem dX4_tries_23 : decode cX4_tries 23 = .ok (.iinc 1 1, 3) := dk_132 1 1 (dk_at dksX4_tries_1 0 rfl rfl)
theorem dX4_tries_26 : decode cX4_tries 26 = .ok (.goto (-24), 3) := dk_167 255 232 (dk_at dksX4_tries_1 3 rfl rfl)
theorem dX4_tries_29 : decode cX4_tries 29 = .ok (.return_, 1) := dk_177 (dk_at dksX4_tries_1 6 rfl rfl)
abbrev cX4_tipping : ByteArray := prog_12_method_78_code
def yX4_tipping : MethodName := ⟨RX4, "tipping", "(I)I"⟩
def dkwX4_tipping_1 : List UInt8 := [182, 1, 128, 42, 180, 1, 44, 172]
abbrev dktX4_tipping_1 : List UInt8 := dkwX4_tipping_1 ++ []
def dkwX4_tipping_0 : List UInt8 := [42, 3, 181, 0, 114, 42, 27, 4, 4, 182, 1, 122, 154, 0, 5, 3, 172, 42, 182, 1, 125, 42, 27]
abbrev dktX4_tipping_0 : List UInt8 := dkwX4_tipping_0 ++ dktX4_tipping_1
theorem dksX4_tipping_0 : cX4_tipping.data.toList.drop 0 = dktX4_tipping_0 := by decide +kernel
theorem dksX4_tipping_1 : cX4_tipping.data.toList.drop 23 = dktX4_tipping_1 := dk_seg dksX4_tipping_0 23 rfl rfl
theorem dX4_tipping_0 : decode cX4_tipping 0 = .ok (.aload_n 0, 1) := dk_42 (dk_at dksX4_tipping_0 0 rfl rfl)
theorem dX4_tipping_1 : decode cX4_tipping 1 = .ok (.iconst 0, 1) := dk_3 (dk_at dksX4_tipping_0 1 rfl rfl)
theorem dX4_tipping_2 : decode cX4_tipping 2 = .ok (.putfield 114, 3) := dk_181 0 114 (dk_at dksX4_tipping_0 2 rfl rfl)
theorem dX4_tipping_5 : decode cX4_tipping 5 = .ok (.aload_n 0, 1) := dk_42 (dk_at dksX4_tipping_0 5 rfl rfl)
theorem dX4_tipping_6 : decode cX4_tipping 6 = .ok (.iload_n 1, 1) := dk_27 (dk_at dksX4_tipping_0 6 rfl rfl)
theorem dX4_tipping_7 : decode cX4_tipping 7 = .ok (.iconst 1, 1) := dk_4 (dk_at dksX4_tipping_0 7 rfl rfl)
theorem dX4_tipping_8 : decode cX4_tipping 8 = .ok (.iconst 1, 1) := dk_4 (dk_at dksX4_tipping_0 8 rfl rfl)
theorem dX4_tipping_9 : decode cX4_tipping 9 = .ok (.invokevirtual 378, 3) := dk_182 1 122 (dk_at dksX4_tipping_0 9 rfl rfl)
theorem dX4_tipping_12 : decode cX4_tipping 12 = .ok (.ifCond .ne 5, 3) := dk_154 0 5 (dk_at dksX4_tipping_0 12 rfl rfl)
theorem dX4_tipping_15 : decode cX4_tipping 15 = .ok (.iconst 0, 1) := dk_3 (dk_at dksX4_tipping_0 15 rfl rfl)
theorem dX4_tipping_16 : decode cX4_tipping 16 = .ok (.ireturn, 1) := dk_172 (dk_at dksX4_tipping_0 16 rfl rfl)
theorem dX4_tipping_17 : decode cX4_tipping 17 = .ok (.aload_n 0, 1) := dk_42 (dk_at dksX4_tipping_0 17 rfl rfl)
theorem dX4_tipping_18 : decode cX4_tipping 18 = .ok (.invokevirtual 381, 3) := dk_182 1 125 (dk_at dksX4_tipping_0 18 rfl rfl)
theorem dX4_tipping_21 : decode cX4_tipping 21 = .ok (.aload_n 0, 1) := dk_42 (dk_at dksX4_tipping_0 21 rfl rfl)
theorem dX4_tipping_22 : decode cX4_tipping 22 = .ok (.iload_n 1, 1) := dk_27 (dk_at dksX4_tipping_0 22 rfl rfl)
theorem dX4_tipping_23 : decode cX4_tipping 23 = .ok (.invokevirtual 384, 3) := dk_182 1 128 (dk_at dksX4_tipping_1 0 rfl rfl)
theorem dX4_tipping_26 : decode cX4_tipping 26 = .ok (.aload_n 0, 1) := dk_42 (dk_at dksX4_tipping_1 3 rfl rfl)
theorem dX4_tipping_27 : decode cX4_tipping 27 = .ok (.getfield 300, 3) := dk_180 1 44 (dk_at dksX4_tipping_1 4 rfl rfl)
theorem dX4_tipping_30 : decode cX4_tipping 30 = .ok (.ireturn, 1) := dk_172 (dk_at dksX4_tipping_1 7 rfl rfl)
abbrev cX4_hoursGo : ByteArray := prog_12_method_54_code
def yX4_hoursGo : MethodName := ⟨RX4, "hoursGo", "(I)V"⟩
def dkwX4_hoursGo_0 : List UInt8 := [3, 61, 28, 27, 162, 0, 15, 42, 16, 64, 182, 1, 67, 132, 2, 1, 167, 255, 242, 177]
abbrev dktX4_hoursGo_0 : List UInt8 := dkwX4_hoursGo_0 ++ []
theorem dksX4_hoursGo_0 : cX4_hoursGo.data.toList.drop 0 = dktX4_hoursGo_0 := by decide +kernel
theorem dX4_hoursGo_0 : decode cX4_hoursGo 0 = .ok (.iconst 0, 1) := dk_3 (dk_at dksX4_hoursGo_0 0 rfl rfl)
theorem dX4_hoursGo_1 : decode cX4_hoursGo 1 = .ok (.istore_n 2, 1) := dk_61 (dk_at dksX4_hoursGo_0 1 rfl rfl)
theorem dX4_hoursGo_2 : decode cX4_hoursGo 2 = .ok (.iload_n 2, 1) := dk_28 (dk_at dksX4_hoursGo_0 2 rfl rfl)
theorem dX4_hoursGo_3 : decode cX4_hoursGo 3 = .ok (.iload_n 1, 1) := dk_27 (dk_at dksX4_hoursGo_0 3 rfl rfl)
theorem dX4_hoursGo_4 : decode cX4_hoursGo 4 = .ok (.if_icmp .ge 15, 3) := dk_162 0 15 (dk_at dksX4_hoursGo_0 4 rfl rfl)
theorem dX4_hoursGo_7 : decode cX4_hoursGo 7 = .ok (.aload_n 0, 1) := dk_42 (dk_at dksX4_hoursGo_0 7 rfl rfl)
theorem dX4_hoursGo_8 : decode cX4_hoursGo 8 = .ok (.bipush 64, 2) := dk_16 64 (dk_at dksX4_hoursGo_0 8 rfl rfl)
theorem dX4_hoursGo_10 : decode cX4_hoursGo 10 = .ok (.invokevirtual 323, 3) := dk_182 1 67 (dk_at dksX4_hoursGo_0 10 rfl rfl)
theorem dX4_hoursGo_13 : decode cX4_hoursGo 13 = .ok (.iinc 2 1, 3) := dk_132 2 1 (dk_at dksX4_hoursGo_0 13 rfl rfl)
theorem dX4_hoursGo_16 : decode cX4_hoursGo 16 = .ok (.goto (-14), 3) := dk_167 255 242 (dk_at dksX4_hoursGo_0 16 rfl rfl)
theorem dX4_hoursGo_19 : decode cX4_hoursGo 19 = .ok (.return_, 1) := dk_177 (dk_at dksX4_hoursGo_0 19 rfl rfl)
abbrev cX4_next : ByteArray := prog_12_method_80_code
def yX4_next : MethodName := ⟨RX4, "next", "(I)I"⟩
def dkwX4_next_1 : List UInt8 := [182, 1, 131, 172]
abbrev dktX4_next_1 : List UInt8 := dkwX4_next_1 ++ []
def dkwX4_next_0 : List UInt8 := [42, 3, 181, 0, 114, 42, 27, 182, 1, 95, 154, 0, 5, 3, 172, 42, 182, 1, 125, 42, 4, 27, 120, 3]
abbrev dktX4_next_0 : List UInt8 := dkwX4_next_0 ++ dktX4_next_1
theorem dksX4_next_0 : cX4_next.data.toList.drop 0 = dktX4_next_0 := by decide +kernel
theorem dksX4_next_1 : cX4_next.data.toList.drop 24 = dktX4_next_1 := dk_seg dksX4_next_0 24 rfl rfl
theorem dX4_next_0 : decode cX4_next 0 = .ok (.aload_n 0, 1) := dk_42 (dk_at dksX4_next_0 0 rfl rfl)
theorem dX4_next_1 : decode cX4_next 1 = .ok (.iconst 0, 1) := dk_3 (dk_at dksX4_next_0 1 rfl rfl)
theorem dX4_next_2 : decode cX4_next 2 = .ok (.putfield 114, 3) := dk_181 0 114 (dk_at dksX4_next_0 2 rfl rfl)
theorem dX4_next_5 : decode cX4_next 5 = .ok (.aload_n 0, 1) := dk_42 (dk_at dksX4_next_0 5 rfl rfl)
theorem dX4_next_6 : decode cX4_next 6 = .ok (.iload_n 1, 1) := dk_27 (dk_at dksX4_next_0 6 rfl rfl)
theorem dX4_next_7 : decode cX4_next 7 = .ok (.invokevirtual 351, 3) := dk_182 1 95 (dk_at dksX4_next_0 7 rfl rfl)
theorem dX4_next_10 : decode cX4_next 10 = .ok (.ifCond .ne 5, 3) := dk_154 0 5 (dk_at dksX4_next_0 10 rfl rfl)
theorem dX4_next_13 : decode cX4_next 13 = .ok (.iconst 0, 1) := dk_3 (dk_at dksX4_next_0 13 rfl rfl)
theorem dX4_next_14 : decode cX4_next 14 = .ok (.ireturn, 1) := dk_172 (dk_at dksX4_next_0 14 rfl rfl)
theorem dX4_next_15 : decode cX4_next 15 = .ok (.aload_n 0, 1) := dk_42 (dk_at dksX4_next_0 15 rfl rfl)
theorem dX4_next_16 : decode cX4_next 16 = .ok (.invokevirtual 381, 3) := dk_182 1 125 (dk_at dksX4_next_0 16 rfl rfl)
theorem dX4_next_19 : decode cX4_next 19 = .ok (.aload_n 0, 1) := dk_42 (dk_at dksX4_next_0 19 rfl rfl)
theorem dX4_next_20 : decode cX4_next 20 = .ok (.iconst 1, 1) := dk_4 (dk_at dksX4_next_0 20 rfl rfl)
theorem dX4_next_21 : decode cX4_next 21 = .ok (.iload_n 1, 1) := dk_27 (dk_at dksX4_next_0 21 rfl rfl)
theorem dX4_next_22 : decode cX4_next 22 = .ok (.ishl, 1) := dk_120 (dk_at dksX4_next_0 22 rfl rfl)
theorem dX4_next_23 : decode cX4_next 23 = .ok (.iconst 0, 1) := dk_3 (dk_at dksX4_next_0 23 rfl rfl)
theorem dX4_next_24 : decode cX4_next 24 = .ok (.invokevirtual 387, 3) := dk_182 1 131 (dk_at dksX4_next_1 0 rfl rfl)
theorem dX4_next_27 : decode cX4_next 27 = .ok (.ireturn, 1) := dk_172 (dk_at dksX4_next_1 3 rfl rfl)
abbrev cX4_allTip : ByteArray := prog_12_method_79_code
def yX4_allTip : MethodName := ⟨RX4, "allTip", "(II)I"⟩
def dkwX4_allTip_1 : List UInt8 := [160, 0, 5, 29, 172, 132, 3, 1, 167, 255, 228, 2, 172]
abbrev dktX4_allTip_1 : List UInt8 := dkwX4_allTip_1 ++ []
def dkwX4_allTip_0 : List UInt8 := [28, 4, 96, 62, 29, 17, 0, 200, 163, 0, 27, 42, 16, 64, 182, 1, 67, 42, 180, 1, 44, 27, 126, 27]
abbrev dktX4_allTip_0 : List UInt8 := dkwX4_allTip_0 ++ dktX4_allTip_1
theorem dksX4_allTip_0 : cX4_allTip.data.toList.drop 0 = dktX4_allTip_0 := by decide +kernel
theorem dksX4_allTip_1 : cX4_allTip.data.toList.drop 24 = dktX4_allTip_1 := dk_seg dksX4_allTip_0 24 rfl rfl
theorem dX4_allTip_0 : decode cX4_allTip 0 = .ok (.iload_n 2, 1) := dk_28 (dk_at dksX4_allTip_0 0 rfl rfl)
theorem dX4_allTip_1 : decode cX4_allTip 1 = .ok (.iconst 1, 1) := dk_4 (dk_at dksX4_allTip_0 1 rfl rfl)
theorem dX4_allTip_2 : decode cX4_allTip 2 = .ok (.iadd, 1) := dk_96 (dk_at dksX4_allTip_0 2 rfl rfl)
theorem dX4_allTip_3 : decode cX4_allTip 3 = .ok (.istore_n 3, 1) := dk_62 (dk_at dksX4_allTip_0 3 rfl rfl)
theorem dX4_allTip_4 : decode cX4_allTip 4 = .ok (.iload_n 3, 1) := dk_29 (dk_at dksX4_allTip_0 4 rfl rfl)
theorem dX4_allTip_5 : decode cX4_allTip 5 = .ok (.sipush 200, 3) := dk_17 0 200 (dk_at dksX4_allTip_0 5 rfl rfl)
theorem dX4_allTip_8 : decode cX4_allTip 8 = .ok (.if_icmp .gt 27, 3) := dk_163 0 27 (dk_at dksX4_allTip_0 8 rfl rfl)
theorem dX4_allTip_11 : decode cX4_allTip 11 = .ok (.aload_n 0, 1) := dk_42 (dk_at dksX4_allTip_0 11 rfl rfl)
theorem dX4_allTip_12 : decode cX4_allTip 12 = .ok (.bipush 64, 2) := dk_16 64 (dk_at dksX4_allTip_0 12 rfl rfl)
theorem dX4_allTip_14 : decode cX4_allTip 14 = .ok (.invokevirtual 323, 3) := dk_182 1 67 (dk_at dksX4_allTip_0 14 rfl rfl)
theorem dX4_allTip_17 : decode cX4_allTip 17 = .ok (.aload_n 0, 1) := dk_42 (dk_at dksX4_allTip_0 17 rfl rfl)
theorem dX4_allTip_18 : decode cX4_allTip 18 = .ok (.getfield 300, 3) := dk_180 1 44 (dk_at dksX4_allTip_0 18 rfl rfl)
theorem dX4_allTip_21 : decode cX4_allTip 21 = .ok (.iload_n 1, 1) := dk_27 (dk_at dksX4_allTip_0 21 rfl rfl)
theorem dX4_allTip_22 : decode cX4_allTip 22 = .ok (.iand, 1) := dk_126 (dk_at dksX4_allTip_0 22 rfl rfl)
theorem dX4_allTip_23 : decode cX4_allTip 23 = .ok (.iload_n 1, 1) := dk_27 (dk_at dksX4_allTip_0 23 rfl rfl)
theorem dX4_allTip_24 : decode cX4_allTip 24 = .ok (.if_icmp .ne 5, 3) := dk_160 0 5 (dk_at dksX4_allTip_1 0 rfl rfl)
theorem dX4_allTip_27 : decode cX4_allTip 27 = .ok (.iload_n 3, 1) := dk_29 (dk_at dksX4_allTip_1 3 rfl rfl)
theorem dX4_allTip_28 : decode cX4_allTip 28 = .ok (.ireturn, 1) := dk_172 (dk_at dksX4_allTip_1 4 rfl rfl)
theorem dX4_allTip_29 : decode cX4_allTip 29 = .ok (.iinc 3 1, 3) := dk_132 3 1 (dk_at dksX4_allTip_1 5 rfl rfl)
theorem dX4_allTip_32 : decode cX4_allTip 32 = .ok (.goto (-28), 3) := dk_167 255 228 (dk_at dksX4_allTip_1 8 rfl rfl)
theorem dX4_allTip_35 : decode cX4_allTip 35 = .ok (.iconst (-1), 1) := dk_2 (dk_at dksX4_allTip_1 11 rfl rfl)
theorem dX4_allTip_36 : decode cX4_allTip 36 = .ok (.ireturn, 1) := dk_172 (dk_at dksX4_allTip_1 12 rfl rfl)
abbrev cX4_together : ByteArray := prog_12_method_81_code
def yX4_together : MethodName := ⟨RX4, "together", "(I)I"⟩
def dkwX4_together_1 : List UInt8 := [182, 1, 131, 172]
abbrev dktX4_together_1 : List UInt8 := dkwX4_together_1 ++ []
def dkwX4_together_0 : List UInt8 := [42, 3, 181, 0, 114, 42, 27, 182, 1, 134, 154, 0, 5, 3, 172, 42, 182, 1, 125, 42, 27, 3]
abbrev dktX4_together_0 : List UInt8 := dkwX4_together_0 ++ dktX4_together_1
theorem dksX4_together_0 : cX4_together.data.toList.drop 0 = dktX4_together_0 := by decide +kernel
theorem dksX4_together_1 : cX4_together.data.toList.drop 22 = dktX4_together_1 := dk_seg dksX4_together_0 22 rfl rfl
theorem dX4_together_0 : decode cX4_together 0 = .ok (.aload_n 0, 1) := dk_42 (dk_at dksX4_together_0 0 rfl rfl)
theorem dX4_together_1 : decode cX4_together 1 = .ok (.iconst 0, 1) := dk_3 (dk_at dksX4_together_0 1 rfl rfl)
theorem dX4_together_2 : decode cX4_together 2 = .ok (.putfield 114, 3) := dk_181 0 114 (dk_at dksX4_together_0 2 rfl rfl)
theorem dX4_together_5 : decode cX4_together 5 = .ok (.aload_n 0, 1) := dk_42 (dk_at dksX4_together_0 5 rfl rfl)
theorem dX4_together_6 : decode cX4_together 6 = .ok (.iload_n 1, 1) := dk_27 (dk_at dksX4_together_0 6 rfl rfl)
theorem dX4_together_7 : decode cX4_together 7 = .ok (.invokevirtual 390, 3) := dk_182 1 134 (dk_at dksX4_together_0 7 rfl rfl)
theorem dX4_together_10 : decode cX4_together 10 = .ok (.ifCond .ne 5, 3) := dk_154 0 5 (dk_at dksX4_together_0 10 rfl rfl)
theorem dX4_together_13 : decode cX4_together 13 = .ok (.iconst 0, 1) := dk_3 (dk_at dksX4_together_0 13 rfl rfl)
theorem dX4_together_14 : decode cX4_together 14 = .ok (.ireturn, 1) := dk_172 (dk_at dksX4_together_0 14 rfl rfl)
theorem dX4_together_15 : decode cX4_together 15 = .ok (.aload_n 0, 1) := dk_42 (dk_at dksX4_together_0 15 rfl rfl)
theorem dX4_together_16 : decode cX4_together 16 = .ok (.invokevirtual 381, 3) := dk_182 1 125 (dk_at dksX4_together_0 16 rfl rfl)
theorem dX4_together_19 : decode cX4_together 19 = .ok (.aload_n 0, 1) := dk_42 (dk_at dksX4_together_0 19 rfl rfl)
theorem dX4_together_20 : decode cX4_together 20 = .ok (.iload_n 1, 1) := dk_27 (dk_at dksX4_together_0 20 rfl rfl)
theorem dX4_together_21 : decode cX4_together 21 = .ok (.iconst 0, 1) := dk_3 (dk_at dksX4_together_0 21 rfl rfl)
theorem dX4_together_22 : decode cX4_together 22 = .ok (.invokevirtual 387, 3) := dk_182 1 131 (dk_at dksX4_together_1 0 rfl rfl)
theorem dX4_together_25 : decode cX4_together 25 = .ok (.ireturn, 1) := dk_172 (dk_at dksX4_together_1 3 rfl rfl)
abbrev cX4_isSome : ByteArray := prog_12_method_64_code
def yX4_isSome : MethodName := ⟨RX4, "isSome", "(I)Z"⟩
def dkwX4_isSome_1 : List UInt8 := [172]
abbrev dktX4_isSome_1 : List UInt8 := dkwX4_isSome_1 ++ []
def dkwX4_isSome_0 : List UInt8 := [42, 27, 155, 0, 17, 27, 4, 42, 180, 1, 13, 120, 162, 0, 7, 4, 167, 0, 4, 3, 4, 182, 1, 6]
abbrev dktX4_isSome_0 : List UInt8 := dkwX4_isSome_0 ++ dktX4_isSome_1
theorem dksX4_isSome_0 : cX4_isSome.data.toList.drop 0 = dktX4_isSome_0 := by decide +kernel
theorem dksX4_isSome_1 : cX4_isSome.data.toList.drop 24 = dktX4_isSome_1 := dk_seg dksX4_isSome_0 24 rfl rfl
theorem dX4_isSome_0 : decode cX4_isSome 0 = .ok (.aload_n 0, 1) := dk_42 (dk_at dksX4_isSome_0 0 rfl rfl)
theorem dX4_isSome_1 : decode cX4_isSome 1 = .ok (.iload_n 1, 1) := dk_27 (dk_at dksX4_isSome_0 1 rfl rfl)
theorem dX4_isSome_2 : decode cX4_isSome 2 = .ok (.ifCond .lt 17, 3) := dk_155 0 17 (dk_at dksX4_isSome_0 2 rfl rfl)
theorem dX4_isSome_5 : decode cX4_isSome 5 = .ok (.iload_n 1, 1) := dk_27 (dk_at dksX4_isSome_0 5 rfl rfl)
theorem dX4_isSome_6 : decode cX4_isSome 6 = .ok (.iconst 1, 1) := dk_4 (dk_at dksX4_isSome_0 6 rfl rfl)
theorem dX4_isSome_7 : decode cX4_isSome 7 = .ok (.aload_n 0, 1) := dk_42 (dk_at dksX4_isSome_0 7 rfl rfl)
theorem dX4_isSome_8 : decode cX4_isSome 8 = .ok (.getfield 269, 3) := dk_180 1 13 (dk_at dksX4_isSome_0 8 rfl rfl)
theorem dX4_isSome_11 : decode cX4_isSome 11 = .ok (.ishl, 1) := dk_120 (dk_at dksX4_isSome_0 11 rfl rfl)
theorem dX4_isSome_12 : decode cX4_isSome 12 = .ok (.if_icmp .ge 7, 3) := dk_162 0 7 (dk_at dksX4_isSome_0 12 rfl rfl)
theorem dX4_isSome_15 : decode cX4_isSome 15 = .ok (.iconst 1, 1) := dk_4 (dk_at dksX4_isSome_0 15 rfl rfl)
theorem dX4_isSome_16 : decode cX4_isSome 16 = .ok (.goto 4, 3) := dk_167 0 4 (dk_at dksX4_isSome_0 16 rfl rfl)
theorem dX4_isSome_19 : decode cX4_isSome 19 = .ok (.iconst 0, 1) := dk_3 (dk_at dksX4_isSome_0 19 rfl rfl)
theorem dX4_isSome_20 : decode cX4_isSome 20 = .ok (.iconst 1, 1) := dk_4 (dk_at dksX4_isSome_0 20 rfl rfl)
theorem dX4_isSome_21 : decode cX4_isSome 21 = .ok (.invokevirtual 262, 3) := dk_182 1 6 (dk_at dksX4_isSome_0 21 rfl rfl)
theorem dX4_isSome_24 : decode cX4_isSome 24 = .ok (.ireturn, 1) := dk_172 (dk_at dksX4_isSome_1 0 rfl rfl)
abbrev cX4_pause : ByteArray := prog_12_method_82_code
def yX4_pause : MethodName := ⟨RX4, "pause", "(I)I"⟩
def dkwX4_pause_2 : List UInt8 := [160, 0, 7, 2, 167, 0, 6, 29, 28, 100, 172]
abbrev dktX4_pause_2 : List UInt8 := dkwX4_pause_2 ++ []
def dkwX4_pause_1 : List UInt8 := [182, 1, 131, 61, 28, 2, 160, 0, 7, 2, 167, 0, 11, 42, 4, 27, 120, 28, 182, 1, 131, 62, 29, 2]
abbrev dktX4_pause_1 : List UInt8 := dkwX4_pause_1 ++ dktX4_pause_2
def dkwX4_pause_0 : List UInt8 := [42, 3, 181, 0, 114, 42, 27, 182, 1, 95, 154, 0, 5, 3, 172, 42, 182, 1, 125, 42, 4, 27, 120, 3]
abbrev dktX4_pause_0 : List UInt8 := dkwX4_pause_0 ++ dktX4_pause_1
theorem dksX4_pause_0 : cX4_pause.data.toList.drop 0 = dktX4_pause_0 := by decide +kernel
theorem dksX4_pause_1 : cX4_pause.data.toList.drop 24 = dktX4_pause_1 := dk_seg dksX4_pause_0 24 rfl rfl
theorem dksX4_pause_2 : cX4_pause.data.toList.drop 48 = dktX4_pause_2 := dk_seg dksX4_pause_1 24 rfl rfl
theorem dX4_pause_0 : decode cX4_pause 0 = .ok (.aload_n 0, 1) := dk_42 (dk_at dksX4_pause_0 0 rfl rfl)
theorem dX4_pause_1 : decode cX4_pause 1 = .ok (.iconst 0, 1) := dk_3 (dk_at dksX4_pause_0 1 rfl rfl)
theorem dX4_pause_2 : decode cX4_pause 2 = .ok (.putfield 114, 3) := dk_181 0 114 (dk_at dksX4_pause_0 2 rfl rfl)
theorem dX4_pause_5 : decode cX4_pause 5 = .ok (.aload_n 0, 1) := dk_42 (dk_at dksX4_pause_0 5 rfl rfl)
theorem dX4_pause_6 : decode cX4_pause 6 = .ok (.iload_n 1, 1) := dk_27 (dk_at dksX4_pause_0 6 rfl rfl)
theorem dX4_pause_7 : decode cX4_pause 7 = .ok (.invokevirtual 351, 3) := dk_182 1 95 (dk_at dksX4_pause_0 7 rfl rfl)
theorem dX4_pause_10 : decode cX4_pause 10 = .ok (.ifCond .ne 5, 3) := dk_154 0 5 (dk_at dksX4_pause_0 10 rfl rfl)
theorem dX4_pause_13 : decode cX4_pause 13 = .ok (.iconst 0, 1) := dk_3 (dk_at dksX4_pause_0 13 rfl rfl)
theorem dX4_pause_14 : decode cX4_pause 14 = .ok (.ireturn, 1) := dk_172 (dk_at dksX4_pause_0 14 rfl rfl)
theorem dX4_pause_15 : decode cX4_pause 15 = .ok (.aload_n 0, 1) := dk_42 (dk_at dksX4_pause_0 15 rfl rfl)
theorem dX4_pause_16 : decode cX4_pause 16 = .ok (.invokevirtual 381, 3) := dk_182 1 125 (dk_at dksX4_pause_0 16 rfl rfl)
theorem dX4_pause_19 : decode cX4_pause 19 = .ok (.aload_n 0, 1) := dk_42 (dk_at dksX4_pause_0 19 rfl rfl)
theorem dX4_pause_20 : decode cX4_pause 20 = .ok (.iconst 1, 1) := dk_4 (dk_at dksX4_pause_0 20 rfl rfl)
theorem dX4_pause_21 : decode cX4_pause 21 = .ok (.iload_n 1, 1) := dk_27 (dk_at dksX4_pause_0 21 rfl rfl)
theorem dX4_pause_22 : decode cX4_pause 22 = .ok (.ishl, 1) := dk_120 (dk_at dksX4_pause_0 22 rfl rfl)
theorem dX4_pause_23 : decode cX4_pause 23 = .ok (.iconst 0, 1) := dk_3 (dk_at dksX4_pause_0 23 rfl rfl)
theorem dX4_pause_24 : decode cX4_pause 24 = .ok (.invokevirtual 387, 3) := dk_182 1 131 (dk_at dksX4_pause_1 0 rfl rfl)
theorem dX4_pause_27 : decode cX4_pause 27 = .ok (.istore_n 2, 1) := dk_61 (dk_at dksX4_pause_1 3 rfl rfl)
theorem dX4_pause_28 : decode cX4_pause 28 = .ok (.iload_n 2, 1) := dk_28 (dk_at dksX4_pause_1 4 rfl rfl)
theorem dX4_pause_29 : decode cX4_pause 29 = .ok (.iconst (-1), 1) := dk_2 (dk_at dksX4_pause_1 5 rfl rfl)
theorem dX4_pause_30 : decode cX4_pause 30 = .ok (.if_icmp .ne 7, 3) := dk_160 0 7 (dk_at dksX4_pause_1 6 rfl rfl)
theorem dX4_pause_33 : decode cX4_pause 33 = .ok (.iconst (-1), 1) := dk_2 (dk_at dksX4_pause_1 9 rfl rfl)
theorem dX4_pause_34 : decode cX4_pause 34 = .ok (.goto 11, 3) := dk_167 0 11 (dk_at dksX4_pause_1 10 rfl rfl)
theorem dX4_pause_37 : decode cX4_pause 37 = .ok (.aload_n 0, 1) := dk_42 (dk_at dksX4_pause_1 13 rfl rfl)
theorem dX4_pause_38 : decode cX4_pause 38 = .ok (.iconst 1, 1) := dk_4 (dk_at dksX4_pause_1 14 rfl rfl)
theorem dX4_pause_39 : decode cX4_pause 39 = .ok (.iload_n 1, 1) := dk_27 (dk_at dksX4_pause_1 15 rfl rfl)
theorem dX4_pause_40 : decode cX4_pause 40 = .ok (.ishl, 1) := dk_120 (dk_at dksX4_pause_1 16 rfl rfl)
theorem dX4_pause_41 : decode cX4_pause 41 = .ok (.iload_n 2, 1) := dk_28 (dk_at dksX4_pause_1 17 rfl rfl)
theorem dX4_pause_42 : decode cX4_pause 42 = .ok (.invokevirtual 387, 3) := dk_182 1 131 (dk_at dksX4_pause_1 18 rfl rfl)
theorem dX4_pause_45 : decode cX4_pause 45 = .ok (.istore_n 3, 1) := dk_62 (dk_at dksX4_pause_1 21 rfl rfl)
theorem dX4_pause_46 : decode cX4_pause 46 = .ok (.iload_n 3, 1) := dk_29 (dk_at dksX4_pause_1 22 rfl rfl)
theorem dX4_pause_47 : decode cX4_pause 47 = .ok (.iconst (-1), 1) := dk_2 (dk_at dksX4_pause_1 23 rfl rfl)
theorem dX4_pause_48 : decode cX4_pause 48 = .ok (.if_icmp .ne 7, 3) := dk_160 0 7 (dk_at dksX4_pause_2 0 rfl rfl)
theorem dX4_pause_51 : decode cX4_pause 51 = .ok (.iconst (-1), 1) := dk_2 (dk_at dksX4_pause_2 3 rfl rfl)
theorem dX4_pause_52 : decode cX4_pause 52 = .ok (.goto 6, 3) := dk_167 0 6 (dk_at dksX4_pause_2 4 rfl rfl)
theorem dX4_pause_55 : decode cX4_pause 55 = .ok (.iload_n 3, 1) := dk_29 (dk_at dksX4_pause_2 7 rfl rfl)
theorem dX4_pause_56 : decode cX4_pause 56 = .ok (.iload_n 2, 1) := dk_28 (dk_at dksX4_pause_2 8 rfl rfl)
theorem dX4_pause_57 : decode cX4_pause 57 = .ok (.isub, 1) := dk_100 (dk_at dksX4_pause_2 9 rfl rfl)
theorem dX4_pause_58 : decode cX4_pause 58 = .ok (.ireturn, 1) := dk_172 (dk_at dksX4_pause_2 10 rfl rfl)
abbrev cX4_sound : ByteArray := prog_12_method_83_code
def yX4_sound : MethodName := ⟨RX4, "sound", "(II)I"⟩
def dkwX4_sound_5 : List UInt8 := [21, 4, 167, 0, 5, 21, 5, 172]
abbrev dktX4_sound_5 : List UInt8 := dkwX4_sound_5 ++ []
def dkwX4_sound_4 : List UInt8 := [21, 7, 54, 5, 42, 180, 1, 44, 184, 1, 137, 54, 6, 132, 7, 1, 167, 255, 190, 28, 154, 0, 8]
abbrev dktX4_sound_4 : List UInt8 := dkwX4_sound_4 ++ dktX4_sound_5
def dkwX4_sound_3 : List UInt8 := [21, 4, 29, 184, 1, 92, 54, 4, 42, 180, 1, 44, 184, 1, 137, 21, 6, 163, 0, 6, 167, 0, 16]
abbrev dktX4_sound_3 : List UInt8 := dkwX4_sound_3 ++ dktX4_sound_4
def dkwX4_sound_2 : List UInt8 := [163, 0, 66, 42, 16, 64, 182, 1, 67, 42, 180, 1, 44, 154, 0, 9, 29, 4, 96, 167, 0, 4, 3, 62]
abbrev dktX4_sound_2 : List UInt8 := dkwX4_sound_2 ++ dktX4_sound_3
def dkwX4_sound_1 : List UInt8 := [3, 172, 3, 62, 3, 54, 4, 2, 54, 5, 2, 54, 6, 42, 182, 1, 125, 4, 54, 7, 21, 7, 27]
abbrev dktX4_sound_1 : List UInt8 := dkwX4_sound_1 ++ dktX4_sound_2
def dkwX4_sound_0 : List UInt8 := [42, 3, 181, 0, 114, 42, 28, 4, 182, 1, 98, 153, 0, 13, 42, 27, 4, 5, 182, 1, 122, 154, 0, 5]
abbrev dktX4_sound_0 : List UInt8 := dkwX4_sound_0 ++ dktX4_sound_1
theorem dksX4_sound_0 : cX4_sound.data.toList.drop 0 = dktX4_sound_0 := by decide +kernel
theorem dksX4_sound_1 : cX4_sound.data.toList.drop 24 = dktX4_sound_1 := dk_seg dksX4_sound_0 24 rfl rfl
theorem dksX4_sound_2 : cX4_sound.data.toList.drop 47 = dktX4_sound_2 := dk_seg dksX4_sound_1 23 rfl rfl
theorem dksX4_sound_3 : cX4_sound.data.toList.drop 71 = dktX4_sound_3 := dk_seg dksX4_sound_2 24 rfl rfl
theorem dksX4_sound_4 : cX4_sound.data.toList.drop 94 = dktX4_sound_4 := dk_seg dksX4_sound_3 23 rfl rfl
theorem dksX4_sound_5 : cX4_sound.data.toList.drop 117 = dktX4_sound_5 := dk_seg dksX4_sound_4 23 rfl rfl
theorem dX4_sound_0 : decode cX4_sound 0 = .ok (.aload_n 0, 1) := dk_42 (dk_at dksX4_sound_0 0 rfl rfl)
theorem dX4_sound_1 : decode cX4_sound 1 = .ok (.iconst 0, 1) := dk_3 (dk_at dksX4_sound_0 1 rfl rfl)
theorem dX4_sound_2 : decode cX4_sound 2 = .ok (.putfield 114, 3) := dk_181 0 114 (dk_at dksX4_sound_0 2 rfl rfl)
theorem dX4_sound_5 : decode cX4_sound 5 = .ok (.aload_n 0, 1) := dk_42 (dk_at dksX4_sound_0 5 rfl rfl)
theorem dX4_sound_6 : decode cX4_sound 6 = .ok (.iload_n 2, 1) := dk_28 (dk_at dksX4_sound_0 6 rfl rfl)
theorem dX4_sound_7 : decode cX4_sound 7 = .ok (.iconst 1, 1) := dk_4 (dk_at dksX4_sound_0 7 rfl rfl)
theorem dX4_sound_8 : decode cX4_sound 8 = .ok (.invokevirtual 354, 3) := dk_182 1 98 (dk_at dksX4_sound_0 8 rfl rfl)
theorem dX4_sound_11 : decode cX4_sound 11 = .ok (.ifCond .eq 13, 3) := dk_153 0 13 (dk_at dksX4_sound_0 11 rfl rfl)
theorem dX4_sound_14 : decode cX4_sound 14 = .ok (.aload_n 0, 1) := dk_42 (dk_at dksX4_sound_0 14 rfl rfl)
theorem dX4_sound_15 : decode cX4_sound 15 = .ok (.iload_n 1, 1) := dk_27 (dk_at dksX4_sound_0 15 rfl rfl)
theorem dX4_sound_16 : decode cX4_sound 16 = .ok (.iconst 1, 1) := dk_4 (dk_at dksX4_sound_0 16 rfl rfl)
theorem dX4_sound_17 : decode cX4_sound 17 = .ok (.iconst 2, 1) := dk_5 (dk_at dksX4_sound_0 17 rfl rfl)
theorem dX4_sound_18 : decode cX4_sound 18 = .ok (.invokevirtual 378, 3) := dk_182 1 122 (dk_at dksX4_sound_0 18 rfl rfl)
theorem dX4_sound_21 : decode cX4_sound 21 = .ok (.ifCond .ne 5, 3) := dk_154 0 5 (dk_at dksX4_sound_0 21 rfl rfl)
theorem dX4_sound_24 : decode cX4_sound 24 = .ok (.iconst 0, 1) := dk_3 (dk_at dksX4_sound_1 0 rfl rfl)
theorem dX4_sound_25 : decode cX4_sound 25 = .ok (.ireturn, 1) := dk_172 (dk_at dksX4_sound_1 1 rfl rfl)
theorem dX4_sound_26 : decode cX4_sound 26 = .ok (.iconst 0, 1) := dk_3 (dk_at dksX4_sound_1 2 rfl rfl)
theorem dX4_sound_27 : decode cX4_sound 27 = .ok (.istore_n 3, 1) := dk_62 (dk_at dksX4_sound_1 3 rfl rfl)
theorem dX4_sound_28 : decode cX4_sound 28 = .ok (.iconst 0, 1) := dk_3 (dk_at dksX4_sound_1 4 rfl rfl)
theorem dX4_sound_29 : decode cX4_sound 29 = .ok (.istore 4, 2) := dk_54 4 (dk_at dksX4_sound_1 5 rfl rfl)
theorem dX4_sound_31 : decode cX4_sound 31 = .ok (.iconst (-1), 1) := dk_2 (dk_at dksX4_sound_1 7 rfl rfl)
theorem dX4_sound_32 : decode cX4_sound 32 = .ok (.istore 5, 2) := dk_54 5 (dk_at dksX4_sound_1 8 rfl rfl)
theorem dX4_sound_34 : decode cX4_sound 34 = .ok (.iconst (-1), 1) := dk_2 (dk_at dksX4_sound_1 10 rfl rfl)
theorem dX4_sound_35 : decode cX4_sound 35 = .ok (.istore 6, 2) := dk_54 6 (dk_at dksX4_sound_1 11 rfl rfl)
theorem dX4_sound_37 : decode cX4_sound 37 = .ok (.aload_n 0, 1) := dk_42 (dk_at dksX4_sound_1 13 rfl rfl)
theorem dX4_sound_38 : decode cX4_sound 38 = .ok (.invokevirtual 381, 3) := dk_182 1 125 (dk_at dksX4_sound_1 14 rfl rfl)
theorem dX4_sound_41 : decode cX4_sound 41 = .ok (.iconst 1, 1) := dk_4 (dk_at dksX4_sound_1 17 rfl rfl)
theorem dX4_sound_42 : decode cX4_sound 42 = .ok (.istore 7, 2) := dk_54 7 (dk_at dksX4_sound_1 18 rfl rfl)
theorem dX4_sound_44 : decode cX4_sound 44 = .ok (.iload 7, 2) := dk_21 7 (dk_at dksX4_sound_1 20 rfl rfl)
theorem dX4_sound_46 : decode cX4_sound 46 = .ok (.iload_n 1, 1) := dk_27 (dk_at dksX4_sound_1 22 rfl rfl)
theorem dX4_sound_47 : decode cX4_sound 47 = .ok (.if_icmp .gt 66, 3) := dk_163 0 66 (dk_at dksX4_sound_2 0 rfl rfl)
theorem dX4_sound_50 : decode cX4_sound 50 = .ok (.aload_n 0, 1) := dk_42 (dk_at dksX4_sound_2 3 rfl rfl)
theorem dX4_sound_51 : decode cX4_sound 51 = .ok (.bipush 64, 2) := dk_16 64 (dk_at dksX4_sound_2 4 rfl rfl)
theorem dX4_sound_53 : decode cX4_sound 53 = .ok (.invokevirtual 323, 3) := dk_182 1 67 (dk_at dksX4_sound_2 6 rfl rfl)
theorem dX4_sound_56 : decode cX4_sound 56 = .ok (.aload_n 0, 1) := dk_42 (dk_at dksX4_sound_2 9 rfl rfl)
theorem dX4_sound_57 : decode cX4_sound 57 = .ok (.getfield 300, 3) := dk_180 1 44 (dk_at dksX4_sound_2 10 rfl rfl)
theorem dX4_sound_60 : decode cX4_sound 60 = .ok (.ifCond .ne 9, 3) := dk_154 0 9 (dk_at dksX4_sound_2 13 rfl rfl)
theorem dX4_sound_63 : decode cX4_sound 63 = .ok (.iload_n 3, 1) := dk_29 (dk_at dksX4_sound_2 16 rfl rfl)
theorem dX4_sound_64 : decode cX4_sound 64 = .ok (.iconst 1, 1) := dk_4 (dk_at dksX4_sound_2 17 rfl rfl)
theorem dX4_sound_65 : decode cX4_sound 65 = .ok (.iadd, 1) := dk_96 (dk_at dksX4_sound_2 18 rfl rfl)
theorem dX4_sound_66 : decode cX4_sound 66 = .ok (.goto 4, 3) := dk_167 0 4 (dk_at dksX4_sound_2 19 rfl rfl)
theorem dX4_sound_69 : decode cX4_sound 69 = .ok (.iconst 0, 1) := dk_3 (dk_at dksX4_sound_2 22 rfl rfl)
theorem dX4_sound_70 : decode cX4_sound 70 = .ok (.istore_n 3, 1) := dk_62 (dk_at dksX4_sound_2 23 rfl rfl)
theorem dX4_sound_71 : decode cX4_sound 71 = .ok (.iload 4, 2) := dk_21 4 (dk_at dksX4_sound_3 0 rfl rfl)
theorem dX4_sound_73 : decode cX4_sound 73 = .ok (.iload_n 3, 1) := dk_29 (dk_at dksX4_sound_3 2 rfl rfl)
theorem dX4_sound_74 : decode cX4_sound 74 = .ok (.invokestatic 348, 3) := dk_184 1 92 (dk_at dksX4_sound_3 3 rfl rfl)
theorem dX4_sound_77 : decode cX4_sound 77 = .ok (.istore 4, 2) := dk_54 4 (dk_at dksX4_sound_3 6 rfl rfl)
theorem dX4_sound_79 : decode cX4_sound 79 = .ok (.aload_n 0, 1) := dk_42 (dk_at dksX4_sound_3 8 rfl rfl)
theorem dX4_sound_80 : decode cX4_sound 80 = .ok (.getfield 300, 3) := dk_180 1 44 (dk_at dksX4_sound_3 9 rfl rfl)
theorem dX4_sound_83 : decode cX4_sound 83 = .ok (.invokestatic 393, 3) := dk_184 1 137 (dk_at dksX4_sound_3 12 rfl rfl)
theorem dX4_sound_86 : decode cX4_sound 86 = .ok (.iload 6, 2) := dk_21 6 (dk_at dksX4_sound_3 15 rfl rfl)
theorem dX4_sound_88 : decode cX4_sound 88 = .ok (.if_icmp .gt 6, 3) := dk_163 0 6 (dk_at dksX4_sound_3 17 rfl rfl)
theorem dX4_sound_91 : decode cX4_sound 91 = .ok (.goto 16, 3) := dk_167 0 16 (dk_at dksX4_sound_3 20 rfl rfl)
theorem dX4_sound_94 : decode cX4_sound 94 = .ok (.iload 7, 2) := dk_21 7 (dk_at dksX4_sound_4 0 rfl rfl)
theorem dX4_sound_96 : decode cX4_sound 96 = .ok (.istore 5, 2) := dk_54 5 (dk_at dksX4_sound_4 2 rfl rfl)
theorem dX4_sound_98 : decode cX4_sound 98 = .ok (.aload_n 0, 1) := dk_42 (dk_at dksX4_sound_4 4 rfl rfl)
theorem dX4_sound_99 : decode cX4_sound 99 = .ok (.getfield 300, 3) := dk_180 1 44 (dk_at dksX4_sound_4 5 rfl rfl)
theorem dX4_sound_102 : decode cX4_sound 102 = .ok (.invokestatic 393, 3) := dk_184 1 137 (dk_at dksX4_sound_4 8 rfl rfl)
theorem dX4_sound_105 : decode cX4_sound 105 = .ok (.istore 6, 2) := dk_54 6 (dk_at dksX4_sound_4 11 rfl rfl)
theorem dX4_sound_107 : decode cX4_sound 107 = .ok (.iinc 7 1, 3) := dk_132 7 1 (dk_at dksX4_sound_4 13 rfl rfl)
theorem dX4_sound_110 : decode cX4_sound 110 = .ok (.goto (-66), 3) := dk_167 255 190 (dk_at dksX4_sound_4 16 rfl rfl)
theorem dX4_sound_113 : decode cX4_sound 113 = .ok (.iload_n 2, 1) := dk_28 (dk_at dksX4_sound_4 19 rfl rfl)
theorem dX4_sound_114 : decode cX4_sound 114 = .ok (.ifCond .ne 8, 3) := dk_154 0 8 (dk_at dksX4_sound_4 20 rfl rfl)
theorem dX4_sound_117 : decode cX4_sound 117 = .ok (.iload 4, 2) := dk_21 4 (dk_at dksX4_sound_5 0 rfl rfl)
theorem dX4_sound_119 : decode cX4_sound 119 = .ok (.goto 5, 3) := dk_167 0 5 (dk_at dksX4_sound_5 2 rfl rfl)
theorem dX4_sound_122 : decode cX4_sound 122 = .ok (.iload 5, 2) := dk_21 5 (dk_at dksX4_sound_5 5 rfl rfl)
theorem dX4_sound_124 : decode cX4_sound 124 = .ok (.ireturn, 1) := dk_172 (dk_at dksX4_sound_5 7 rfl rfl)
abbrev cX4_bits : ByteArray := prog_12_method_9_code
def yX4_bits : MethodName := ⟨RX4, "bits", "(I)I"⟩
def dkwX4_bits_1 : List UInt8 := [27, 172]
abbrev dktX4_bits_1 : List UInt8 := dkwX4_bits_1 ++ []
def dkwX4_bits_0 : List UInt8 := [3, 60, 3, 61, 28, 16, 9, 162, 0, 17, 27, 26, 28, 122, 4, 126, 96, 60, 132, 2, 1, 167, 255, 239]
abbrev dktX4_bits_0 : List UInt8 := dkwX4_bits_0 ++ dktX4_bits_1
theorem dksX4_bits_0 : cX4_bits.data.toList.drop 0 = dktX4_bits_0 := by decide +kernel
theorem dksX4_bits_1 : cX4_bits.data.toList.drop 24 = dktX4_bits_1 := dk_seg dksX4_bits_0 24 rfl rfl
theorem dX4_bits_0 : decode cX4_bits 0 = .ok (.iconst 0, 1) := dk_3 (dk_at dksX4_bits_0 0 rfl rfl)
theorem dX4_bits_1 : decode cX4_bits 1 = .ok (.istore_n 1, 1) := dk_60 (dk_at dksX4_bits_0 1 rfl rfl)
theorem dX4_bits_2 : decode cX4_bits 2 = .ok (.iconst 0, 1) := dk_3 (dk_at dksX4_bits_0 2 rfl rfl)
theorem dX4_bits_3 : decode cX4_bits 3 = .ok (.istore_n 2, 1) := dk_61 (dk_at dksX4_bits_0 3 rfl rfl)
theorem dX4_bits_4 : decode cX4_bits 4 = .ok (.iload_n 2, 1) := dk_28 (dk_at dksX4_bits_0 4 rfl rfl)
theorem dX4_bits_5 : decode cX4_bits 5 = .ok (.bipush 9, 2) := dk_16 9 (dk_at dksX4_bits_0 5 rfl rfl)
theorem dX4_bits_7 : decode cX4_bits 7 = .ok (.if_icmp .ge 17, 3) := dk_162 0 17 (dk_at dksX4_bits_0 7 rfl rfl)
theorem dX4_bits_10 : decode cX4_bits 10 = .ok (.iload_n 1, 1) := dk_27 (dk_at dksX4_bits_0 10 rfl rfl)
theorem dX4_bits_11 : decode cX4_bits 11 = .ok (.iload_n 0, 1) := dk_26 (dk_at dksX4_bits_0 11 rfl rfl)
theorem dX4_bits_12 : decode cX4_bits 12 = .ok (.iload_n 2, 1) := dk_28 (dk_at dksX4_bits_0 12 rfl rfl)
theorem dX4_bits_13 : decode cX4_bits 13 = .ok (.ishr, 1) := dk_122 (dk_at dksX4_bits_0 13 rfl rfl)
theorem dX4_bits_14 : decode cX4_bits 14 = .ok (.iconst 1, 1) := dk_4 (dk_at dksX4_bits_0 14 rfl rfl)
theorem dX4_bits_15 : decode cX4_bits 15 = .ok (.iand, 1) := dk_126 (dk_at dksX4_bits_0 15 rfl rfl)
theorem dX4_bits_16 : decode cX4_bits 16 = .ok (.iadd, 1) := dk_96 (dk_at dksX4_bits_0 16 rfl rfl)
theorem dX4_bits_17 : decode cX4_bits 17 = .ok (.istore_n 1, 1) := dk_60 (dk_at dksX4_bits_0 17 rfl rfl)
theorem dX4_bits_18 : decode cX4_bits 18 = .ok (.iinc 2 1, 3) := dk_132 2 1 (dk_at dksX4_bits_0 18 rfl rfl)
theorem dX4_bits_21 : decode cX4_bits 21 = .ok (.goto (-17), 3) := dk_167 255 239 (dk_at dksX4_bits_0 21 rfl rfl)
theorem dX4_bits_24 : decode cX4_bits 24 = .ok (.iload_n 1, 1) := dk_27 (dk_at dksX4_bits_1 0 rfl rfl)
theorem dX4_bits_25 : decode cX4_bits 25 = .ok (.ireturn, 1) := dk_172 (dk_at dksX4_bits_1 1 rfl rfl)
abbrev cX4_chorus : ByteArray := prog_12_method_84_code
def yX4_chorus : MethodName := ⟨RX4, "chorus", "(II)I"⟩
def dkwX4_chorus_2 : List UInt8 := [180, 1, 44, 27, 126, 27, 160, 0, 7, 4, 167, 0, 4, 3, 96, 62, 132, 4, 1, 167, 255, 223, 29, 172]
abbrev dktX4_chorus_2 : List UInt8 := dkwX4_chorus_2 ++ []
def dkwX4_chorus_1 : List UInt8 := [172, 3, 62, 42, 182, 1, 125, 3, 54, 4, 21, 4, 28, 162, 0, 33, 42, 16, 64, 182, 1, 67, 29, 42]
abbrev dktX4_chorus_1 : List UInt8 := dkwX4_chorus_1 ++ dktX4_chorus_2
def dkwX4_chorus_0 : List UInt8 := [42, 3, 181, 0, 114, 42, 27, 182, 1, 134, 153, 0, 13, 42, 28, 4, 4, 182, 1, 122, 154, 0, 5, 3]
abbrev dktX4_chorus_0 : List UInt8 := dkwX4_chorus_0 ++ dktX4_chorus_1
theorem dksX4_chorus_0 : cX4_chorus.data.toList.drop 0 = dktX4_chorus_0 := by decide +kernel
theorem dksX4_chorus_1 : cX4_chorus.data.toList.drop 24 = dktX4_chorus_1 := dk_seg dksX4_chorus_0 24 rfl rfl
theorem dksX4_chorus_2 : cX4_chorus.data.toList.drop 48 = dktX4_chorus_2 := dk_seg dksX4_chorus_1 24 rfl rfl
theorem dX4_chorus_0 : decode cX4_chorus 0 = .ok (.aload_n 0, 1) := dk_42 (dk_at dksX4_chorus_0 0 rfl rfl)
theorem dX4_chorus_1 : decode cX4_chorus 1 = .ok (.iconst 0, 1) := dk_3 (dk_at dksX4_chorus_0 1 rfl rfl)
theorem dX4_chorus_2 : decode cX4_chorus 2 = .ok (.putfield 114, 3) := dk_181 0 114 (dk_at dksX4_chorus_0 2 rfl rfl)
theorem dX4_chorus_5 : decode cX4_chorus 5 = .ok (.aload_n 0, 1) := dk_42 (dk_at dksX4_chorus_0 5 rfl rfl)
theorem dX4_chorus_6 : decode cX4_chorus 6 = .ok (.iload_n 1, 1) := dk_27 (dk_at dksX4_chorus_0 6 rfl rfl)
theorem dX4_chorus_7 : decode cX4_chorus 7 = .ok (.invokevirtual 390, 3) := dk_182 1 134 (dk_at dksX4_chorus_0 7 rfl rfl)
theorem dX4_chorus_10 : decode cX4_chorus 10 = .ok (.ifCond .eq 13, 3) := dk_153 0 13 (dk_at dksX4_chorus_0 10 rfl rfl)
theorem dX4_chorus_13 : decode cX4_chorus 13 = .ok (.aload_n 0, 1) := dk_42 (dk_at dksX4_chorus_0 13 rfl rfl)
theorem dX4_chorus_14 : decode cX4_chorus 14 = .ok (.iload_n 2, 1) := dk_28 (dk_at dksX4_chorus_0 14 rfl rfl)
theorem dX4_chorus_15 : decode cX4_chorus 15 = .ok (.iconst 1, 1) := dk_4 (dk_at dksX4_chorus_0 15 rfl rfl)
theorem dX4_chorus_16 : decode cX4_chorus 16 = .ok (.iconst 1, 1) := dk_4 (dk_at dksX4_chorus_0 16 rfl rfl)
theorem dX4_chorus_17 : decode cX4_chorus 17 = .ok (.invokevirtual 378, 3) := dk_182 1 122 (dk_at dksX4_chorus_0 17 rfl rfl)
theorem dX4_chorus_20 : decode cX4_chorus 20 = .ok (.ifCond .ne 5, 3) := dk_154 0 5 (dk_at dksX4_chorus_0 20 rfl rfl)
theorem dX4_chorus_23 : decode cX4_chorus 23 = .ok (.iconst 0, 1) := dk_3 (dk_at dksX4_chorus_0 23 rfl rfl)
theorem dX4_chorus_24 : decode cX4_chorus 24 = .ok (.ireturn, 1) := dk_172 (dk_at dksX4_chorus_1 0 rfl rfl)
theorem dX4_chorus_25 : decode cX4_chorus 25 = .ok (.iconst 0, 1) := dk_3 (dk_at dksX4_chorus_1 1 rfl rfl)
theorem dX4_chorus_26 : decode cX4_chorus 26 = .ok (.istore_n 3, 1) := dk_62 (dk_at dksX4_chorus_1 2 rfl rfl)
theorem dX4_chorus_27 : decode cX4_chorus 27 = .ok (.aload_n 0, 1) := dk_42 (dk_at dksX4_chorus_1 3 rfl rfl)
theorem dX4_chorus_28 : decode cX4_chorus 28 = .ok (.invokevirtual 381, 3) := dk_182 1 125 (dk_at dksX4_chorus_1 4 rfl rfl)
theorem dX4_chorus_31 : decode cX4_chorus 31 = .ok (.iconst 0, 1) := dk_3 (dk_at dksX4_chorus_1 7 rfl rfl)
theorem dX4_chorus_32 : decode cX4_chorus 32 = .ok (.istore 4, 2) := dk_54 4 (dk_at dksX4_chorus_1 8 rfl rfl)
theorem dX4_chorus_34 : decode cX4_chorus 34 = .ok (.iload 4, 2) := dk_21 4 (dk_at dksX4_chorus_1 10 rfl rfl)
theorem dX4_chorus_36 : decode cX4_chorus 36 = .ok (.iload_n 2, 1) := dk_28 (dk_at dksX4_chorus_1 12 rfl rfl)
theorem dX4_chorus_37 : decode cX4_chorus 37 = .ok (.if_icmp .ge 33, 3) := dk_162 0 33 (dk_at dksX4_chorus_1 13 rfl rfl)
theorem dX4_chorus_40 : decode cX4_chorus 40 = .ok (.aload_n 0, 1) := dk_42 (dk_at dksX4_chorus_1 16 rfl rfl)
theorem dX4_chorus_41 : decode cX4_chorus 41 = .ok (.bipush 64, 2) := dk_16 64 (dk_at dksX4_chorus_1 17 rfl rfl)
theorem dX4_chorus_43 : decode cX4_chorus 43 = .ok (.invokevirtual 323, 3) := dk_182 1 67 (dk_at dksX4_chorus_1 19 rfl rfl)
theorem dX4_chorus_46 : decode cX4_chorus 46 = .ok (.iload_n 3, 1) := dk_29 (dk_at dksX4_chorus_1 22 rfl rfl)
theorem dX4_chorus_47 : decode cX4_chorus 47 = .ok (.aload_n 0, 1) := dk_42 (dk_at dksX4_chorus_1 23 rfl rfl)
theorem dX4_chorus_48 : decode cX4_chorus 48 = .ok (.getfield 300, 3) := dk_180 1 44 (dk_at dksX4_chorus_2 0 rfl rfl)
theorem dX4_chorus_51 : decode cX4_chorus 51 = .ok (.iload_n 1, 1) := dk_27 (dk_at dksX4_chorus_2 3 rfl rfl)
theorem dX4_chorus_52 : decode cX4_chorus 52 = .ok (.iand, 1) := dk_126 (dk_at dksX4_chorus_2 4 rfl rfl)
theorem dX4_chorus_53 : decode cX4_chorus 53 = .ok (.iload_n 1, 1) := dk_27 (dk_at dksX4_chorus_2 5 rfl rfl)
theorem dX4_chorus_54 : decode cX4_chorus 54 = .ok (.if_icmp .ne 7, 3) := dk_160 0 7 (dk_at dksX4_chorus_2 6 rfl rfl)
theorem dX4_chorus_57 : decode cX4_chorus 57 = .ok (.iconst 1, 1) := dk_4 (dk_at dksX4_chorus_2 9 rfl rfl)
theorem dX4_chorus_58 : decode cX4_chorus 58 = .ok (.goto 4, 3) := dk_167 0 4 (dk_at dksX4_chorus_2 10 rfl rfl)
theorem dX4_chorus_61 : decode cX4_chorus 61 = .ok (.iconst 0, 1) := dk_3 (dk_at dksX4_chorus_2 13 rfl rfl)
theorem dX4_chorus_62 : decode cX4_chorus 62 = .ok (.iadd, 1) := dk_96 (dk_at dksX4_chorus_2 14 rfl rfl)
theorem dX4_chorus_63 : decode cX4_chorus 63 = .ok (.istore_n 3, 1) := dk_62 (dk_at dksX4_chorus_2 15 rfl rfl)
theorem dX4_chorus_64 : decode cX4_chorus 64 = .ok (.iinc 4 1, 3) := dk_132 4 1 (dk_at dksX4_chorus_2 16 rfl rfl)
theorem dX4_chorus_67 : decode cX4_chorus 67 = .ok (.goto (-33), 3) := dk_167 255 223 (dk_at dksX4_chorus_2 19 rfl rfl)
theorem dX4_chorus_70 : decode cX4_chorus 70 = .ok (.iload_n 3, 1) := dk_29 (dk_at dksX4_chorus_2 22 rfl rfl)
theorem dX4_chorus_71 : decode cX4_chorus 71 = .ok (.ireturn, 1) := dk_172 (dk_at dksX4_chorus_2 23 rfl rfl)
abbrev cX4_never : ByteArray := prog_12_method_85_code
def yX4_never : MethodName := ⟨RX4, "never", "(I)I"⟩
def dkwX4_never_2 : List UInt8 := [2, 130, 126, 61, 132, 3, 1, 167, 255, 233, 28, 172]
abbrev dktX4_never_2 : List UInt8 := dkwX4_never_2 ++ []
def dkwX4_never_1 : List UInt8 := [100, 61, 42, 182, 1, 125, 3, 62, 29, 27, 162, 0, 24, 42, 16, 64, 182, 1, 67, 28, 42, 180, 1, 44]
abbrev dktX4_never_1 : List UInt8 := dkwX4_never_1 ++ dktX4_never_2
def dkwX4_never_0 : List UInt8 := [42, 3, 181, 0, 114, 42, 27, 4, 4, 182, 1, 122, 154, 0, 5, 3, 172, 4, 42, 180, 1, 13, 120, 4]
abbrev dktX4_never_0 : List UInt8 := dkwX4_never_0 ++ dktX4_never_1
theorem dksX4_never_0 : cX4_never.data.toList.drop 0 = dktX4_never_0 := by decide +kernel
theorem dksX4_never_1 : cX4_never.data.toList.drop 24 = dktX4_never_1 := dk_seg dksX4_never_0 24 rfl rfl
theorem dksX4_never_2 : cX4_never.data.toList.drop 48 = dktX4_never_2 := dk_seg dksX4_never_1 24 rfl rfl
theorem dX4_never_0 : decode cX4_never 0 = .ok (.aload_n 0, 1) := dk_42 (dk_at dksX4_never_0 0 rfl rfl)
theorem dX4_never_1 : decode cX4_never 1 = .ok (.iconst 0, 1) := dk_3 (dk_at dksX4_never_0 1 rfl rfl)
theorem dX4_never_2 : decode cX4_never 2 = .ok (.putfield 114, 3) := dk_181 0 114 (dk_at dksX4_never_0 2 rfl rfl)
theorem dX4_never_5 : decode cX4_never 5 = .ok (.aload_n 0, 1) := dk_42 (dk_at dksX4_never_0 5 rfl rfl)
theorem dX4_never_6 : decode cX4_never 6 = .ok (.iload_n 1, 1) := dk_27 (dk_at dksX4_never_0 6 rfl rfl)
theorem dX4_never_7 : decode cX4_never 7 = .ok (.iconst 1, 1) := dk_4 (dk_at dksX4_never_0 7 rfl rfl)
theorem dX4_never_8 : decode cX4_never 8 = .ok (.iconst 1, 1) := dk_4 (dk_at dksX4_never_0 8 rfl rfl)
theorem dX4_never_9 : decode cX4_never 9 = .ok (.invokevirtual 378, 3) := dk_182 1 122 (dk_at dksX4_never_0 9 rfl rfl)
theorem dX4_never_12 : decode cX4_never 12 = .ok (.ifCond .ne 5, 3) := dk_154 0 5 (dk_at dksX4_never_0 12 rfl rfl)
theorem dX4_never_15 : decode cX4_never 15 = .ok (.iconst 0, 1) := dk_3 (dk_at dksX4_never_0 15 rfl rfl)
theorem dX4_never_16 : decode cX4_never 16 = .ok (.ireturn, 1) := dk_172 (dk_at dksX4_never_0 16 rfl rfl)
theorem dX4_never_17 : decode cX4_never 17 = .ok (.iconst 1, 1) := dk_4 (dk_at dksX4_never_0 17 rfl rfl)
theorem dX4_never_18 : decode cX4_never 18 = .ok (.aload_n 0, 1) := dk_42 (dk_at dksX4_never_0 18 rfl rfl)
theorem dX4_never_19 : decode cX4_never 19 = .ok (.getfield 269, 3) := dk_180 1 13 (dk_at dksX4_never_0 19 rfl rfl)
theorem dX4_never_22 : decode cX4_never 22 = .ok (.ishl, 1) := dk_120 (dk_at dksX4_never_0 22 rfl rfl)
theorem dX4_never_23 : decode cX4_never 23 = .ok (.iconst 1, 1) := dk_4 (dk_at dksX4_never_0 23 rfl rfl)
theorem dX4_never_24 : decode cX4_never 24 = .ok (.isub, 1) := dk_100 (dk_at dksX4_never_1 0 rfl rfl)
theorem dX4_never_25 : decode cX4_never 25 = .ok (.istore_n 2, 1) := dk_61 (dk_at dksX4_never_1 1 rfl rfl)
theorem dX4_never_26 : decode cX4_never 26 = .ok (.aload_n 0, 1) := dk_42 (dk_at dksX4_never_1 2 rfl rfl)
theorem dX4_never_27 : decode cX4_never 27 = .ok (.invokevirtual 381, 3) := dk_182 1 125 (dk_at dksX4_never_1 3 rfl rfl)
theorem dX4_never_30 : decode cX4_never 30 = .ok (.iconst 0, 1) := dk_3 (dk_at dksX4_never_1 6 rfl rfl)
theorem dX4_never_31 : decode cX4_never 31 = .ok (.istore_n 3, 1) := dk_62 (dk_at dksX4_never_1 7 rfl rfl)
theorem dX4_never_32 : decode cX4_never 32 = .ok (.iload_n 3, 1) := dk_29 (dk_at dksX4_never_1 8 rfl rfl)
theorem dX4_never_33 : decode cX4_never 33 = .ok (.iload_n 1, 1) := dk_27 (dk_at dksX4_never_1 9 rfl rfl)
theorem dX4_never_34 : decode cX4_never 34 = .ok (.if_icmp .ge 24, 3) := dk_162 0 24 (dk_at dksX4_never_1 10 rfl rfl)
theorem dX4_never_37 : decode cX4_never 37 = .ok (.aload_n 0, 1) := dk_42 (dk_at dksX4_never_1 13 rfl rfl)
theorem dX4_never_38 : decode cX4_never 38 = .ok (.bipush 64, 2) := dk_16 64 (dk_at dksX4_never_1 14 rfl rfl)
theorem dX4_never_40 : decode cX4_never 40 = .ok (.invokevirtual 323, 3) := dk_182 1 67 (dk_at dksX4_never_1 16 rfl rfl)
theorem dX4_never_43 : decode cX4_never 43 = .ok (.iload_n 2, 1) := dk_28 (dk_at dksX4_never_1 19 rfl rfl)
theorem dX4_never_44 : decode cX4_never 44 = .ok (.aload_n 0, 1) := dk_42 (dk_at dksX4_never_1 20 rfl rfl)
theorem dX4_never_45 : decode cX4_never 45 = .ok (.getfield 300, 3) := dk_180 1 44 (dk_at dksX4_never_1 21 rfl rfl)
theorem dX4_never_48 : decode cX4_never 48 = .ok (.iconst (-1), 1) := dk_2 (dk_at dksX4_never_2 0 rfl rfl)
theorem dX4_never_49 : decode cX4_never 49 = .ok (.ixor, 1) := dk_130 (dk_at dksX4_never_2 1 rfl rfl)
theorem dX4_never_50 : decode cX4_never 50 = .ok (.iand, 1) := dk_126 (dk_at dksX4_never_2 2 rfl rfl)
theorem dX4_never_51 : decode cX4_never 51 = .ok (.istore_n 2, 1) := dk_61 (dk_at dksX4_never_2 3 rfl rfl)
theorem dX4_never_52 : decode cX4_never 52 = .ok (.iinc 3 1, 3) := dk_132 3 1 (dk_at dksX4_never_2 4 rfl rfl)
theorem dX4_never_55 : decode cX4_never 55 = .ok (.goto (-23), 3) := dk_167 255 233 (dk_at dksX4_never_2 7 rfl rfl)
theorem dX4_never_58 : decode cX4_never 58 = .ok (.iload_n 2, 1) := dk_28 (dk_at dksX4_never_2 10 rfl rfl)
theorem dX4_never_59 : decode cX4_never 59 = .ok (.ireturn, 1) := dk_172 (dk_at dksX4_never_2 11 rfl rfl)
abbrev cX4_swell : ByteArray := prog_12_method_86_code
def yX4_swell : MethodName := ⟨RX4, "swell", "(II)I"⟩
def dkwX4_swell_3 : List UInt8 := [167, 255, 227, 29, 172]
abbrev dktX4_swell_3 : List UInt8 := dkwX4_swell_3 ++ []
def dkwX4_swell_2 : List UInt8 := [42, 16, 64, 182, 1, 67, 29, 42, 180, 0, 51, 16, 74, 27, 96, 46, 184, 1, 92, 62, 132, 4, 1]
abbrev dktX4_swell_2 : List UInt8 := dkwX4_swell_2 ++ dktX4_swell_3
def dkwX4_swell_1 : List UInt8 := [172, 42, 180, 0, 51, 16, 10, 27, 96, 46, 62, 42, 182, 1, 125, 3, 54, 4, 21, 4, 28, 162, 0, 29]
abbrev dktX4_swell_1 : List UInt8 := dkwX4_swell_1 ++ dktX4_swell_2
def dkwX4_swell_0 : List UInt8 := [42, 3, 181, 0, 114, 42, 27, 182, 1, 95, 153, 0, 13, 42, 28, 3, 5, 182, 1, 122, 154, 0, 5, 3]
abbrev dktX4_swell_0 : List UInt8 := dkwX4_swell_0 ++ dktX4_swell_1
theorem dksX4_swell_0 : cX4_swell.data.toList.drop 0 = dktX4_swell_0 := by decide +kernel
theorem dksX4_swell_1 : cX4_swell.data.toList.drop 24 = dktX4_swell_1 := dk_seg dksX4_swell_0 24 rfl rfl
theorem dksX4_swell_2 : cX4_swell.data.toList.drop 48 = dktX4_swell_2 := dk_seg dksX4_swell_1 24 rfl rfl
theorem dksX4_swell_3 : cX4_swell.data.toList.drop 71 = dktX4_swell_3 := dk_seg dksX4_swell_2 23 rfl rfl
theorem dX4_swell_0 : decode cX4_swell 0 = .ok (.aload_n 0, 1) := dk_42 (dk_at dksX4_swell_0 0 rfl rfl)
theorem dX4_swell_1 : decode cX4_swell 1 = .ok (.iconst 0, 1) := dk_3 (dk_at dksX4_swell_0 1 rfl rfl)
theorem dX4_swell_2 : decode cX4_swell 2 = .ok (.putfield 114, 3) := dk_181 0 114 (dk_at dksX4_swell_0 2 rfl rfl)
theorem dX4_swell_5 : decode cX4_swell 5 = .ok (.aload_n 0, 1) := dk_42 (dk_at dksX4_swell_0 5 rfl rfl)
theorem dX4_swell_6 : decode cX4_swell 6 = .ok (.iload_n 1, 1) := dk_27 (dk_at dksX4_swell_0 6 rfl rfl)
theorem dX4_swell_7 : decode cX4_swell 7 = .ok (.invokevirtual 351, 3) := dk_182 1 95 (dk_at dksX4_swell_0 7 rfl rfl)
theorem dX4_swell_10 : decode cX4_swell 10 = .ok (.ifCond .eq 13, 3) := dk_153 0 13 (dk_at dksX4_swell_0 10 rfl rfl)
theorem dX4_swell_13 : decode cX4_swell 13 = .ok (.aload_n 0, 1) := dk_42 (dk_at dksX4_swell_0 13 rfl rfl)
theorem dX4_swell_14 : decode cX4_swell 14 = .ok (.iload_n 2, 1) := dk_28 (dk_at dksX4_swell_0 14 rfl rfl)
theorem dX4_swell_15 : decode cX4_swell 15 = .ok (.iconst 0, 1) := dk_3 (dk_at dksX4_swell_0 15 rfl rfl)
theorem dX4_swell_16 : decode cX4_swell 16 = .ok (.iconst 2, 1) := dk_5 (dk_at dksX4_swell_0 16 rfl rfl)
theorem dX4_swell_17 : decode cX4_swell 17 = .ok (.invokevirtual 378, 3) := dk_182 1 122 (dk_at dksX4_swell_0 17 rfl rfl)
theorem dX4_swell_20 : decode cX4_swell 20 = .ok (.ifCond .ne 5, 3) := dk_154 0 5 (dk_at dksX4_swell_0 20 rfl rfl)
theorem dX4_swell_23 : decode cX4_swell 23 = .ok (.iconst 0, 1) := dk_3 (dk_at dksX4_swell_0 23 rfl rfl)
theorem dX4_swell_24 : decode cX4_swell 24 = .ok (.ireturn, 1) := dk_172 (dk_at dksX4_swell_1 0 rfl rfl)
theorem dX4_swell_25 : decode cX4_swell 25 = .ok (.aload_n 0, 1) := dk_42 (dk_at dksX4_swell_1 1 rfl rfl)
theorem dX4_swell_26 : decode cX4_swell 26 = .ok (.getfield 51, 3) := dk_180 0 51 (dk_at dksX4_swell_1 2 rfl rfl)
theorem dX4_swell_29 : decode cX4_swell 29 = .ok (.bipush 10, 2) := dk_16 10 (dk_at dksX4_swell_1 5 rfl rfl)
theorem dX4_swell_31 : decode cX4_swell 31 = .ok (.iload_n 1, 1) := dk_27 (dk_at dksX4_swell_1 7 rfl rfl)
theorem dX4_swell_32 : decode cX4_swell 32 = .ok (.iadd, 1) := dk_96 (dk_at dksX4_swell_1 8 rfl rfl)
theorem dX4_swell_33 : decode cX4_swell 33 = .ok (.iaload, 1) := dk_46 (dk_at dksX4_swell_1 9 rfl rfl)
theorem dX4_swell_34 : decode cX4_swell 34 = .ok (.istore_n 3, 1) := dk_62 (dk_at dksX4_swell_1 10 rfl rfl)
theorem dX4_swell_35 : decode cX4_swell 35 = .ok (.aload_n 0, 1) := dk_42 (dk_at dksX4_swell_1 11 rfl rfl)
theorem dX4_swell_36 : decode cX4_swell 36 = .ok (.invokevirtual 381, 3) := dk_182 1 125 (dk_at dksX4_swell_1 12 rfl rfl)
theorem dX4_swell_39 : decode cX4_swell 39 = .ok (.iconst 0, 1) := dk_3 (dk_at dksX4_swell_1 15 rfl rfl)
theorem dX4_swell_40 : decode cX4_swell 40 = .ok (.istore 4, 2) := dk_54 4 (dk_at dksX4_swell_1 16 rfl rfl)
theorem dX4_swell_42 : decode cX4_swell 42 = .ok (.iload 4, 2) := dk_21 4 (dk_at dksX4_swell_1 18 rfl rfl)
theorem dX4_swell_44 : decode cX4_swell 44 = .ok (.iload_n 2, 1) := dk_28 (dk_at dksX4_swell_1 20 rfl rfl)
theorem dX4_swell_45 : decode cX4_swell 45 = .ok (.if_icmp .ge 29, 3) := dk_162 0 29 (dk_at dksX4_swell_1 21 rfl rfl)
theorem dX4_swell_48 : decode cX4_swell 48 = .ok (.aload_n 0, 1) := dk_42 (dk_at dksX4_swell_2 0 rfl rfl)
theorem dX4_swell_49 : decode cX4_swell 49 = .ok (.bipush 64, 2) := dk_16 64 (dk_at dksX4_swell_2 1 rfl rfl)
theorem dX4_swell_51 : decode cX4_swell 51 = .ok (.invokevirtual 323, 3) := dk_182 1 67 (dk_at dksX4_swell_2 3 rfl rfl)
theorem dX4_swell_54 : decode cX4_swell 54 = .ok (.iload_n 3, 1) := dk_29 (dk_at dksX4_swell_2 6 rfl rfl)
theorem dX4_swell_55 : decode cX4_swell 55 = .ok (.aload_n 0, 1) := dk_42 (dk_at dksX4_swell_2 7 rfl rfl)
theorem dX4_swell_56 : decode cX4_swell 56 = .ok (.getfield 51, 3) := dk_180 0 51 (dk_at dksX4_swell_2 8 rfl rfl)
theorem dX4_swell_59 : decode cX4_swell 59 = .ok (.bipush 74, 2) := dk_16 74 (dk_at dksX4_swell_2 11 rfl rfl)
theorem dX4_swell_61 : decode cX4_swell 61 = .ok (.iload_n 1, 1) := dk_27 (dk_at dksX4_swell_2 13 rfl rfl)
theorem dX4_swell_62 : decode cX4_swell 62 = .ok (.iadd, 1) := dk_96 (dk_at dksX4_swell_2 14 rfl rfl)
theorem dX4_swell_63 : decode cX4_swell 63 = .ok (.iaload, 1) := dk_46 (dk_at dksX4_swell_2 15 rfl rfl)
theorem dX4_swell_64 : decode cX4_swell 64 = .ok (.invokestatic 348, 3) := dk_184 1 92 (dk_at dksX4_swell_2 16 rfl rfl)
theorem dX4_swell_67 : decode cX4_swell 67 = .ok (.istore_n 3, 1) := dk_62 (dk_at dksX4_swell_2 19 rfl rfl)
theorem dX4_swell_68 : decode cX4_swell 68 = .ok (.iinc 4 1, 3) := dk_132 4 1 (dk_at dksX4_swell_2 20 rfl rfl)
theorem dX4_swell_71 : decode cX4_swell 71 = .ok (.goto (-29), 3) := dk_167 255 227 (dk_at dksX4_swell_3 0 rfl rfl)
theorem dX4_swell_74 : decode cX4_swell 74 = .ok (.iload_n 3, 1) := dk_29 (dk_at dksX4_swell_3 3 rfl rfl)
theorem dX4_swell_75 : decode cX4_swell 75 = .ok (.ireturn, 1) := dk_172 (dk_at dksX4_swell_3 4 rfl rfl)
abbrev cX4_later : ByteArray := prog_12_method_87_code
def yX4_later : MethodName := ⟨RX4, "later", "(II)I"⟩
def dkwX4_later_6 : List UInt8 := [28, 154, 0, 8, 21, 4, 167, 0, 14, 28, 4, 160, 0, 8, 21, 5, 167, 0, 4, 29, 172]
abbrev dktX4_later_6 : List UInt8 := dkwX4_later_6 ++ []
def dkwX4_later_5 : List UInt8 := [21, 6, 96, 46, 154, 0, 10, 4, 21, 6, 120, 167, 0, 4, 3, 128, 54, 5, 132, 6, 1, 167, 255, 185]
abbrev dktX4_later_5 : List UInt8 := dkwX4_later_5 ++ dktX4_later_6
def dkwX4_later_4 : List UInt8 := [180, 0, 51, 16, 74, 21, 4, 96, 46, 164, 0, 7, 21, 6, 54, 4, 21, 5, 42, 180, 0, 51, 16, 74]
abbrev dktX4_later_4 : List UInt8 := dkwX4_later_4 ++ dktX4_later_5
def dkwX4_later_3 : List UInt8 := [180, 1, 13, 162, 0, 68, 21, 4, 2, 159, 0, 26, 42, 180, 0, 51, 16, 74, 21, 6, 96, 46, 42]
abbrev dktX4_later_3 : List UInt8 := dkwX4_later_3 ++ dktX4_later_4
def dkwX4_later_2 : List UInt8 := [42, 180, 1, 37, 96, 62, 132, 4, 1, 167, 255, 234, 2, 54, 4, 3, 54, 5, 3, 54, 6, 21, 6, 42]
abbrev dktX4_later_2 : List UInt8 := dkwX4_later_2 ++ dktX4_later_3
def dkwX4_later_1 : List UInt8 := [3, 172, 3, 62, 42, 182, 1, 125, 3, 54, 4, 21, 4, 27, 162, 0, 22, 42, 16, 64, 182, 1, 67, 29]
abbrev dktX4_later_1 : List UInt8 := dkwX4_later_1 ++ dktX4_later_2
def dkwX4_later_0 : List UInt8 := [42, 3, 181, 0, 114, 42, 28, 5, 182, 1, 98, 153, 0, 13, 42, 27, 3, 5, 182, 1, 122, 154, 0, 5]
abbrev dktX4_later_0 : List UInt8 := dkwX4_later_0 ++ dktX4_later_1
theorem dksX4_later_0 : cX4_later.data.toList.drop 0 = dktX4_later_0 := by decide +kernel
theorem dksX4_later_1 : cX4_later.data.toList.drop 24 = dktX4_later_1 := dk_seg dksX4_later_0 24 rfl rfl
theorem dksX4_later_2 : cX4_later.data.toList.drop 48 = dktX4_later_2 := dk_seg dksX4_later_1 24 rfl rfl
theorem dksX4_later_3 : cX4_later.data.toList.drop 72 = dktX4_later_3 := dk_seg dksX4_later_2 24 rfl rfl
theorem dksX4_later_4 : cX4_later.data.toList.drop 95 = dktX4_later_4 := dk_seg dksX4_later_3 23 rfl rfl
theorem dksX4_later_5 : cX4_later.data.toList.drop 119 = dktX4_later_5 := dk_seg dksX4_later_4 24 rfl rfl
theorem dksX4_later_6 : cX4_later.data.toList.drop 143 = dktX4_later_6 := dk_seg dksX4_later_5 24 rfl rfl
theorem dX4_later_0 : decode cX4_later 0 = .ok (.aload_n 0, 1) := dk_42 (dk_at dksX4_later_0 0 rfl rfl)
theorem dX4_later_1 : decode cX4_later 1 = .ok (.iconst 0, 1) := dk_3 (dk_at dksX4_later_0 1 rfl rfl)
theorem dX4_later_2 : decode cX4_later 2 = .ok (.putfield 114, 3) := dk_181 0 114 (dk_at dksX4_later_0 2 rfl rfl)
theorem dX4_later_5 : decode cX4_later 5 = .ok (.aload_n 0, 1) := dk_42 (dk_at dksX4_later_0 5 rfl rfl)
theorem dX4_later_6 : decode cX4_later 6 = .ok (.iload_n 2, 1) := dk_28 (dk_at dksX4_later_0 6 rfl rfl)
theorem dX4_later_7 : decode cX4_later 7 = .ok (.iconst 2, 1) := dk_5 (dk_at dksX4_later_0 7 rfl rfl)
theorem dX4_later_8 : decode cX4_later 8 = .ok (.invokevirtual 354, 3) := dk_182 1 98 (dk_at dksX4_later_0 8 rfl rfl)
theorem dX4_later_11 : decode cX4_later 11 = .ok (.ifCond .eq 13, 3) := dk_153 0 13 (dk_at dksX4_later_0 11 rfl rfl)
theorem dX4_later_14 : decode cX4_later 14 = .ok (.aload_n 0, 1) := dk_42 (dk_at dksX4_later_0 14 rfl rfl)
theorem dX4_later_15 : decode cX4_later 15 = .ok (.iload_n 1, 1) := dk_27 (dk_at dksX4_later_0 15 rfl rfl)
theorem dX4_later_16 : decode cX4_later 16 = .ok (.iconst 0, 1) := dk_3 (dk_at dksX4_later_0 16 rfl rfl)
theorem dX4_later_17 : decode cX4_later 17 = .ok (.iconst 2, 1) := dk_5 (dk_at dksX4_later_0 17 rfl rfl)
theorem dX4_later_18 : decode cX4_later 18 = .ok (.invokevirtual 378, 3) := dk_182 1 122 (dk_at dksX4_later_0 18 rfl rfl)
theorem dX4_later_21 : decode cX4_later 21 = .ok (.ifCond .ne 5, 3) := dk_154 0 5 (dk_at dksX4_later_0 21 rfl rfl)
theorem dX4_later_24 : decode cX4_later 24 = .ok (.iconst 0, 1) := dk_3 (dk_at dksX4_later_1 0 rfl rfl)
theorem dX4_later_25 : decode cX4_later 25 = .ok (.ireturn, 1) := dk_172 (dk_at dksX4_later_1 1 rfl rfl)
theorem dX4_later_26 : decode cX4_later 26 = .ok (.iconst 0, 1) := dk_3 (dk_at dksX4_later_1 2 rfl rfl)
theorem dX4_later_27 : decode cX4_later 27 = .ok (.istore_n 3, 1) := dk_62 (dk_at dksX4_later_1 3 rfl rfl)
theorem dX4_later_28 : decode cX4_later 28 = .ok (.aload_n 0, 1) := dk_42 (dk_at dksX4_later_1 4 rfl rfl)
theorem dX4_later_29 : decode cX4_later 29 = .ok (.invokevirtual 381, 3) := dk_182 1 125 (dk_at dksX4_later_1 5 rfl rfl)
theorem dX4_later_32 : decode cX4_later 32 = .ok (.iconst 0, 1) := dk_3 (dk_at dksX4_later_1 8 rfl rfl)
theorem dX4_later_33 : decode cX4_later 33 = .ok (.istore 4, 2) := dk_54 4 (dk_at dksX4_later_1 9 rfl rfl)
theorem dX4_later_35 : decode cX4_later 35 = .ok (.iload 4, 2) := dk_21 4 (dk_at dksX4_later_1 11 rfl rfl)
theorem dX4_later_37 : decode cX4_later 37 = .ok (.iload_n 1, 1) := dk_27 (dk_at dksX4_later_1 13 rfl rfl)
theorem dX4_later_38 : decode cX4_later 38 = .ok (.if_icmp .ge 22, 3) := dk_162 0 22 (dk_at dksX4_later_1 14 rfl rfl)
theorem dX4_later_41 : decode cX4_later 41 = .ok (.aload_n 0, 1) := dk_42 (dk_at dksX4_later_1 17 rfl rfl)
theorem dX4_later_42 : decode cX4_later 42 = .ok (.bipush 64, 2) := dk_16 64 (dk_at dksX4_later_1 18 rfl rfl)
theorem dX4_later_44 : decode cX4_later 44 = .ok (.invokevirtual 323, 3) := dk_182 1 67 (dk_at dksX4_later_1 20 rfl rfl)
theorem dX4_later_47 : decode cX4_later 47 = .ok (.iload_n 3, 1) := dk_29 (dk_at dksX4_later_1 23 rfl rfl)
theorem dX4_later_48 : decode cX4_later 48 = .ok (.aload_n 0, 1) := dk_42 (dk_at dksX4_later_2 0 rfl rfl)
theorem dX4_later_49 : decode cX4_later 49 = .ok (.getfield 293, 3) := dk_180 1 37 (dk_at dksX4_later_2 1 rfl rfl)
theorem dX4_later_52 : decode cX4_later 52 = .ok (.iadd, 1) := dk_96 (dk_at dksX4_later_2 4 rfl rfl)
theorem dX4_later_53 : decode cX4_later 53 = .ok (.istore_n 3, 1) := dk_62 (dk_at dksX4_later_2 5 rfl rfl)
theorem dX4_later_54 : decode cX4_later 54 = .ok (.iinc 4 1, 3) := dk_132 4 1 (dk_at dksX4_later_2 6 rfl rfl)
theorem dX4_later_57 : decode cX4_later 57 = .ok (.goto (-22), 3) := dk_167 255 234 (dk_at dksX4_later_2 9 rfl rfl)
theorem dX4_later_60 : decode cX4_later 60 = .ok (.iconst (-1), 1) := dk_2 (dk_at dksX4_later_2 12 rfl rfl)
theorem dX4_later_61 : decode cX4_later 61 = .ok (.istore 4, 2) := dk_54 4 (dk_at dksX4_later_2 13 rfl rfl)
theorem dX4_later_63 : decode cX4_later 63 = .ok (.iconst 0, 1) := dk_3 (dk_at dksX4_later_2 15 rfl rfl)
theorem dX4_later_64 : decode cX4_later 64 = .ok (.istore 5, 2) := dk_54 5 (dk_at dksX4_later_2 16 rfl rfl)
theorem dX4_later_66 : decode cX4_later 66 = .ok (.iconst 0, 1) := dk_3 (dk_at dksX4_later_2 18 rfl rfl)
theorem dX4_later_67 : decode cX4_later 67 = .ok (.istore 6, 2) := dk_54 6 (dk_at dksX4_later_2 19 rfl rfl)
theorem dX4_later_69 : decode cX4_later 69 = .ok (.iload 6, 2) := dk_21 6 (dk_at dksX4_later_2 21 rfl rfl)
theorem dX4_later_71 : decode cX4_later 71 = .ok (.aload_n 0, 1) := dk_42 (dk_at dksX4_later_2 23 rfl rfl)
theorem dX4_later_72 : decode cX4_later 72 = .ok (.getfield 269, 3) := dk_180 1 13 (dk_at dksX4_later_3 0 rfl rfl)
theorem dX4_later_75 : decode cX4_later 75 = .ok (.if_icmp .ge 68, 3) := dk_162 0 68 (dk_at dksX4_later_3 3 rfl rfl)
theorem dX4_later_78 : decode cX4_later 78 = .ok (.iload 4, 2) := dk_21 4 (dk_at dksX4_later_3 6 rfl rfl)
theorem dX4_later_80 : decode cX4_later 80 = .ok (.iconst (-1), 1) := dk_2 (dk_at dksX4_later_3 8 rfl rfl)
theorem dX4_later_81 : decode cX4_later 81 = .ok (.if_icmp .eq 26, 3) := dk_159 0 26 (dk_at dksX4_later_3 9 rfl rfl)
theorem dX4_later_84 : decode cX4_later 84 = .ok (.aload_n 0, 1) := dk_42 (dk_at dksX4_later_3 12 rfl rfl)
theorem dX4_later_85 : decode cX4_later 85 = .ok (.getfield 51, 3) := dk_180 0 51 (dk_at dksX4_later_3 13 rfl rfl)
theorem dX4_later_88 : decode cX4_later 88 = .ok (.bipush 74, 2) := dk_16 74 (dk_at dksX4_later_3 16 rfl rfl)
theorem dX4_later_90 : decode cX4_later 90 = .ok (.iload 6, 2) := dk_21 6 (dk_at dksX4_later_3 18 rfl rfl)
theorem dX4_later_92 : decode cX4_later 92 = .ok (.iadd, 1) := dk_96 (dk_at dksX4_later_3 20 rfl rfl)
theorem dX4_later_93 : decode cX4_later 93 = .ok (.iaload, 1) := dk_46 (dk_at dksX4_later_3 21 rfl rfl)
theorem dX4_later_94 : decode cX4_later 94 = .ok (.aload_n 0, 1) := dk_42 (dk_at dksX4_later_3 22 rfl rfl)
theorem dX4_later_95 : decode cX4_later 95 = .ok (.getfield 51, 3) := dk_180 0 51 (dk_at dksX4_later_4 0 rfl rfl)
theorem dX4_later_98 : decode cX4_later 98 = .ok (.bipush 74, 2) := dk_16 74 (dk_at dksX4_later_4 3 rfl rfl)
theorem dX4_later_100 : decode cX4_later 100 = .ok (.iload 4, 2) := dk_21 4 (dk_at dksX4_later_4 5 rfl rfl)
theorem dX4_later_102 : decode cX4_later 102 = .ok (.iadd, 1) := dk_96 (dk_at dksX4_later_4 7 rfl rfl)
theorem dX4_later_103 : decode cX4_later 103 = .ok (.iaload, 1) := dk_46 (dk_at dksX4_later_4 8 rfl rfl)
theorem dX4_later_104 : decode cX4_later 104 = .ok (.if_icmp .le 7, 3) := dk_164 0 7 (dk_at dksX4_later_4 9 rfl rfl)
theorem dX4_later_107 : decode cX4_later 107 = .ok (.iload 6, 2) := dk_21 6 (dk_at dksX4_later_4 12 rfl rfl)
theorem dX4_later_109 : decode cX4_later 109 = .ok (.istore 4, 2) := dk_54 4 (dk_at dksX4_later_4 14 rfl rfl)
theorem dX4_later_111 : decode cX4_later 111 = .ok (.iload 5, 2) := dk_21 5 (dk_at dksX4_later_4 16 rfl rfl)
theorem dX4_later_113 : decode cX4_later 113 = .ok (.aload_n 0, 1) := dk_42 (dk_at dksX4_later_4 18 rfl rfl)
theorem dX4_later_114 : decode cX4_later 114 = .ok (.getfield 51, 3) := dk_180 0 51 (dk_at dksX4_later_4 19 rfl rfl)
theorem dX4_later_117 : decode cX4_later 117 = .ok (.bipush 74, 2) := dk_16 74 (dk_at dksX4_later_4 22 rfl rfl)
theorem dX4_later_119 : decode cX4_later 119 = .ok (.iload 6, 2) := dk_21 6 (dk_at dksX4_later_5 0 rfl rfl)
theorem dX4_later_121 : decode cX4_later 121 = .ok (.iadd, 1) := dk_96 (dk_at dksX4_later_5 2 rfl rfl)
theorem dX4_later_122 : decode cX4_later 122 = .ok (.iaload, 1) := dk_46 (dk_at dksX4_later_5 3 rfl rfl)
theorem dX4_later_123 : decode cX4_later 123 = .ok (.ifCond .ne 10, 3) := dk_154 0 10 (dk_at dksX4_later_5 4 rfl rfl)
theorem dX4_later_126 : decode cX4_later 126 = .ok (.iconst 1, 1) := dk_4 (dk_at dksX4_later_5 7 rfl rfl)
theorem dX4_later_127 : decode cX4_later 127 = .ok (.iload 6, 2) := dk_21 6 (dk_at dksX4_later_5 8 rfl rfl)
theorem dX4_later_129 : decode cX4_later 129 = .ok (.ishl, 1) := dk_120 (dk_at dksX4_later_5 10 rfl rfl)
theorem dX4_later_130 : decode cX4_later 130 = .ok (.goto 4, 3) := dk_167 0 4 (dk_at dksX4_later_5 11 rfl rfl)
theorem dX4_later_133 : decode cX4_later 133 = .ok (.iconst 0, 1) := dk_3 (dk_at dksX4_later_5 14 rfl rfl)
theorem dX4_later_134 : decode cX4_later 134 = .ok (.ior, 1) := dk_128 (dk_at dksX4_later_5 15 rfl rfl)
theorem dX4_later_135 : decode cX4_later 135 = .ok (.istore 5, 2) := dk_54 5 (dk_at dksX4_later_5 16 rfl rfl)
theorem dX4_later_137 : decode cX4_later 137 = .ok (.iinc 6 1, 3) := dk_132 6 1 (dk_at dksX4_later_5 18 rfl rfl)
theorem dX4_later_140 : decode cX4_later 140 = .ok (.goto (-71), 3) := dk_167 255 185 (dk_at dksX4_later_5 21 rfl rfl)
theorem dX4_later_143 : decode cX4_later 143 = .ok (.iload_n 2, 1) := dk_28 (dk_at dksX4_later_6 0 rfl rfl)
theorem dX4_later_144 : decode cX4_later 144 = .ok (.ifCond .ne 8, 3) := dk_154 0 8 (dk_at dksX4_later_6 1 rfl rfl)
theorem dX4_later_147 : decode cX4_later 147 = .ok (.iload 4, 2) := dk_21 4 (dk_at dksX4_later_6 4 rfl rfl)
theorem dX4_later_149 : decode cX4_later 149 = .ok (.goto 14, 3) := dk_167 0 14 (dk_at dksX4_later_6 6 rfl rfl)
theorem dX4_later_152 : decode cX4_later 152 = .ok (.iload_n 2, 1) := dk_28 (dk_at dksX4_later_6 9 rfl rfl)
theorem dX4_later_153 : decode cX4_later 153 = .ok (.iconst 1, 1) := dk_4 (dk_at dksX4_later_6 10 rfl rfl)
theorem dX4_later_154 : decode cX4_later 154 = .ok (.if_icmp .ne 8, 3) := dk_160 0 8 (dk_at dksX4_later_6 11 rfl rfl)
theorem dX4_later_157 : decode cX4_later 157 = .ok (.iload 5, 2) := dk_21 5 (dk_at dksX4_later_6 14 rfl rfl)
theorem dX4_later_159 : decode cX4_later 159 = .ok (.goto 4, 3) := dk_167 0 4 (dk_at dksX4_later_6 16 rfl rfl)
theorem dX4_later_162 : decode cX4_later 162 = .ok (.iload_n 3, 1) := dk_29 (dk_at dksX4_later_6 19 rfl rfl)
theorem dX4_later_163 : decode cX4_later 163 = .ok (.ireturn, 1) := dk_172 (dk_at dksX4_later_6 20 rfl rfl)
abbrev cX4_oftenest : ByteArray := prog_12_method_88_code
def yX4_oftenest : MethodName := ⟨RX4, "oftenest", "(I)I"⟩
def dkwX4_oftenest_5 : List UInt8 := [180, 0, 75, 28, 46, 164, 0, 5, 29, 61, 132, 3, 1, 167, 255, 223, 28, 172]
abbrev dktX4_oftenest_5 : List UInt8 := dkwX4_oftenest_5 ++ []
def dkwX4_oftenest_4 : List UInt8 := [3, 62, 29, 42, 180, 1, 13, 162, 0, 31, 28, 2, 159, 0, 18, 42, 180, 0, 75, 29, 46, 42]
abbrev dktX4_oftenest_4 : List UInt8 := dkwX4_oftenest_4 ++ dktX4_oftenest_5
def dkwX4_oftenest_3 : List UInt8 := [92, 46, 42, 180, 0, 66, 29, 46, 96, 79, 132, 3, 1, 167, 255, 230, 132, 2, 1, 167, 255, 211, 2, 61]
abbrev dktX4_oftenest_3 : List UInt8 := dkwX4_oftenest_3 ++ dktX4_oftenest_4
def dkwX4_oftenest_2 : List UInt8 := [162, 0, 46, 42, 16, 64, 182, 1, 67, 3, 62, 29, 42, 180, 1, 13, 162, 0, 24, 42, 180, 0, 75, 29]
abbrev dktX4_oftenest_2 : List UInt8 := dkwX4_oftenest_2 ++ dktX4_oftenest_3
def dkwX4_oftenest_1 : List UInt8 := [162, 0, 16, 42, 180, 0, 75, 28, 3, 79, 132, 2, 1, 167, 255, 240, 42, 182, 1, 125, 3, 61, 28, 27]
abbrev dktX4_oftenest_1 : List UInt8 := dkwX4_oftenest_1 ++ dktX4_oftenest_2
def dkwX4_oftenest_0 : List UInt8 := [42, 3, 181, 0, 114, 42, 27, 4, 4, 182, 1, 122, 154, 0, 5, 3, 172, 3, 61, 28, 16, 9]
abbrev dktX4_oftenest_0 : List UInt8 := dkwX4_oftenest_0 ++ dktX4_oftenest_1
theorem dksX4_oftenest_0 : cX4_oftenest.data.toList.drop 0 = dktX4_oftenest_0 := by decide +kernel
theorem dksX4_oftenest_1 : cX4_oftenest.data.toList.drop 22 = dktX4_oftenest_1 := dk_seg dksX4_oftenest_0 22 rfl rfl
theorem dksX4_oftenest_2 : cX4_oftenest.data.toList.drop 46 = dktX4_oftenest_2 := dk_seg dksX4_oftenest_1 24 rfl rfl
theorem dksX4_oftenest_3 : cX4_oftenest.data.toList.drop 70 = dktX4_oftenest_3 := dk_seg dksX4_oftenest_2 24 rfl rfl
theorem dksX4_oftenest_4 : cX4_oftenest.data.toList.drop 94 = dktX4_oftenest_4 := dk_seg dksX4_oftenest_3 24 rfl rfl
theorem dksX4_oftenest_5 : cX4_oftenest.data.toList.drop 116 = dktX4_oftenest_5 := dk_seg dksX4_oftenest_4 22 rfl rfl
theorem dX4_oftenest_0 : decode cX4_oftenest 0 = .ok (.aload_n 0, 1) := dk_42 (dk_at dksX4_oftenest_0 0 rfl rfl)
theorem dX4_oftenest_1 : decode cX4_oftenest 1 = .ok (.iconst 0, 1) := dk_3 (dk_at dksX4_oftenest_0 1 rfl rfl)
theorem dX4_oftenest_2 : decode cX4_oftenest 2 = .ok (.putfield 114, 3) := dk_181 0 114 (dk_at dksX4_oftenest_0 2 rfl rfl)
theorem dX4_oftenest_5 : decode cX4_oftenest 5 = .ok (.aload_n 0, 1) := dk_42 (dk_at dksX4_oftenest_0 5 rfl rfl)
theorem dX4_oftenest_6 : decode cX4_oftenest 6 = .ok (.iload_n 1, 1) := dk_27 (dk_at dksX4_oftenest_0 6 rfl rfl)
theorem dX4_oftenest_7 : decode cX4_oftenest 7 = .ok (.iconst 1, 1) := dk_4 (dk_at dksX4_oftenest_0 7 rfl rfl)
theorem dX4_oftenest_8 : decode cX4_oftenest 8 = .ok (.iconst 1, 1) := dk_4 (dk_at dksX4_oftenest_0 8 rfl rfl)
theorem dX4_oftenest_9 : decode cX4_oftenest 9 = .ok (.invokevirtual 378, 3) := dk_182 1 122 (dk_at dksX4_oftenest_0 9 rfl rfl)
theorem dX4_oftenest_12 : decode cX4_oftenest 12 = .ok (.ifCond .ne 5, 3) := dk_154 0 5 (dk_at dksX4_oftenest_0 12 rfl rfl)
theorem dX4_oftenest_15 : decode cX4_oftenest 15 = .ok (.iconst 0, 1) := dk_3 (dk_at dksX4_oftenest_0 15 rfl rfl)
theorem dX4_oftenest_16 : decode cX4_oftenest 16 = .ok (.ireturn, 1) := dk_172 (dk_at dksX4_oftenest_0 16 rfl rfl)
theorem dX4_oftenest_17 : decode cX4_oftenest 17 = .ok (.iconst 0, 1) := dk_3 (dk_at dksX4_oftenest_0 17 rfl rfl)
theorem dX4_oftenest_18 : decode cX4_oftenest 18 = .ok (.istore_n 2, 1) := dk_61 (dk_at dksX4_oftenest_0 18 rfl rfl)
theorem dX4_oftenest_19 : decode cX4_oftenest 19 = .ok (.iload_n 2, 1) := dk_28 (dk_at dksX4_oftenest_0 19 rfl rfl)
theorem dX4_oftenest_20 : decode cX4_oftenest 20 = .ok (.bipush 9, 2) := dk_16 9 (dk_at dksX4_oftenest_0 20 rfl rfl)
theorem dX4_oftenest_22 : decode cX4_oftenest 22 = .ok (.if_icmp .ge 16, 3) := dk_162 0 16 (dk_at dksX4_oftenest_1 0 rfl rfl)
theorem dX4_oftenest_25 : decode cX4_oftenest 25 = .ok (.aload_n 0, 1) := dk_42 (dk_at dksX4_oftenest_1 3 rfl rfl)
theorem dX4_oftenest_26 : decode cX4_oftenest 26 = .ok (.getfield 75, 3) := dk_180 0 75 (dk_at dksX4_oftenest_1 4 rfl rfl)
theorem dX4_oftenest_29 : decode cX4_oftenest 29 = .ok (.iload_n 2, 1) := dk_28 (dk_at dksX4_oftenest_1 7 rfl rfl)
theorem dX4_oftenest_30 : decode cX4_oftenest 30 = .ok (.iconst 0, 1) := dk_3 (dk_at dksX4_oftenest_1 8 rfl rfl)
theorem dX4_oftenest_31 : decode cX4_oftenest 31 = .ok (.iastore, 1) := dk_79 (dk_at dksX4_oftenest_1 9 rfl rfl)
theorem dX4_oftenest_32 : decode cX4_oftenest 32 = .ok (.iinc 2 1, 3) := dk_132 2 1 (dk_at dksX4_oftenest_1 10 rfl rfl)
theorem dX4_oftenest_35 : decode cX4_oftenest 35 = .ok (.goto (-16), 3) := dk_167 255 240 (dk_at dksX4_oftenest_1 13 rfl rfl)
theorem dX4_oftenest_38 : decode cX4_oftenest 38 = .ok (.aload_n 0, 1) := dk_42 (dk_at dksX4_oftenest_1 16 rfl rfl)
theorem dX4_oftenest_39 : decode cX4_oftenest 39 = .ok (.invokevirtual 381, 3) := dk_182 1 125 (dk_at dksX4_oftenest_1 17 rfl rfl)
theorem dX4_oftenest_42 : decode cX4_oftenest 42 = .ok (.iconst 0, 1) := dk_3 (dk_at dksX4_oftenest_1 20 rfl rfl)
theorem dX4_oftenest_43 : decode cX4_oftenest 43 = .ok (.istore_n 2, 1) := dk_61 (dk_at dksX4_oftenest_1 21 rfl rfl)
theorem dX4_oftenest_44 : decode cX4_oftenest 44 = .ok (.iload_n 2, 1) := dk_28 (dk_at dksX4_oftenest_1 22 rfl rfl)
theorem dX4_oftenest_45 : decode cX4_oftenest 45 = .ok (.iload_n 1, 1) := dk_27 (dk_at dksX4_oftenest_1 23 rfl rfl)
theorem dX4_oftenest_46 : decode cX4_oftenest 46 = .ok (.if_icmp .ge 46, 3) := dk_162 0 46 (dk_at dksX4_oftenest_2 0 rfl rfl)
theorem dX4_oftenest_49 : decode cX4_oftenest 49 = .ok (.aload_n 0, 1) := dk_42 (dk_at dksX4_oftenest_2 3 rfl rfl)
theorem dX4_oftenest_50 : decode cX4_oftenest 50 = .ok (.bipush 64, 2) := dk_16 64 (dk_at dksX4_oftenest_2 4 rfl rfl)
theorem dX4_oftenest_52 : decode cX4_oftenest 52 = .ok (.invokevirtual 323, 3) := dk_182 1 67 (dk_at dksX4_oftenest_2 6 rfl rfl)
theorem dX4_oftenest_55 : decode cX4_oftenest 55 = .ok (.iconst 0, 1) := dk_3 (dk_at dksX4_oftenest_2 9 rfl rfl)
theorem dX4_oftenest_56 : decode cX4_oftenest 56 = .ok (.istore_n 3, 1) := dk_62 (dk_at dksX4_oftenest_2 10 rfl rfl)
theorem dX4_oftenest_57 : decode cX4_oftenest 57 = .ok (.iload_n 3, 1) := dk_29 (dk_at dksX4_oftenest_2 11 rfl rfl)
theorem dX4_oftenest_58 : decode cX4_oftenest 58 = .ok (.aload_n 0, 1) := dk_42 (dk_at dksX4_oftenest_2 12 rfl rfl)
theorem dX4_oftenest_59 : decode cX4_oftenest 59 = .ok (.getfield 269, 3) := dk_180 1 13 (dk_at dksX4_oftenest_2 13 rfl rfl)
theorem dX4_oftenest_62 : decode cX4_oftenest 62 = .ok (.if_icmp .ge 24, 3) := dk_162 0 24 (dk_at dksX4_oftenest_2 16 rfl rfl)
theorem dX4_oftenest_65 : decode cX4_oftenest 65 = .ok (.aload_n 0, 1) := dk_42 (dk_at dksX4_oftenest_2 19 rfl rfl)
theorem dX4_oftenest_66 : decode cX4_oftenest 66 = .ok (.getfield 75, 3) := dk_180 0 75 (dk_at dksX4_oftenest_2 20 rfl rfl)
theorem dX4_oftenest_69 : decode cX4_oftenest 69 = .ok (.iload_n 3, 1) := dk_29 (dk_at dksX4_oftenest_2 23 rfl rfl)
theorem dX4_oftenest_70 : decode cX4_oftenest 70 = .ok (.dup2, 1) := dk_92 (dk_at dksX4_oftenest_3 0 rfl rfl)
theorem dX4_oftenest_71 : decode cX4_oftenest 71 = .ok (.iaload, 1) := dk_46 (dk_at dksX4_oftenest_3 1 rfl rfl)
theorem dX4_oftenest_72 : decode cX4_oftenest 72 = .ok (.aload_n 0, 1) := dk_42 (dk_at dksX4_oftenest_3 2 rfl rfl)
theorem dX4_oftenest_73 : decode cX4_oftenest 73 = .ok (.getfield 66, 3) := dk_180 0 66 (dk_at dksX4_oftenest_3 3 rfl rfl)
theorem dX4_oftenest_76 : decode cX4_oftenest 76 = .ok (.iload_n 3, 1) := dk_29 (dk_at dksX4_oftenest_3 6 rfl rfl)
theorem dX4_oftenest_77 : decode cX4_oftenest 77 = .ok (.iaload, 1) := dk_46 (dk_at dksX4_oftenest_3 7 rfl rfl)
theorem dX4_oftenest_78 : decode cX4_oftenest 78 = .ok (.iadd, 1) := dk_96 (dk_at dksX4_oftenest_3 8 rfl rfl)
theorem dX4_oftenest_79 : decode cX4_oftenest 79 = .ok (.iastore, 1) := dk_79 (dk_at dksX4_oftenest_3 9 rfl rfl)
theorem dX4_oftenest_80 : decode cX4_oftenest 80 = .ok (.iinc 3 1, 3) := dk_132 3 1 (dk_at dksX4_oftenest_3 10 rfl rfl)
theorem dX4_oftenest_83 : decode cX4_oftenest 83 = .ok (.goto (-26), 3) := dk_167 255 230 (dk_at dksX4_oftenest_3 13 rfl rfl)
theorem dX4_oftenest_86 : decode cX4_oftenest 86 = .ok (.iinc 2 1, 3) := dk_132 2 1 (dk_at dksX4_oftenest_3 16 rfl rfl)
theorem dX4_oftenest_89 : decode cX4_oftenest 89 = .ok (.goto (-45), 3) := dk_167 255 211 (dk_at dksX4_oftenest_3 19 rfl rfl)
theorem dX4_oftenest_92 : decode cX4_oftenest 92 = .ok (.iconst (-1), 1) := dk_2 (dk_at dksX4_oftenest_3 22 rfl rfl)
theorem dX4_oftenest_93 : decode cX4_oftenest 93 = .ok (.istore_n 2, 1) := dk_61 (dk_at dksX4_oftenest_3 23 rfl rfl)
theorem dX4_oftenest_94 : decode cX4_oftenest 94 = .ok (.iconst 0, 1) := dk_3 (dk_at dksX4_oftenest_4 0 rfl rfl)
theorem dX4_oftenest_95 : decode cX4_oftenest 95 = .ok (.istore_n 3, 1) := dk_62 (dk_at dksX4_oftenest_4 1 rfl rfl)
theorem dX4_oftenest_96 : decode cX4_oftenest 96 = .ok (.iload_n 3, 1) := dk_29 (dk_at dksX4_oftenest_4 2 rfl rfl)
theorem dX4_oftenest_97 : decode cX4_oftenest 97 = .ok (.aload_n 0, 1) := dk_42 (dk_at dksX4_oftenest_4 3 rfl rfl)
theorem dX4_oftenest_98 : decode cX4_oftenest 98 = .ok (.getfield 269, 3) := dk_180 1 13 (dk_at dksX4_oftenest_4 4 rfl rfl)
theorem dX4_oftenest_101 : decode cX4_oftenest 101 = .ok (.if_icmp .ge 31, 3) := dk_162 0 31 (dk_at dksX4_oftenest_4 7 rfl rfl)
theorem dX4_oftenest_104 : decode cX4_oftenest 104 = .ok (.iload_n 2, 1) := dk_28 (dk_at dksX4_oftenest_4 10 rfl rfl)
theorem dX4_oftenest_105 : decode cX4_oftenest 105 = .ok (.iconst (-1), 1) := dk_2 (dk_at dksX4_oftenest_4 11 rfl rfl)
theorem dX4_oftenest_106 : decode cX4_oftenest 106 = .ok (.if_icmp .eq 18, 3) := dk_159 0 18 (dk_at dksX4_oftenest_4 12 rfl rfl)
theorem dX4_oftenest_109 : decode cX4_oftenest 109 = .ok (.aload_n 0, 1) := dk_42 (dk_at dksX4_oftenest_4 15 rfl rfl)
theorem dX4_oftenest_110 : decode cX4_oftenest 110 = .ok (.getfield 75, 3) := dk_180 0 75 (dk_at dksX4_oftenest_4 16 rfl rfl)
theorem dX4_oftenest_113 : decode cX4_oftenest 113 = .ok (.iload_n 3, 1) := dk_29 (dk_at dksX4_oftenest_4 19 rfl rfl)
theorem dX4_oftenest_114 : decode cX4_oftenest 114 = .ok (.iaload, 1) := dk_46 (dk_at dksX4_oftenest_4 20 rfl rfl)
theorem dX4_oftenest_115 : decode cX4_oftenest 115 = .ok (.aload_n 0, 1) := dk_42 (dk_at dksX4_oftenest_4 21 rfl rfl)
theorem dX4_oftenest_116 : decode cX4_oftenest 116 = .ok (.getfield 75, 3) := dk_180 0 75 (dk_at dksX4_oftenest_5 0 rfl rfl)
theorem dX4_oftenest_119 : decode cX4_oftenest 119 = .ok (.iload_n 2, 1) := dk_28 (dk_at dksX4_oftenest_5 3 rfl rfl)
theorem dX4_oftenest_120 : decode cX4_oftenest 120 = .ok (.iaload, 1) := dk_46 (dk_at dksX4_oftenest_5 4 rfl rfl)
theorem dX4_oftenest_121 : decode cX4_oftenest 121 = .ok (.if_icmp .le 5, 3) := dk_164 0 5 (dk_at dksX4_oftenest_5 5 rfl rfl)
theorem dX4_oftenest_124 : decode cX4_oftenest 124 = .ok (.iload_n 3, 1) := dk_29 (dk_at dksX4_oftenest_5 8 rfl rfl)
theorem dX4_oftenest_125 : decode cX4_oftenest 125 = .ok (.istore_n 2, 1) := dk_61 (dk_at dksX4_oftenest_5 9 rfl rfl)
theorem dX4_oftenest_126 : decode cX4_oftenest 126 = .ok (.iinc 3 1, 3) := dk_132 3 1 (dk_at dksX4_oftenest_5 10 rfl rfl)
theorem dX4_oftenest_129 : decode cX4_oftenest 129 = .ok (.goto (-33), 3) := dk_167 255 223 (dk_at dksX4_oftenest_5 13 rfl rfl)
theorem dX4_oftenest_132 : decode cX4_oftenest 132 = .ok (.iload_n 2, 1) := dk_28 (dk_at dksX4_oftenest_5 16 rfl rfl)
theorem dX4_oftenest_133 : decode cX4_oftenest 133 = .ok (.ireturn, 1) := dk_172 (dk_at dksX4_oftenest_5 17 rfl rfl)
abbrev cX4_round : ByteArray := prog_12_method_89_code
def yX4_round : MethodName := ⟨RX4, "round", "()I"⟩
def dkwX4_round_3 : List UInt8 := [167, 255, 214, 28, 153, 0, 5, 27, 172, 132, 1, 1, 167, 255, 185, 2, 172]
abbrev dktX4_round_3 : List UInt8 := dkwX4_round_3 ++ []
def dkwX4_round_2 : List UInt8 := [46, 42, 180, 0, 51, 16, 10, 29, 96, 46, 160, 0, 7, 4, 167, 0, 4, 3, 61, 132, 3, 1]
abbrev dktX4_round_2 : List UInt8 := dkwX4_round_2 ++ dktX4_round_3
def dkwX4_round_1 : List UInt8 := [4, 61, 3, 62, 29, 42, 180, 1, 13, 162, 0, 40, 28, 153, 0, 28, 42, 180, 0, 51, 16, 74, 29, 96]
abbrev dktX4_round_1 : List UInt8 := dkwX4_round_1 ++ dktX4_round_2
def dkwX4_round_0 : List UInt8 := [42, 3, 181, 0, 114, 42, 182, 1, 125, 4, 60, 27, 17, 0, 200, 163, 0, 70, 42, 16, 64, 182, 1, 67]
abbrev dktX4_round_0 : List UInt8 := dkwX4_round_0 ++ dktX4_round_1
theorem dksX4_round_0 : cX4_round.data.toList.drop 0 = dktX4_round_0 := by decide +kernel
theorem dksX4_round_1 : cX4_round.data.toList.drop 24 = dktX4_round_1 := dk_seg dksX4_round_0 24 rfl rfl
theorem dksX4_round_2 : cX4_round.data.toList.drop 48 = dktX4_round_2 := dk_seg dksX4_round_1 24 rfl rfl
theorem dksX4_round_3 : cX4_round.data.toList.drop 70 = dktX4_round_3 := dk_seg dksX4_round_2 22 rfl rfl
theorem dX4_round_0 : decode cX4_round 0 = .ok (.aload_n 0, 1) := dk_42 (dk_at dksX4_round_0 0 rfl rfl)
theorem dX4_round_1 : decode cX4_round 1 = .ok (.iconst 0, 1) := dk_3 (dk_at dksX4_round_0 1 rfl rfl)
theorem dX4_round_2 : decode cX4_round 2 = .ok (.putfield 114, 3) := dk_181 0 114 (dk_at dksX4_round_0 2 rfl rfl)
theorem dX4_round_5 : decode cX4_round 5 = .ok (.aload_n 0, 1) := dk_42 (dk_at dksX4_round_0 5 rfl rfl)
theorem dX4_round_6 : decode cX4_round 6 = .ok (.invokevirtual 381, 3) := dk_182 1 125 (dk_at dksX4_round_0 6 rfl rfl)
theorem dX4_round_9 : decode cX4_round 9 = .ok (.iconst 1, 1) := dk_4 (dk_at dksX4_round_0 9 rfl rfl)
theorem dX4_round_10 : decode cX4_round 10 = .ok (.istore_n 1, 1) := dk_60 (dk_at dksX4_round_0 10 rfl rfl)
theorem dX4_round_11 : decode cX4_round 11 = .ok (.iload_n 1, 1) := dk_27 (dk_at dksX4_round_0 11 rfl rfl)
theorem dX4_round_12 : decode cX4_round 12 = .ok (.sipush 200, 3) := dk_17 0 200 (dk_at dksX4_round_0 12 rfl rfl)
theorem dX4_round_15 : decode cX4_round 15 = .ok (.if_icmp .gt 70, 3) := dk_163 0 70 (dk_at dksX4_round_0 15 rfl rfl)
theorem dX4_round_18 : decode cX4_round 18 = .ok (.aload_n 0, 1) := dk_42 (dk_at dksX4_round_0 18 rfl rfl)
theorem dX4_round_19 : decode cX4_round 19 = .ok (.bipush 64, 2) := dk_16 64 (dk_at dksX4_round_0 19 rfl rfl)
theorem dX4_round_21 : decode cX4_round 21 = .ok (.invokevirtual 323, 3) := dk_182 1 67 (dk_at dksX4_round_0 21 rfl rfl)
theorem dX4_round_24 : decode cX4_round 24 = .ok (.iconst 1, 1) := dk_4 (dk_at dksX4_round_1 0 rfl rfl)
theorem dX4_round_25 : decode cX4_round 25 = .ok (.istore_n 2, 1) := dk_61 (dk_at dksX4_round_1 1 rfl rfl)
theorem dX4_round_26 : decode cX4_round 26 = .ok (.iconst 0, 1) := dk_3 (dk_at dksX4_round_1 2 rfl rfl)
theorem dX4_round_27 : decode cX4_round 27 = .ok (.istore_n 3, 1) := dk_62 (dk_at dksX4_round_1 3 rfl rfl)
theorem dX4_round_28 : decode cX4_round 28 = .ok (.iload_n 3, 1) := dk_29 (dk_at dksX4_round_1 4 rfl rfl)
theorem dX4_round_29 : decode cX4_round 29 = .ok (.aload_n 0, 1) := dk_42 (dk_at dksX4_round_1 5 rfl rfl)
theorem dX4_round_30 : decode cX4_round 30 = .ok (.getfield 269, 3) := dk_180 1 13 (dk_at dksX4_round_1 6 rfl rfl)
theorem dX4_round_33 : decode cX4_round 33 = .ok (.if_icmp .ge 40, 3) := dk_162 0 40 (dk_at dksX4_round_1 9 rfl rfl)
theorem dX4_round_36 : decode cX4_round 36 = .ok (.iload_n 2, 1) := dk_28 (dk_at dksX4_round_1 12 rfl rfl)
theorem dX4_round_37 : decode cX4_round 37 = .ok (.ifCond .eq 28, 3) := dk_153 0 28 (dk_at dksX4_round_1 13 rfl rfl)
theorem dX4_round_40 : decode cX4_round 40 = .ok (.aload_n 0, 1) := dk_42 (dk_at dksX4_round_1 16 rfl rfl)
theorem dX4_round_41 : decode cX4_round 41 = .ok (.getfield 51, 3) := dk_180 0 51 (dk_at dksX4_round_1 17 rfl rfl)
theorem dX4_round_44 : decode cX4_round 44 = .ok (.bipush 74, 2) := dk_16 74 (dk_at dksX4_round_1 20 rfl rfl)
theorem dX4_round_46 : decode cX4_round 46 = .ok (.iload_n 3, 1) := dk_29 (dk_at dksX4_round_1 22 rfl rfl)
theorem dX4_round_47 : decode cX4_round 47 = .ok (.iadd, 1) := dk_96 (dk_at dksX4_round_1 23 rfl rfl)
theorem dX4_round_48 : decode cX4_round 48 = .ok (.iaload, 1) := dk_46 (dk_at dksX4_round_2 0 rfl rfl)
theorem dX4_round_49 : decode cX4_round 49 = .ok (.aload_n 0, 1) := dk_42 (dk_at dksX4_round_2 1 rfl rfl)
theorem dX4_round_50 : decode cX4_round 50 = .ok (.getfield 51, 3) := dk_180 0 51 (dk_at dksX4_round_2 2 rfl rfl)
theorem dX4_round_53 : decode cX4_round 53 = .ok (.bipush 10, 2) := dk_16 10 (dk_at dksX4_round_2 5 rfl rfl)
theorem dX4_round_55 : decode cX4_round 55 = .ok (.iload_n 3, 1) := dk_29 (dk_at dksX4_round_2 7 rfl rfl)
theorem dX4_round_56 : decode cX4_round 56 = .ok (.iadd, 1) := dk_96 (dk_at dksX4_round_2 8 rfl rfl)
theorem dX4_round_57 : decode cX4_round 57 = .ok (.iaload, 1) := dk_46 (dk_at dksX4_round_2 9 rfl rfl)
theorem dX4_round_58 : decode cX4_round 58 = .ok (.if_icmp .ne 7, 3) := dk_160 0 7 (dk_at dksX4_round_2 10 rfl rfl)
theorem dX4_round_61 : decode cX4_round 61 = .ok (.iconst 1, 1) := dk_4 (dk_at dksX4_round_2 13 rfl rfl)
theorem dX4_round_62 : decode cX4_round 62 = .ok (.goto 4, 3) := dk_167 0 4 (dk_at dksX4_round_2 14 rfl rfl)
theorem dX4_round_65 : decode cX4_round 65 = .ok (.iconst 0, 1) := dk_3 (dk_at dksX4_round_2 17 rfl rfl)
theorem dX4_round_66 : decode cX4_round 66 = .ok (.istore_n 2, 1) := dk_61 (dk_at dksX4_round_2 18 rfl rfl)
theorem dX4_round_67 : decode cX4_round 67 = .ok (.iinc 3 1, 3) := dk_132 3 1 (dk_at dksX4_round_2 19 rfl rfl)
theorem dX4_round_70 : decode cX4_round 70 = .ok (.goto (-42), 3) := dk_167 255 214 (dk_at dksX4_round_3 0 rfl rfl)
theorem dX4_round_73 : decode cX4_round 73 = .ok (.iload_n 2, 1) := dk_28 (dk_at dksX4_round_3 3 rfl rfl)
theorem dX4_round_74 : decode cX4_round 74 = .ok (.ifCond .eq 5, 3) := dk_153 0 5 (dk_at dksX4_round_3 4 rfl rfl)
theorem dX4_round_77 : decode cX4_round 77 = .ok (.iload_n 1, 1) := dk_27 (dk_at dksX4_round_3 7 rfl rfl)
theorem dX4_round_78 : decode cX4_round 78 = .ok (.ireturn, 1) := dk_172 (dk_at dksX4_round_3 8 rfl rfl)
theorem dX4_round_79 : decode cX4_round 79 = .ok (.iinc 1 1, 3) := dk_132 1 1 (dk_at dksX4_round_3 9 rfl rfl)
theorem dX4_round_82 : decode cX4_round 82 = .ok (.goto (-71), 3) := dk_167 255 185 (dk_at dksX4_round_3 12 rfl rfl)
theorem dX4_round_85 : decode cX4_round 85 = .ok (.iconst (-1), 1) := dk_2 (dk_at dksX4_round_3 15 rfl rfl)
theorem dX4_round_86 : decode cX4_round 86 = .ok (.ireturn, 1) := dk_172 (dk_at dksX4_round_3 16 rfl rfl)
abbrev cX4_fallen : ByteArray := prog_12_method_92_code
def yX4_fallen : MethodName := ⟨RX4, "fallen", "(II)I"⟩
def dkwX4_fallen_1 : List UInt8 := [182, 1, 6, 154, 0, 5, 3, 172, 42, 28, 182, 1, 144, 42, 180, 0, 81, 27, 46, 172]
abbrev dktX4_fallen_1 : List UInt8 := dkwX4_fallen_1 ++ []
def dkwX4_fallen_0 : List UInt8 := [42, 3, 181, 0, 114, 42, 27, 182, 1, 95, 153, 0, 19, 42, 28, 3, 19, 1, 143, 184, 1, 76, 5]
abbrev dktX4_fallen_0 : List UInt8 := dkwX4_fallen_0 ++ dktX4_fallen_1
theorem dksX4_fallen_0 : cX4_fallen.data.toList.drop 0 = dktX4_fallen_0 := by decide +kernel
theorem dksX4_fallen_1 : cX4_fallen.data.toList.drop 23 = dktX4_fallen_1 := dk_seg dksX4_fallen_0 23 rfl rfl
theorem dX4_fallen_0 : decode cX4_fallen 0 = .ok (.aload_n 0, 1) := dk_42 (dk_at dksX4_fallen_0 0 rfl rfl)
theorem dX4_fallen_1 : decode cX4_fallen 1 = .ok (.iconst 0, 1) := dk_3 (dk_at dksX4_fallen_0 1 rfl rfl)
theorem dX4_fallen_2 : decode cX4_fallen 2 = .ok (.putfield 114, 3) := dk_181 0 114 (dk_at dksX4_fallen_0 2 rfl rfl)
theorem dX4_fallen_5 : decode cX4_fallen 5 = .ok (.aload_n 0, 1) := dk_42 (dk_at dksX4_fallen_0 5 rfl rfl)
theorem dX4_fallen_6 : decode cX4_fallen 6 = .ok (.iload_n 1, 1) := dk_27 (dk_at dksX4_fallen_0 6 rfl rfl)
theorem dX4_fallen_7 : decode cX4_fallen 7 = .ok (.invokevirtual 351, 3) := dk_182 1 95 (dk_at dksX4_fallen_0 7 rfl rfl)
theorem dX4_fallen_10 : decode cX4_fallen 10 = .ok (.ifCond .eq 19, 3) := dk_153 0 19 (dk_at dksX4_fallen_0 10 rfl rfl)
theorem dX4_fallen_13 : decode cX4_fallen 13 = .ok (.aload_n 0, 1) := dk_42 (dk_at dksX4_fallen_0 13 rfl rfl)
theorem dX4_fallen_14 : decode cX4_fallen 14 = .ok (.iload_n 2, 1) := dk_28 (dk_at dksX4_fallen_0 14 rfl rfl)
theorem dX4_fallen_15 : decode cX4_fallen 15 = .ok (.iconst 0, 1) := dk_3 (dk_at dksX4_fallen_0 15 rfl rfl)
theorem dX4_fallen_16 : decode cX4_fallen 16 = .ok (.ldc_w 399, 3) := dk_19 1 143 (dk_at dksX4_fallen_0 16 rfl rfl)
theorem dX4_fallen_19 : decode cX4_fallen 19 = .ok (.invokestatic 332, 3) := dk_184 1 76 (dk_at dksX4_fallen_0 19 rfl rfl)
theorem dX4_fallen_22 : decode cX4_fallen 22 = .ok (.iconst 2, 1) := dk_5 (dk_at dksX4_fallen_0 22 rfl rfl)
theorem dX4_fallen_23 : decode cX4_fallen 23 = .ok (.invokevirtual 262, 3) := dk_182 1 6 (dk_at dksX4_fallen_1 0 rfl rfl)
theorem dX4_fallen_26 : decode cX4_fallen 26 = .ok (.ifCond .ne 5, 3) := dk_154 0 5 (dk_at dksX4_fallen_1 3 rfl rfl)
theorem dX4_fallen_29 : decode cX4_fallen 29 = .ok (.iconst 0, 1) := dk_3 (dk_at dksX4_fallen_1 6 rfl rfl)
theorem dX4_fallen_30 : decode cX4_fallen 30 = .ok (.ireturn, 1) := dk_172 (dk_at dksX4_fallen_1 7 rfl rfl)
theorem dX4_fallen_31 : decode cX4_fallen 31 = .ok (.aload_n 0, 1) := dk_42 (dk_at dksX4_fallen_1 8 rfl rfl)
theorem dX4_fallen_32 : decode cX4_fallen 32 = .ok (.iload_n 2, 1) := dk_28 (dk_at dksX4_fallen_1 9 rfl rfl)
theorem dX4_fallen_33 : decode cX4_fallen 33 = .ok (.invokevirtual 400, 3) := dk_182 1 144 (dk_at dksX4_fallen_1 10 rfl rfl)
theorem dX4_fallen_36 : decode cX4_fallen 36 = .ok (.aload_n 0, 1) := dk_42 (dk_at dksX4_fallen_1 13 rfl rfl)
theorem dX4_fallen_37 : decode cX4_fallen 37 = .ok (.getfield 81, 3) := dk_180 0 81 (dk_at dksX4_fallen_1 14 rfl rfl)
theorem dX4_fallen_40 : decode cX4_fallen 40 = .ok (.iload_n 1, 1) := dk_27 (dk_at dksX4_fallen_1 17 rfl rfl)
theorem dX4_fallen_41 : decode cX4_fallen 41 = .ok (.iaload, 1) := dk_46 (dk_at dksX4_fallen_1 18 rfl rfl)
theorem dX4_fallen_42 : decode cX4_fallen 42 = .ok (.ireturn, 1) := dk_172 (dk_at dksX4_fallen_1 19 rfl rfl)
abbrev cX4_flows : ByteArray := prog_12_method_90_code
def yX4_flows : MethodName := ⟨RX4, "flows", "(I)V"⟩
def dkwX4_flows_8 : List UInt8 := [177]
abbrev dktX4_flows_8 : List UInt8 := dkwX4_flows_8 ++ []
def dkwX4_flows_7 : List UInt8 := [180, 0, 87, 28, 42, 180, 0, 81, 28, 46, 42, 180, 0, 84, 28, 46, 100, 79, 132, 2, 1, 167, 255, 75]
abbrev dktX4_flows_7 : List UInt8 := dkwX4_flows_7 ++ dktX4_flows_8
def dkwX4_flows_6 : List UInt8 := [180, 0, 81, 28, 46, 4, 96, 5, 108, 167, 0, 11, 42, 180, 0, 81, 28, 46, 5, 108, 79, 42]
abbrev dktX4_flows_6 : List UInt8 := dkwX4_flows_6 ++ dktX4_flows_7
def dkwX4_flows_5 : List UInt8 := [42, 180, 0, 81, 28, 46, 167, 0, 36, 42, 180, 0, 51, 16, 37, 28, 96, 46, 154, 0, 16, 42]
abbrev dktX4_flows_5 : List UInt8 := dkwX4_flows_5 ++ dktX4_flows_6
def dkwX4_flows_4 : List UInt8 := [4, 28, 96, 46, 108, 79, 42, 180, 0, 84, 28, 42, 180, 0, 51, 16, 28, 28, 96, 46, 2, 160, 0, 12]
abbrev dktX4_flows_4 : List UInt8 := dkwX4_flows_4 ++ dktX4_flows_5
def dkwX4_flows_3 : List UInt8 := [180, 0, 81, 28, 42, 180, 0, 51, 16, 10, 28, 96, 46, 42, 180, 0, 78, 28, 46, 96, 42, 180, 0, 51]
abbrev dktX4_flows_3 : List UInt8 := dkwX4_flows_3 ++ dktX4_flows_4
def dkwX4_flows_2 : List UInt8 := [42, 180, 0, 78, 28, 92, 46, 42, 29, 28, 182, 1, 140, 96, 79, 132, 3, 1, 167, 255, 233, 42]
abbrev dktX4_flows_2 : List UInt8 := dkwX4_flows_2 ++ dktX4_flows_3
def dkwX4_flows_1 : List UInt8 := [4, 160, 0, 7, 3, 167, 0, 11, 42, 180, 0, 16, 28, 46, 27, 104, 79, 3, 62, 29, 28, 162, 0, 24]
abbrev dktX4_flows_1 : List UInt8 := dkwX4_flows_1 ++ dktX4_flows_2
def dkwX4_flows_0 : List UInt8 := [3, 61, 28, 42, 180, 1, 13, 162, 0, 179, 42, 180, 0, 78, 28, 42, 180, 0, 51, 16, 55, 28, 96, 46]
abbrev dktX4_flows_0 : List UInt8 := dkwX4_flows_0 ++ dktX4_flows_1
theorem dksX4_flows_0 : cX4_flows.data.toList.drop 0 = dktX4_flows_0 := by decide +kernel
theorem dksX4_flows_1 : cX4_flows.data.toList.drop 24 = dktX4_flows_1 := dk_seg dksX4_flows_0 24 rfl rfl
theorem dksX4_flows_2 : cX4_flows.data.toList.drop 48 = dktX4_flows_2 := dk_seg dksX4_flows_1 24 rfl rfl
theorem dksX4_flows_3 : cX4_flows.data.toList.drop 70 = dktX4_flows_3 := dk_seg dksX4_flows_2 22 rfl rfl
theorem dksX4_flows_4 : cX4_flows.data.toList.drop 94 = dktX4_flows_4 := dk_seg dksX4_flows_3 24 rfl rfl
theorem dksX4_flows_5 : cX4_flows.data.toList.drop 118 = dktX4_flows_5 := dk_seg dksX4_flows_4 24 rfl rfl
theorem dksX4_flows_6 : cX4_flows.data.toList.drop 140 = dktX4_flows_6 := dk_seg dksX4_flows_5 22 rfl rfl
theorem dksX4_flows_7 : cX4_flows.data.toList.drop 162 = dktX4_flows_7 := dk_seg dksX4_flows_6 22 rfl rfl
theorem dksX4_flows_8 : cX4_flows.data.toList.drop 186 = dktX4_flows_8 := dk_seg dksX4_flows_7 24 rfl rfl
theorem dX4_flows_0 : decode cX4_flows 0 = .ok (.iconst 0, 1) := dk_3 (dk_at dksX4_flows_0 0 rfl rfl)
theorem dX4_flows_1 : decode cX4_flows 1 = .ok (.istore_n 2, 1) := dk_61 (dk_at dksX4_flows_0 1 rfl rfl)
theorem dX4_flows_2 : decode cX4_flows 2 = .ok (.iload_n 2, 1) := dk_28 (dk_at dksX4_flows_0 2 rfl rfl)
theorem dX4_flows_3 : decode cX4_flows 3 = .ok (.aload_n 0, 1) := dk_42 (dk_at dksX4_flows_0 3 rfl rfl)
theorem dX4_flows_4 : decode cX4_flows 4 = .ok (.getfield 269, 3) := dk_180 1 13 (dk_at dksX4_flows_0 4 rfl rfl)
theorem dX4_flows_7 : decode cX4_flows 7 = .ok (.if_icmp .ge 179, 3) := dk_162 0 179 (dk_at dksX4_flows_0 7 rfl rfl)
theorem dX4_flows_10 : decode cX4_flows 10 = .ok (.aload_n 0, 1) := dk_42 (dk_at dksX4_flows_0 10 rfl rfl)
theorem dX4_flows_11 : decode cX4_flows 11 = .ok (.getfield 78, 3) := dk_180 0 78 (dk_at dksX4_flows_0 11 rfl rfl)
theorem dX4_flows_14 : decode cX4_flows 14 = .ok (.iload_n 2, 1) := dk_28 (dk_at dksX4_flows_0 14 rfl rfl)
theorem dX4_flows_15 : decode cX4_flows 15 = .ok (.aload_n 0, 1) := dk_42 (dk_at dksX4_flows_0 15 rfl rfl)
theorem dX4_flows_16 : decode cX4_flows 16 = .ok (.getfield 51, 3) := dk_180 0 51 (dk_at dksX4_flows_0 16 rfl rfl)
theorem dX4_flows_19 : decode cX4_flows 19 = .ok (.bipush 55, 2) := dk_16 55 (dk_at dksX4_flows_0 19 rfl rfl)
theorem dX4_flows_21 : decode cX4_flows 21 = .ok (.iload_n 2, 1) := dk_28 (dk_at dksX4_flows_0 21 rfl rfl)
theorem dX4_flows_22 : decode cX4_flows 22 = .ok (.iadd, 1) := dk_96 (dk_at dksX4_flows_0 22 rfl rfl)
theorem dX4_flows_23 : decode cX4_flows 23 = .ok (.iaload, 1) := dk_46 (dk_at dksX4_flows_0 23 rfl rfl)
theorem dX4_flows_24 : decode cX4_flows 24 = .ok (.iconst 1, 1) := dk_4 (dk_at dksX4_flows_1 0 rfl rfl)
theorem dX4_flows_25 : decode cX4_flows 25 = .ok (.if_icmp .ne 7, 3) := dk_160 0 7 (dk_at dksX4_flows_1 1 rfl rfl)
theorem dX4_flows_28 : decode cX4_flows 28 = .ok (.iconst 0, 1) := dk_3 (dk_at dksX4_flows_1 4 rfl rfl)
theorem dX4_flows_29 : decode cX4_flows 29 = .ok (.goto 11, 3) := dk_167 0 11 (dk_at dksX4_flows_1 5 rfl rfl)
theorem dX4_flows_32 : decode cX4_flows 32 = .ok (.aload_n 0, 1) := dk_42 (dk_at dksX4_flows_1 8 rfl rfl)
theorem dX4_flows_33 : decode cX4_flows 33 = .ok (.getfield 16, 3) := dk_180 0 16 (dk_at dksX4_flows_1 9 rfl rfl)
theorem dX4_flows_36 : decode cX4_flows 36 = .ok (.iload_n 2, 1) := dk_28 (dk_at dksX4_flows_1 12 rfl rfl)
theorem dX4_flows_37 : decode cX4_flows 37 = .ok (.iaload, 1) := dk_46 (dk_at dksX4_flows_1 13 rfl rfl)
theorem dX4_flows_38 : decode cX4_flows 38 = .ok (.iload_n 1, 1) := dk_27 (dk_at dksX4_flows_1 14 rfl rfl)
theorem dX4_flows_39 : decode cX4_flows 39 = .ok (.imul, 1) := dk_104 (dk_at dksX4_flows_1 15 rfl rfl)
theorem dX4_flows_40 : decode cX4_flows 40 = .ok (.iastore, 1) := dk_79 (dk_at dksX4_flows_1 16 rfl rfl)
theorem dX4_flows_41 : decode cX4_flows 41 = .ok (.iconst 0, 1) := dk_3 (dk_at dksX4_flows_1 17 rfl rfl)
theorem dX4_flows_42 : decode cX4_flows 42 = .ok (.istore_n 3, 1) := dk_62 (dk_at dksX4_flows_1 18 rfl rfl)
theorem dX4_flows_43 : decode cX4_flows 43 = .ok (.iload_n 3, 1) := dk_29 (dk_at dksX4_flows_1 19 rfl rfl)
theorem dX4_flows_44 : decode cX4_flows 44 = .ok (.iload_n 2, 1) := dk_28 (dk_at dksX4_flows_1 20 rfl rfl)
theorem dX4_flows_45 : decode cX4_flows 45 = .ok (.if_icmp .ge 24, 3) := dk_162 0 24 (dk_at dksX4_flows_1 21 rfl rfl)
theorem dX4_flows_48 : decode cX4_flows 48 = .ok (.aload_n 0, 1) := dk_42 (dk_at dksX4_flows_2 0 rfl rfl)
theorem dX4_flows_49 : decode cX4_flows 49 = .ok (.getfield 78, 3) := dk_180 0 78 (dk_at dksX4_flows_2 1 rfl rfl)
theorem dX4_flows_52 : decode cX4_flows 52 = .ok (.iload_n 2, 1) := dk_28 (dk_at dksX4_flows_2 4 rfl rfl)
theorem dX4_flows_53 : decode cX4_flows 53 = .ok (.dup2, 1) := dk_92 (dk_at dksX4_flows_2 5 rfl rfl)
theorem dX4_flows_54 : decode cX4_flows 54 = .ok (.iaload, 1) := dk_46 (dk_at dksX4_flows_2 6 rfl rfl)
theorem dX4_flows_55 : decode cX4_flows 55 = .ok (.aload_n 0, 1) := dk_42 (dk_at dksX4_flows_2 7 rfl rfl)
theorem dX4_flows_56 : decode cX4_flows 56 = .ok (.iload_n 3, 1) := dk_29 (dk_at dksX4_flows_2 8 rfl rfl)
theorem dX4_flows_57 : decode cX4_flows 57 = .ok (.iload_n 2, 1) := dk_28 (dk_at dksX4_flows_2 9 rfl rfl)
theorem dX4_flows_58 : decode cX4_flows 58 = .ok (.invokevirtual 396, 3) := dk_182 1 140 (dk_at dksX4_flows_2 10 rfl rfl)
theorem dX4_flows_61 : decode cX4_flows 61 = .ok (.iadd, 1) := dk_96 (dk_at dksX4_flows_2 13 rfl rfl)
theorem dX4_flows_62 : decode cX4_flows 62 = .ok (.iastore, 1) := dk_79 (dk_at dksX4_flows_2 14 rfl rfl)
theorem dX4_flows_63 : decode cX4_flows 63 = .ok (.iinc 3 1, 3) := dk_132 3 1 (dk_at dksX4_flows_2 15 rfl rfl)
theorem dX4_flows_66 : decode cX4_flows 66 = .ok (.goto (-23), 3) := dk_167 255 233 (dk_at dksX4_flows_2 18 rfl rfl)
theorem dX4_flows_69 : decode cX4_flows 69 = .ok (.aload_n 0, 1) := dk_42 (dk_at dksX4_flows_2 21 rfl rfl)
theorem dX4_flows_70 : decode cX4_flows 70 = .ok (.getfield 81, 3) := dk_180 0 81 (dk_at dksX4_flows_3 0 rfl rfl)
theorem dX4_flows_73 : decode cX4_flows 73 = .ok (.iload_n 2, 1) := dk_28 (dk_at dksX4_flows_3 3 rfl rfl)
theorem dX4_flows_74 : decode cX4_flows 74 = .ok (.aload_n 0, 1) := dk_42 (dk_at dksX4_flows_3 4 rfl rfl)
theorem dX4_flows_75 : decode cX4_flows 75 = .ok (.getfield 51, 3) := dk_180 0 51 (dk_at dksX4_flows_3 5 rfl rfl)
theorem dX4_flows_78 : decode cX4_flows 78 = .ok (.bipush 10, 2) := dk_16 10 (dk_at dksX4_flows_3 8 rfl rfl)
theorem dX4_flows_80 : decode cX4_flows 80 = .ok (.iload_n 2, 1) := dk_28 (dk_at dksX4_flows_3 10 rfl rfl)
theorem dX4_flows_81 : decode cX4_flows 81 = .ok (.iadd, 1) := dk_96 (dk_at dksX4_flows_3 11 rfl rfl)
theorem dX4_flows_82 : decode cX4_flows 82 = .ok (.iaload, 1) := dk_46 (dk_at dksX4_flows_3 12 rfl rfl)
theorem dX4_flows_83 : decode cX4_flows 83 = .ok (.aload_n 0, 1) := dk_42 (dk_at dksX4_flows_3 13 rfl rfl)
theorem dX4_flows_84 : decode cX4_flows 84 = .ok (.getfield 78, 3) := dk_180 0 78 (dk_at dksX4_flows_3 14 rfl rfl)
theorem dX4_flows_87 : decode cX4_flows 87 = .ok (.iload_n 2, 1) := dk_28 (dk_at dksX4_flows_3 17 rfl rfl)
theorem dX4_flows_88 : decode cX4_flows 88 = .ok (.iaload, 1) := dk_46 (dk_at dksX4_flows_3 18 rfl rfl)
theorem dX4_flows_89 : decode cX4_flows 89 = .ok (.iadd, 1) := dk_96 (dk_at dksX4_flows_3 19 rfl rfl)
theorem dX4_flows_90 : decode cX4_flows 90 = .ok (.aload_n 0, 1) := dk_42 (dk_at dksX4_flows_3 20 rfl rfl)
theorem dX4_flows_91 : decode cX4_flows 91 = .ok (.getfield 51, 3) := dk_180 0 51 (dk_at dksX4_flows_3 21 rfl rfl)
theorem dX4_flows_94 : decode cX4_flows 94 = .ok (.iconst 1, 1) := dk_4 (dk_at dksX4_flows_4 0 rfl rfl)
theorem dX4_flows_95 : decode cX4_flows 95 = .ok (.iload_n 2, 1) := dk_28 (dk_at dksX4_flows_4 1 rfl rfl)
theorem dX4_flows_96 : decode cX4_flows 96 = .ok (.iadd, 1) := dk_96 (dk_at dksX4_flows_4 2 rfl rfl)
theorem dX4_flows_97 : decode cX4_flows 97 = .ok (.iaload, 1) := dk_46 (dk_at dksX4_flows_4 3 rfl rfl)
theorem dX4_flows_98 : decode cX4_flows 98 = .ok (.idiv, 1) := dk_108 (dk_at dksX4_flows_4 4 rfl rfl)
theorem dX4_flows_99 : decode cX4_flows 99 = .ok (.iastore, 1) := dk_79 (dk_at dksX4_flows_4 5 rfl rfl)
theorem dX4_flows_100 : decode cX4_flows 100 = .ok (.aload_n 0, 1) := dk_42 (dk_at dksX4_flows_4 6 rfl rfl)
theorem dX4_flows_101 : decode cX4_flows 101 = .ok (.getfield 84, 3) := dk_180 0 84 (dk_at dksX4_flows_4 7 rfl rfl)
theorem dX4_flows_104 : decode cX4_flows 104 = .ok (.iload_n 2, 1) := dk_28 (dk_at dksX4_flows_4 10 rfl rfl)
theorem dX4_flows_105 : decode cX4_flows 105 = .ok (.aload_n 0, 1) := dk_42 (dk_at dksX4_flows_4 11 rfl rfl)
theorem dX4_flows_106 : decode cX4_flows 106 = .ok (.getfield 51, 3) := dk_180 0 51 (dk_at dksX4_flows_4 12 rfl rfl)
theorem dX4_flows_109 : decode cX4_flows 109 = .ok (.bipush 28, 2) := dk_16 28 (dk_at dksX4_flows_4 15 rfl rfl)
theorem dX4_flows_111 : decode cX4_flows 111 = .ok (.iload_n 2, 1) := dk_28 (dk_at dksX4_flows_4 17 rfl rfl)
theorem dX4_flows_112 : decode cX4_flows 112 = .ok (.iadd, 1) := dk_96 (dk_at dksX4_flows_4 18 rfl rfl)
theorem dX4_flows_113 : decode cX4_flows 113 = .ok (.iaload, 1) := dk_46 (dk_at dksX4_flows_4 19 rfl rfl)
theorem dX4_flows_114 : decode cX4_flows 114 = .ok (.iconst (-1), 1) := dk_2 (dk_at dksX4_flows_4 20 rfl rfl)
theorem dX4_flows_115 : decode cX4_flows 115 = .ok (.if_icmp .ne 12, 3) := dk_160 0 12 (dk_at dksX4_flows_4 21 rfl rfl)
theorem dX4_flows_118 : decode cX4_flows 118 = .ok (.aload_n 0, 1) := dk_42 (dk_at dksX4_flows_5 0 rfl rfl)
theorem dX4_flows_119 : decode cX4_flows 119 = .ok (.getfield 81, 3) := dk_180 0 81 (dk_at dksX4_flows_5 1 rfl rfl)
theorem dX4_flows_122 : decode cX4_flows 122 = .ok (.iload_n 2, 1) := dk_28 (dk_at dksX4_flows_5 4 rfl rfl)
theorem dX4_flows_123 : decode cX4_flows 123 = .ok (.iaload, 1) := dk_46 (dk_at dksX4_flows_5 5 rfl rfl)
theorem dX4_flows_124 : decode cX4_flows 124 = .ok (.goto 36, 3) := dk_167 0 36 (dk_at dksX4_flows_5 6 rfl rfl)
theorem dX4_flows_127 : decode cX4_flows 127 = .ok (.aload_n 0, 1) := dk_42 (dk_at dksX4_flows_5 9 rfl rfl)
theorem dX4_flows_128 : decode cX4_flows 128 = .ok (.getfield 51, 3) := dk_180 0 51 (dk_at dksX4_flows_5 10 rfl rfl)
theorem dX4_flows_131 : decode cX4_flows 131 = .ok (.bipush 37, 2) := dk_16 37 (dk_at dksX4_flows_5 13 rfl rfl)
theorem dX4_flows_133 : decode cX4_flows 133 = .ok (.iload_n 2, 1) := dk_28 (dk_at dksX4_flows_5 15 rfl rfl)
theorem dX4_flows_134 : decode cX4_flows 134 = .ok (.iadd, 1) := dk_96 (dk_at dksX4_flows_5 16 rfl rfl)
theorem dX4_flows_135 : decode cX4_flows 135 = .ok (.iaload, 1) := dk_46 (dk_at dksX4_flows_5 17 rfl rfl)
theorem dX4_flows_136 : decode cX4_flows 136 = .ok (.ifCond .ne 16, 3) := dk_154 0 16 (dk_at dksX4_flows_5 18 rfl rfl)
theorem dX4_flows_139 : decode cX4_flows 139 = .ok (.aload_n 0, 1) := dk_42 (dk_at dksX4_flows_5 21 rfl rfl)
theorem dX4_flows_140 : decode cX4_flows 140 = .ok (.getfield 81, 3) := dk_180 0 81 (dk_at dksX4_flows_6 0 rfl rfl)
theorem dX4_flows_143 : decode cX4_flows 143 = .ok (.iload_n 2, 1) := dk_28 (dk_at dksX4_flows_6 3 rfl rfl)
theorem dX4_flows_144 : decode cX4_flows 144 = .ok (.iaload, 1) := dk_46 (dk_at dksX4_flows_6 4 rfl rfl)
theorem dX4_flows_145 : decode cX4_flows 145 = .ok (.iconst 1, 1) := dk_4 (dk_at dksX4_flows_6 5 rfl rfl)
theorem dX4_flows_146 : decode cX4_flows 146 = .ok (.iadd, 1) := dk_96 (dk_at dksX4_flows_6 6 rfl rfl)
theorem dX4_flows_147 : decode cX4_flows 147 = .ok (.iconst 2, 1) := dk_5 (dk_at dksX4_flows_6 7 rfl rfl)
theorem dX4_flows_148 : decode cX4_flows 148 = .ok (.idiv, 1) := dk_108 (dk_at dksX4_flows_6 8 rfl rfl)
theorem dX4_flows_149 : decode cX4_flows 149 = .ok (.goto 11, 3) := dk_167 0 11 (dk_at dksX4_flows_6 9 rfl rfl)
theorem dX4_flows_152 : decode cX4_flows 152 = .ok (.aload_n 0, 1) := dk_42 (dk_at dksX4_flows_6 12 rfl rfl)
theorem dX4_flows_153 : decode cX4_flows 153 = .ok (.getfield 81, 3) := dk_180 0 81 (dk_at dksX4_flows_6 13 rfl rfl)
theorem dX4_flows_156 : decode cX4_flows 156 = .ok (.iload_n 2, 1) := dk_28 (dk_at dksX4_flows_6 16 rfl rfl)
theorem dX4_flows_157 : decode cX4_flows 157 = .ok (.iaload, 1) := dk_46 (dk_at dksX4_flows_6 17 rfl rfl)
theorem dX4_flows_158 : decode cX4_flows 158 = .ok (.iconst 2, 1) := dk_5 (dk_at dksX4_flows_6 18 rfl rfl)
theorem dX4_flows_159 : decode cX4_flows 159 = .ok (.idiv, 1) := dk_108 (dk_at dksX4_flows_6 19 rfl rfl)
theorem dX4_flows_160 : decode cX4_flows 160 = .ok (.iastore, 1) := dk_79 (dk_at dksX4_flows_6 20 rfl rfl)
theorem dX4_flows_161 : decode cX4_flows 161 = .ok (.aload_n 0, 1) := dk_42 (dk_at dksX4_flows_6 21 rfl rfl)
theorem dX4_flows_162 : decode cX4_flows 162 = .ok (.getfield 87, 3) := dk_180 0 87 (dk_at dksX4_flows_7 0 rfl rfl)
theorem dX4_flows_165 : decode cX4_flows 165 = .ok (.iload_n 2, 1) := dk_28 (dk_at dksX4_flows_7 3 rfl rfl)
theorem dX4_flows_166 : decode cX4_flows 166 = .ok (.aload_n 0, 1) := dk_42 (dk_at dksX4_flows_7 4 rfl rfl)
theorem dX4_flows_167 : decode cX4_flows 167 = .ok (.getfield 81, 3) := dk_180 0 81 (dk_at dksX4_flows_7 5 rfl rfl)
theorem dX4_flows_170 : decode cX4_flows 170 = .ok (.iload_n 2, 1) := dk_28 (dk_at dksX4_flows_7 8 rfl rfl)
theorem dX4_flows_171 : decode cX4_flows 171 = .ok (.iaload, 1) := dk_46 (dk_at dksX4_flows_7 9 rfl rfl)
theorem dX4_flows_172 : decode cX4_flows 172 = .ok (.aload_n 0, 1) := dk_42 (dk_at dksX4_flows_7 10 rfl rfl)
theorem dX4_flows_173 : decode cX4_flows 173 = .ok (.getfield 84, 3) := dk_180 0 84 (dk_at dksX4_flows_7 11 rfl rfl)
theorem dX4_flows_176 : decode cX4_flows 176 = .ok (.iload_n 2, 1) := dk_28 (dk_at dksX4_flows_7 14 rfl rfl)
theorem dX4_flows_177 : decode cX4_flows 177 = .ok (.iaload, 1) := dk_46 (dk_at dksX4_flows_7 15 rfl rfl)
theorem dX4_flows_178 : decode cX4_flows 178 = .ok (.isub, 1) := dk_100 (dk_at dksX4_flows_7 16 rfl rfl)
theorem dX4_flows_179 : decode cX4_flows 179 = .ok (.iastore, 1) := dk_79 (dk_at dksX4_flows_7 17 rfl rfl)
theorem dX4_flows_180 : decode cX4_flows 180 = .ok (.iinc 2 1, 3) := dk_132 2 1 (dk_at dksX4_flows_7 18 rfl rfl)
theorem dX4_flows_183 : decode cX4_flows 183 = .ok (.goto (-181), 3) := dk_167 255 75 (dk_at dksX4_flows_7 21 rfl rfl)
theorem dX4_flows_186 : decode cX4_flows 186 = .ok (.return_, 1) := dk_177 (dk_at dksX4_flows_8 0 rfl rfl)
abbrev cX4_gives : ByteArray := prog_12_method_91_code
def yX4_gives : MethodName := ⟨RX4, "gives", "(II)I"⟩
def dkwX4_gives_1 : List UInt8 := [180, 0, 51, 16, 28, 27, 96, 46, 28, 160, 0, 12, 42, 180, 0, 87, 27, 46, 167, 0, 4, 3, 172]
abbrev dktX4_gives_1 : List UInt8 := dkwX4_gives_1 ++ []
def dkwX4_gives_0 : List UInt8 := [42, 180, 0, 51, 16, 19, 27, 96, 46, 28, 160, 0, 12, 42, 180, 0, 84, 27, 46, 167, 0, 26, 42]
abbrev dktX4_gives_0 : List UInt8 := dkwX4_gives_0 ++ dktX4_gives_1
theorem dksX4_gives_0 : cX4_gives.data.toList.drop 0 = dktX4_gives_0 := by decide +kernel
theorem dksX4_gives_1 : cX4_gives.data.toList.drop 23 = dktX4_gives_1 := dk_seg dksX4_gives_0 23 rfl rfl
theorem dX4_gives_0 : decode cX4_gives 0 = .ok (.aload_n 0, 1) := dk_42 (dk_at dksX4_gives_0 0 rfl rfl)
theorem dX4_gives_1 : decode cX4_gives 1 = .ok (.getfield 51, 3) := dk_180 0 51 (dk_at dksX4_gives_0 1 rfl rfl)
theorem dX4_gives_4 : decode cX4_gives 4 = .ok (.bipush 19, 2) := dk_16 19 (dk_at dksX4_gives_0 4 rfl rfl)
theorem dX4_gives_6 : decode cX4_gives 6 = .ok (.iload_n 1, 1) := dk_27 (dk_at dksX4_gives_0 6 rfl rfl)
theorem dX4_gives_7 : decode cX4_gives 7 = .ok (.iadd, 1) := dk_96 (dk_at dksX4_gives_0 7 rfl rfl)
theorem dX4_gives_8 : decode cX4_gives 8 = .ok (.iaload, 1) := dk_46 (dk_at dksX4_gives_0 8 rfl rfl)
theorem dX4_gives_9 : decode cX4_gives 9 = .ok (.iload_n 2, 1) := dk_28 (dk_at dksX4_gives_0 9 rfl rfl)
theorem dX4_gives_10 : decode cX4_gives 10 = .ok (.if_icmp .ne 12, 3) := dk_160 0 12 (dk_at dksX4_gives_0 10 rfl rfl)
theorem dX4_gives_13 : decode cX4_gives 13 = .ok (.aload_n 0, 1) := dk_42 (dk_at dksX4_gives_0 13 rfl rfl)
theorem dX4_gives_14 : decode cX4_gives 14 = .ok (.getfield 84, 3) := dk_180 0 84 (dk_at dksX4_gives_0 14 rfl rfl)
theorem dX4_gives_17 : decode cX4_gives 17 = .ok (.iload_n 1, 1) := dk_27 (dk_at dksX4_gives_0 17 rfl rfl)
theorem dX4_gives_18 : decode cX4_gives 18 = .ok (.iaload, 1) := dk_46 (dk_at dksX4_gives_0 18 rfl rfl)
theorem dX4_gives_19 : decode cX4_gives 19 = .ok (.goto 26, 3) := dk_167 0 26 (dk_at dksX4_gives_0 19 rfl rfl)
theorem dX4_gives_22 : decode cX4_gives 22 = .ok (.aload_n 0, 1) := dk_42 (dk_at dksX4_gives_0 22 rfl rfl)
theorem dX4_gives_23 : decode cX4_gives 23 = .ok (.getfield 51, 3) := dk_180 0 51 (dk_at dksX4_gives_1 0 rfl rfl)
theorem dX4_gives_26 : decode cX4_gives 26 = .ok (.bipush 28, 2) := dk_16 28 (dk_at dksX4_gives_1 3 rfl rfl)
theorem dX4_gives_28 : decode cX4_gives 28 = .ok (.iload_n 1, 1) := dk_27 (dk_at dksX4_gives_1 5 rfl rfl)
theorem dX4_gives_29 : decode cX4_gives 29 = .ok (.iadd, 1) := dk_96 (dk_at dksX4_gives_1 6 rfl rfl)
theorem dX4_gives_30 : decode cX4_gives 30 = .ok (.iaload, 1) := dk_46 (dk_at dksX4_gives_1 7 rfl rfl)
theorem dX4_gives_31 : decode cX4_gives 31 = .ok (.iload_n 2, 1) := dk_28 (dk_at dksX4_gives_1 8 rfl rfl)
theorem dX4_gives_32 : decode cX4_gives 32 = .ok (.if_icmp .ne 12, 3) := dk_160 0 12 (dk_at dksX4_gives_1 9 rfl rfl)
theorem dX4_gives_35 : decode cX4_gives 35 = .ok (.aload_n 0, 1) := dk_42 (dk_at dksX4_gives_1 12 rfl rfl)
theorem dX4_gives_36 : decode cX4_gives 36 = .ok (.getfield 87, 3) := dk_180 0 87 (dk_at dksX4_gives_1 13 rfl rfl)
theorem dX4_gives_39 : decode cX4_gives 39 = .ok (.iload_n 1, 1) := dk_27 (dk_at dksX4_gives_1 16 rfl rfl)
theorem dX4_gives_40 : decode cX4_gives 40 = .ok (.iaload, 1) := dk_46 (dk_at dksX4_gives_1 17 rfl rfl)
theorem dX4_gives_41 : decode cX4_gives 41 = .ok (.goto 4, 3) := dk_167 0 4 (dk_at dksX4_gives_1 18 rfl rfl)
theorem dX4_gives_44 : decode cX4_gives 44 = .ok (.iconst 0, 1) := dk_3 (dk_at dksX4_gives_1 21 rfl rfl)
theorem dX4_gives_45 : decode cX4_gives 45 = .ok (.ireturn, 1) := dk_172 (dk_at dksX4_gives_1 22 rfl rfl)
abbrev cX4_flow : ByteArray := prog_12_method_93_code
def yX4_flow : MethodName := ⟨RX4, "flow", "(II)I"⟩
def dkwX4_flow_1 : List UInt8 := [182, 1, 6, 154, 0, 5, 3, 172, 42, 28, 182, 1, 144, 42, 180, 0, 78, 27, 46, 172]
abbrev dktX4_flow_1 : List UInt8 := dkwX4_flow_1 ++ []
def dkwX4_flow_0 : List UInt8 := [42, 3, 181, 0, 114, 42, 27, 182, 1, 95, 153, 0, 19, 42, 28, 3, 19, 1, 143, 184, 1, 76, 5]
abbrev dktX4_flow_0 : List UInt8 := dkwX4_flow_0 ++ dktX4_flow_1
theorem dksX4_flow_0 : cX4_flow.data.toList.drop 0 = dktX4_flow_0 := by decide +kernel
theorem dksX4_flow_1 : cX4_flow.data.toList.drop 23 = dktX4_flow_1 := dk_seg dksX4_flow_0 23 rfl rfl
theorem dX4_flow_0 : decode cX4_flow 0 = .ok (.aload_n 0, 1) := dk_42 (dk_at dksX4_flow_0 0 rfl rfl)
theorem dX4_flow_1 : decode cX4_flow 1 = .ok (.iconst 0, 1) := dk_3 (dk_at dksX4_flow_0 1 rfl rfl)
theorem dX4_flow_2 : decode cX4_flow 2 = .ok (.putfield 114, 3) := dk_181 0 114 (dk_at dksX4_flow_0 2 rfl rfl)
theorem dX4_flow_5 : decode cX4_flow 5 = .ok (.aload_n 0, 1) := dk_42 (dk_at dksX4_flow_0 5 rfl rfl)
theorem dX4_flow_6 : decode cX4_flow 6 = .ok (.iload_n 1, 1) := dk_27 (dk_at dksX4_flow_0 6 rfl rfl)
theorem dX4_flow_7 : decode cX4_flow 7 = .ok (.invokevirtual 351, 3) := dk_182 1 95 (dk_at dksX4_flow_0 7 rfl rfl)
theorem dX4_flow_10 : decode cX4_flow 10 = .ok (.ifCond .eq 19, 3) := dk_153 0 19 (dk_at dksX4_flow_0 10 rfl rfl)
theorem dX4_flow_13 : decode cX4_flow 13 = .ok (.aload_n 0, 1) := dk_42 (dk_at dksX4_flow_0 13 rfl rfl)
theorem dX4_flow_14 : decode cX4_flow 14 = .ok (.iload_n 2, 1) := dk_28 (dk_at dksX4_flow_0 14 rfl rfl)
theorem dX4_flow_15 : decode cX4_flow 15 = .ok (.iconst 0, 1) := dk_3 (dk_at dksX4_flow_0 15 rfl rfl)
theorem dX4_flow_16 : decode cX4_flow 16 = .ok (.ldc_w 399, 3) := dk_19 1 143 (dk_at dksX4_flow_0 16 rfl rfl)
theorem dX4_flow_19 : decode cX4_flow 19 = .ok (.invokestatic 332, 3) := dk_184 1 76 (dk_at dksX4_flow_0 19 rfl rfl)
theorem dX4_flow_22 : decode cX4_flow 22 = .ok (.iconst 2, 1) := dk_5 (dk_at dksX4_flow_0 22 rfl rfl)
theorem dX4_flow_23 : decode cX4_flow 23 = .ok (.invokevirtual 262, 3) := dk_182 1 6 (dk_at dksX4_flow_1 0 rfl rfl)
theorem dX4_flow_26 : decode cX4_flow 26 = .ok (.ifCond .ne 5, 3) := dk_154 0 5 (dk_at dksX4_flow_1 3 rfl rfl)
theorem dX4_flow_29 : decode cX4_flow 29 = .ok (.iconst 0, 1) := dk_3 (dk_at dksX4_flow_1 6 rfl rfl)
theorem dX4_flow_30 : decode cX4_flow 30 = .ok (.ireturn, 1) := dk_172 (dk_at dksX4_flow_1 7 rfl rfl)
theorem dX4_flow_31 : decode cX4_flow 31 = .ok (.aload_n 0, 1) := dk_42 (dk_at dksX4_flow_1 8 rfl rfl)
theorem dX4_flow_32 : decode cX4_flow 32 = .ok (.iload_n 2, 1) := dk_28 (dk_at dksX4_flow_1 9 rfl rfl)
theorem dX4_flow_33 : decode cX4_flow 33 = .ok (.invokevirtual 400, 3) := dk_182 1 144 (dk_at dksX4_flow_1 10 rfl rfl)
theorem dX4_flow_36 : decode cX4_flow 36 = .ok (.aload_n 0, 1) := dk_42 (dk_at dksX4_flow_1 13 rfl rfl)
theorem dX4_flow_37 : decode cX4_flow 37 = .ok (.getfield 78, 3) := dk_180 0 78 (dk_at dksX4_flow_1 14 rfl rfl)
theorem dX4_flow_40 : decode cX4_flow 40 = .ok (.iload_n 1, 1) := dk_27 (dk_at dksX4_flow_1 17 rfl rfl)
theorem dX4_flow_41 : decode cX4_flow 41 = .ok (.iaload, 1) := dk_46 (dk_at dksX4_flow_1 18 rfl rfl)
theorem dX4_flow_42 : decode cX4_flow 42 = .ok (.ireturn, 1) := dk_172 (dk_at dksX4_flow_1 19 rfl rfl)
abbrev cX4_nth : ByteArray := prog_12_method_94_code
def yX4_nth : MethodName := ⟨RX4, "nth", "(II)I"⟩
def dkwX4_nth_4 : List UInt8 := [167, 0, 4, 29, 172]
abbrev dktX4_nth_4 : List UInt8 := dkwX4_nth_4 ++ []
def dkwX4_nth_3 : List UInt8 := [21, 5, 54, 4, 167, 0, 8, 21, 5, 4, 96, 62, 167, 255, 212, 29, 19, 1, 143, 164, 0, 7, 2]
abbrev dktX4_nth_3 : List UInt8 := dkwX4_nth_3 ++ dktX4_nth_4
def dkwX4_nth_2 : List UInt8 := [29, 100, 5, 108, 96, 54, 5, 42, 21, 5, 182, 1, 144, 42, 180, 0, 81, 27, 46, 28, 161, 0, 10]
abbrev dktX4_nth_2 : List UInt8 := dkwX4_nth_2 ++ dktX4_nth_3
def dkwX4_nth_1 : List UInt8 := [182, 1, 6, 154, 0, 5, 3, 172, 4, 62, 19, 1, 148, 54, 4, 29, 21, 4, 162, 0, 44, 29, 21, 4]
abbrev dktX4_nth_1 : List UInt8 := dkwX4_nth_1 ++ dktX4_nth_2
def dkwX4_nth_0 : List UInt8 := [42, 3, 181, 0, 114, 42, 27, 182, 1, 95, 153, 0, 19, 42, 28, 4, 19, 1, 147, 184, 1, 76, 5]
abbrev dktX4_nth_0 : List UInt8 := dkwX4_nth_0 ++ dktX4_nth_1
theorem dksX4_nth_0 : cX4_nth.data.toList.drop 0 = dktX4_nth_0 := by decide +kernel
theorem dksX4_nth_1 : cX4_nth.data.toList.drop 23 = dktX4_nth_1 := dk_seg dksX4_nth_0 23 rfl rfl
theorem dksX4_nth_2 : cX4_nth.data.toList.drop 47 = dktX4_nth_2 := dk_seg dksX4_nth_1 24 rfl rfl
theorem dksX4_nth_3 : cX4_nth.data.toList.drop 70 = dktX4_nth_3 := dk_seg dksX4_nth_2 23 rfl rfl
theorem dksX4_nth_4 : cX4_nth.data.toList.drop 93 = dktX4_nth_4 := dk_seg dksX4_nth_3 23 rfl rfl
theorem dX4_nth_0 : decode cX4_nth 0 = .ok (.aload_n 0, 1) := dk_42 (dk_at dksX4_nth_0 0 rfl rfl)
theorem dX4_nth_1 : decode cX4_nth 1 = .ok (.iconst 0, 1) := dk_3 (dk_at dksX4_nth_0 1 rfl rfl)
theorem dX4_nth_2 : decode cX4_nth 2 = .ok (.putfield 114, 3) := dk_181 0 114 (dk_at dksX4_nth_0 2 rfl rfl)
theorem dX4_nth_5 : decode cX4_nth 5 = .ok (.aload_n 0, 1) := dk_42 (dk_at dksX4_nth_0 5 rfl rfl)
theorem dX4_nth_6 : decode cX4_nth 6 = .ok (.iload_n 1, 1) := dk_27 (dk_at dksX4_nth_0 6 rfl rfl)
theorem dX4_nth_7 : decode cX4_nth 7 = .ok (.invokevirtual 351, 3) := dk_182 1 95 (dk_at dksX4_nth_0 7 rfl rfl)
theorem dX4_nth_10 : decode cX4_nth 10 = .ok (.ifCond .eq 19, 3) := dk_153 0 19 (dk_at dksX4_nth_0 10 rfl rfl)
theorem dX4_nth_13 : decode cX4_nth 13 = .ok (.aload_n 0, 1) := dk_42 (dk_at dksX4_nth_0 13 rfl rfl)
theorem dX4_nth_14 : decode cX4_nth 14 = .ok (.iload_n 2, 1) := dk_28 (dk_at dksX4_nth_0 14 rfl rfl)
theorem dX4_nth_15 : decode cX4_nth 15 = .ok (.iconst 1, 1) := dk_4 (dk_at dksX4_nth_0 15 rfl rfl)
theorem dX4_nth_16 : decode cX4_nth 16 = .ok (.ldc_w 403, 3) := dk_19 1 147 (dk_at dksX4_nth_0 16 rfl rfl)
theorem dX4_nth_19 : decode cX4_nth 19 = .ok (.invokestatic 332, 3) := dk_184 1 76 (dk_at dksX4_nth_0 19 rfl rfl)
theorem dX4_nth_22 : decode cX4_nth 22 = .ok (.iconst 2, 1) := dk_5 (dk_at dksX4_nth_0 22 rfl rfl)
theorem dX4_nth_23 : decode cX4_nth 23 = .ok (.invokevirtual 262, 3) := dk_182 1 6 (dk_at dksX4_nth_1 0 rfl rfl)
theorem dX4_nth_26 : decode cX4_nth 26 = .ok (.ifCond .ne 5, 3) := dk_154 0 5 (dk_at dksX4_nth_1 3 rfl rfl)
theorem dX4_nth_29 : decode cX4_nth 29 = .ok (.iconst 0, 1) := dk_3 (dk_at dksX4_nth_1 6 rfl rfl)
theorem dX4_nth_30 : decode cX4_nth 30 = .ok (.ireturn, 1) := dk_172 (dk_at dksX4_nth_1 7 rfl rfl)
theorem dX4_nth_31 : decode cX4_nth 31 = .ok (.iconst 1, 1) := dk_4 (dk_at dksX4_nth_1 8 rfl rfl)
theorem dX4_nth_32 : decode cX4_nth 32 = .ok (.istore_n 3, 1) := dk_62 (dk_at dksX4_nth_1 9 rfl rfl)
theorem dX4_nth_33 : decode cX4_nth 33 = .ok (.ldc_w 404, 3) := dk_19 1 148 (dk_at dksX4_nth_1 10 rfl rfl)
theorem dX4_nth_36 : decode cX4_nth 36 = .ok (.istore 4, 2) := dk_54 4 (dk_at dksX4_nth_1 13 rfl rfl)
theorem dX4_nth_38 : decode cX4_nth 38 = .ok (.iload_n 3, 1) := dk_29 (dk_at dksX4_nth_1 15 rfl rfl)
theorem dX4_nth_39 : decode cX4_nth 39 = .ok (.iload 4, 2) := dk_21 4 (dk_at dksX4_nth_1 16 rfl rfl)
theorem dX4_nth_41 : decode cX4_nth 41 = .ok (.if_icmp .ge 44, 3) := dk_162 0 44 (dk_at dksX4_nth_1 18 rfl rfl)
theorem dX4_nth_44 : decode cX4_nth 44 = .ok (.iload_n 3, 1) := dk_29 (dk_at dksX4_nth_1 21 rfl rfl)
theorem dX4_nth_45 : decode cX4_nth 45 = .ok (.iload 4, 2) := dk_21 4 (dk_at dksX4_nth_1 22 rfl rfl)
theorem dX4_nth_47 : decode cX4_nth 47 = .ok (.iload_n 3, 1) := dk_29 (dk_at dksX4_nth_2 0 rfl rfl)
theorem dX4_nth_48 : decode cX4_nth 48 = .ok (.isub, 1) := dk_100 (dk_at dksX4_nth_2 1 rfl rfl)
theorem dX4_nth_49 : decode cX4_nth 49 = .ok (.iconst 2, 1) := dk_5 (dk_at dksX4_nth_2 2 rfl rfl)
theorem dX4_nth_50 : decode cX4_nth 50 = .ok (.idiv, 1) := dk_108 (dk_at dksX4_nth_2 3 rfl rfl)
theorem dX4_nth_51 : decode cX4_nth 51 = .ok (.iadd, 1) := dk_96 (dk_at dksX4_nth_2 4 rfl rfl)
theorem dX4_nth_52 : decode cX4_nth 52 = .ok (.istore 5, 2) := dk_54 5 (dk_at dksX4_nth_2 5 rfl rfl)
theorem dX4_nth_54 : decode cX4_nth 54 = .ok (.aload_n 0, 1) := dk_42 (dk_at dksX4_nth_2 7 rfl rfl)
theorem dX4_nth_55 : decode cX4_nth 55 = .ok (.iload 5, 2) := dk_21 5 (dk_at dksX4_nth_2 8 rfl rfl)
theorem dX4_nth_57 : decode cX4_nth 57 = .ok (.invokevirtual 400, 3) := dk_182 1 144 (dk_at dksX4_nth_2 10 rfl rfl)
theorem dX4_nth_60 : decode cX4_nth 60 = .ok (.aload_n 0, 1) := dk_42 (dk_at dksX4_nth_2 13 rfl rfl)
theorem dX4_nth_61 : decode cX4_nth 61 = .ok (.getfield 81, 3) := dk_180 0 81 (dk_at dksX4_nth_2 14 rfl rfl)
theorem dX4_nth_64 : decode cX4_nth 64 = .ok (.iload_n 1, 1) := dk_27 (dk_at dksX4_nth_2 17 rfl rfl)
theorem dX4_nth_65 : decode cX4_nth 65 = .ok (.iaload, 1) := dk_46 (dk_at dksX4_nth_2 18 rfl rfl)
theorem dX4_nth_66 : decode cX4_nth 66 = .ok (.iload_n 2, 1) := dk_28 (dk_at dksX4_nth_2 19 rfl rfl)
theorem dX4_nth_67 : decode cX4_nth 67 = .ok (.if_icmp .lt 10, 3) := dk_161 0 10 (dk_at dksX4_nth_2 20 rfl rfl)
theorem dX4_nth_70 : decode cX4_nth 70 = .ok (.iload 5, 2) := dk_21 5 (dk_at dksX4_nth_3 0 rfl rfl)
theorem dX4_nth_72 : decode cX4_nth 72 = .ok (.istore 4, 2) := dk_54 4 (dk_at dksX4_nth_3 2 rfl rfl)
theorem dX4_nth_74 : decode cX4_nth 74 = .ok (.goto 8, 3) := dk_167 0 8 (dk_at dksX4_nth_3 4 rfl rfl)
theorem dX4_nth_77 : decode cX4_nth 77 = .ok (.iload 5, 2) := dk_21 5 (dk_at dksX4_nth_3 7 rfl rfl)
theorem dX4_nth_79 : decode cX4_nth 79 = .ok (.iconst 1, 1) := dk_4 (dk_at dksX4_nth_3 9 rfl rfl)
theorem dX4_nth_80 : decode cX4_nth 80 = .ok (.iadd, 1) := dk_96 (dk_at dksX4_nth_3 10 rfl rfl)
theorem dX4_nth_81 : decode cX4_nth 81 = .ok (.istore_n 3, 1) := dk_62 (dk_at dksX4_nth_3 11 rfl rfl)
theorem dX4_nth_82 : decode cX4_nth 82 = .ok (.goto (-44), 3) := dk_167 255 212 (dk_at dksX4_nth_3 12 rfl rfl)
theorem dX4_nth_85 : decode cX4_nth 85 = .ok (.iload_n 3, 1) := dk_29 (dk_at dksX4_nth_3 15 rfl rfl)
theorem dX4_nth_86 : decode cX4_nth 86 = .ok (.ldc_w 399, 3) := dk_19 1 143 (dk_at dksX4_nth_3 16 rfl rfl)
theorem dX4_nth_89 : decode cX4_nth 89 = .ok (.if_icmp .le 7, 3) := dk_164 0 7 (dk_at dksX4_nth_3 19 rfl rfl)
theorem dX4_nth_92 : decode cX4_nth 92 = .ok (.iconst (-1), 1) := dk_2 (dk_at dksX4_nth_3 22 rfl rfl)
theorem dX4_nth_93 : decode cX4_nth 93 = .ok (.goto 4, 3) := dk_167 0 4 (dk_at dksX4_nth_4 0 rfl rfl)
theorem dX4_nth_96 : decode cX4_nth 96 = .ok (.iload_n 3, 1) := dk_29 (dk_at dksX4_nth_4 3 rfl rfl)
theorem dX4_nth_97 : decode cX4_nth 97 = .ok (.ireturn, 1) := dk_172 (dk_at dksX4_nth_4 4 rfl rfl)
abbrev cX4_meeting : ByteArray := prog_12_method_95_code
def yX4_meeting : MethodName := ⟨RX4, "meeting", "(I)I"⟩
def dkwX4_meeting_4 : List UInt8 := [3, 62, 132, 4, 1, 167, 255, 208, 29, 153, 0, 5, 28, 172, 132, 2, 1, 167, 255, 167, 2, 172]
abbrev dktX4_meeting_4 : List UInt8 := dkwX4_meeting_4 ++ []
def dkwX4_meeting_3 : List UInt8 := [153, 0, 20, 42, 180, 0, 81, 21, 4, 46, 42, 180, 0, 90, 21, 4, 46, 164, 0, 7, 4, 167, 0, 4]
abbrev dktX4_meeting_3 : List UInt8 := dkwX4_meeting_3 ++ dktX4_meeting_4
def dkwX4_meeting_2 : List UInt8 := [62, 3, 54, 4, 21, 4, 42, 180, 1, 13, 162, 0, 45, 29, 153, 0, 33, 27, 21, 4, 122, 4, 126]
abbrev dktX4_meeting_2 : List UInt8 := dkwX4_meeting_2 ++ dktX4_meeting_3
def dkwX4_meeting_1 : List UInt8 := [17, 19, 136, 163, 0, 88, 42, 42, 180, 0, 81, 42, 180, 0, 90, 182, 1, 16, 42, 28, 182, 1, 144, 4]
abbrev dktX4_meeting_1 : List UInt8 := dkwX4_meeting_1 ++ dktX4_meeting_2
def dkwX4_meeting_0 : List UInt8 := [42, 3, 181, 0, 114, 42, 27, 182, 1, 134, 154, 0, 5, 3, 172, 42, 3, 182, 1, 144, 4, 61, 28]
abbrev dktX4_meeting_0 : List UInt8 := dkwX4_meeting_0 ++ dktX4_meeting_1
theorem dksX4_meeting_0 : cX4_meeting.data.toList.drop 0 = dktX4_meeting_0 := by decide +kernel
theorem dksX4_meeting_1 : cX4_meeting.data.toList.drop 23 = dktX4_meeting_1 := dk_seg dksX4_meeting_0 23 rfl rfl
theorem dksX4_meeting_2 : cX4_meeting.data.toList.drop 47 = dktX4_meeting_2 := dk_seg dksX4_meeting_1 24 rfl rfl
theorem dksX4_meeting_3 : cX4_meeting.data.toList.drop 70 = dktX4_meeting_3 := dk_seg dksX4_meeting_2 23 rfl rfl
theorem dksX4_meeting_4 : cX4_meeting.data.toList.drop 94 = dktX4_meeting_4 := dk_seg dksX4_meeting_3 24 rfl rfl
theorem dX4_meeting_0 : decode cX4_meeting 0 = .ok (.aload_n 0, 1) := dk_42 (dk_at dksX4_meeting_0 0 rfl rfl)
theorem dX4_meeting_1 : decode cX4_meeting 1 = .ok (.iconst 0, 1) := dk_3 (dk_at dksX4_meeting_0 1 rfl rfl)
theorem dX4_meeting_2 : decode cX4_meeting 2 = .ok (.putfield 114, 3) := dk_181 0 114 (dk_at dksX4_meeting_0 2 rfl rfl)
theorem dX4_meeting_5 : decode cX4_meeting 5 = .ok (.aload_n 0, 1) := dk_42 (dk_at dksX4_meeting_0 5 rfl rfl)
theorem dX4_meeting_6 : decode cX4_meeting 6 = .ok (.iload_n 1, 1) := dk_27 (dk_at dksX4_meeting_0 6 rfl rfl)
theorem dX4_meeting_7 : decode cX4_meeting 7 = .ok (.invokevirtual 390, 3) := dk_182 1 134 (dk_at dksX4_meeting_0 7 rfl rfl)
theorem dX4_meeting_10 : decode cX4_meeting 10 = .ok (.ifCond .ne 5, 3) := dk_154 0 5 (dk_at dksX4_meeting_0 10 rfl rfl)
theorem dX4_meeting_13 : decode cX4_meeting 13 = .ok (.iconst 0, 1) := dk_3 (dk_at dksX4_meeting_0 13 rfl rfl)
theorem dX4_meeting_14 : decode cX4_meeting 14 = .ok (.ireturn, 1) := dk_172 (dk_at dksX4_meeting_0 14 rfl rfl)
theorem dX4_meeting_15 : decode cX4_meeting 15 = .ok (.aload_n 0, 1) := dk_42 (dk_at dksX4_meeting_0 15 rfl rfl)
theorem dX4_meeting_16 : decode cX4_meeting 16 = .ok (.iconst 0, 1) := dk_3 (dk_at dksX4_meeting_0 16 rfl rfl)
theorem dX4_meeting_17 : decode cX4_meeting 17 = .ok (.invokevirtual 400, 3) := dk_182 1 144 (dk_at dksX4_meeting_0 17 rfl rfl)
theorem dX4_meeting_20 : decode cX4_meeting 20 = .ok (.iconst 1, 1) := dk_4 (dk_at dksX4_meeting_0 20 rfl rfl)
theorem dX4_meeting_21 : decode cX4_meeting 21 = .ok (.istore_n 2, 1) := dk_61 (dk_at dksX4_meeting_0 21 rfl rfl)
theorem dX4_meeting_22 : decode cX4_meeting 22 = .ok (.iload_n 2, 1) := dk_28 (dk_at dksX4_meeting_0 22 rfl rfl)
theorem dX4_meeting_23 : decode cX4_meeting 23 = .ok (.sipush 5000, 3) := dk_17 19 136 (dk_at dksX4_meeting_1 0 rfl rfl)
theorem dX4_meeting_26 : decode cX4_meeting 26 = .ok (.if_icmp .gt 88, 3) := dk_163 0 88 (dk_at dksX4_meeting_1 3 rfl rfl)
theorem dX4_meeting_29 : decode cX4_meeting 29 = .ok (.aload_n 0, 1) := dk_42 (dk_at dksX4_meeting_1 6 rfl rfl)
theorem dX4_meeting_30 : decode cX4_meeting 30 = .ok (.aload_n 0, 1) := dk_42 (dk_at dksX4_meeting_1 7 rfl rfl)
theorem dX4_meeting_31 : decode cX4_meeting 31 = .ok (.getfield 81, 3) := dk_180 0 81 (dk_at dksX4_meeting_1 8 rfl rfl)
theorem dX4_meeting_34 : decode cX4_meeting 34 = .ok (.aload_n 0, 1) := dk_42 (dk_at dksX4_meeting_1 11 rfl rfl)
theorem dX4_meeting_35 : decode cX4_meeting 35 = .ok (.getfield 90, 3) := dk_180 0 90 (dk_at dksX4_meeting_1 12 rfl rfl)
theorem dX4_meeting_38 : decode cX4_meeting 38 = .ok (.invokevirtual 272, 3) := dk_182 1 16 (dk_at dksX4_meeting_1 15 rfl rfl)
theorem dX4_meeting_41 : decode cX4_meeting 41 = .ok (.aload_n 0, 1) := dk_42 (dk_at dksX4_meeting_1 18 rfl rfl)
theorem dX4_meeting_42 : decode cX4_meeting 42 = .ok (.iload_n 2, 1) := dk_28 (dk_at dksX4_meeting_1 19 rfl rfl)
theorem dX4_meeting_43 : decode cX4_meeting 43 = .ok (.invokevirtual 400, 3) := dk_182 1 144 (dk_at dksX4_meeting_1 20 rfl rfl)
theorem dX4_meeting_46 : decode cX4_meeting 46 = .ok (.iconst 1, 1) := dk_4 (dk_at dksX4_meeting_1 23 rfl rfl)
theorem dX4_meeting_47 : decode cX4_meeting 47 = .ok (.istore_n 3, 1) := dk_62 (dk_at dksX4_meeting_2 0 rfl rfl)
theorem dX4_meeting_48 : decode cX4_meeting 48 = .ok (.iconst 0, 1) := dk_3 (dk_at dksX4_meeting_2 1 rfl rfl)
theorem dX4_meeting_49 : decode cX4_meeting 49 = .ok (.istore 4, 2) := dk_54 4 (dk_at dksX4_meeting_2 2 rfl rfl)
theorem dX4_meeting_51 : decode cX4_meeting 51 = .ok (.iload 4, 2) := dk_21 4 (dk_at dksX4_meeting_2 4 rfl rfl)
theorem dX4_meeting_53 : decode cX4_meeting 53 = .ok (.aload_n 0, 1) := dk_42 (dk_at dksX4_meeting_2 6 rfl rfl)
theorem dX4_meeting_54 : decode cX4_meeting 54 = .ok (.getfield 269, 3) := dk_180 1 13 (dk_at dksX4_meeting_2 7 rfl rfl)
theorem dX4_meeting_57 : decode cX4_meeting 57 = .ok (.if_icmp .ge 45, 3) := dk_162 0 45 (dk_at dksX4_meeting_2 10 rfl rfl)
theorem dX4_meeting_60 : decode cX4_meeting 60 = .ok (.iload_n 3, 1) := dk_29 (dk_at dksX4_meeting_2 13 rfl rfl)
theorem dX4_meeting_61 : decode cX4_meeting 61 = .ok (.ifCond .eq 33, 3) := dk_153 0 33 (dk_at dksX4_meeting_2 14 rfl rfl)
theorem dX4_meeting_64 : decode cX4_meeting 64 = .ok (.iload_n 1, 1) := dk_27 (dk_at dksX4_meeting_2 17 rfl rfl)
theorem dX4_meeting_65 : decode cX4_meeting 65 = .ok (.iload 4, 2) := dk_21 4 (dk_at dksX4_meeting_2 18 rfl rfl)
theorem dX4_meeting_67 : decode cX4_meeting 67 = .ok (.ishr, 1) := dk_122 (dk_at dksX4_meeting_2 20 rfl rfl)
theorem dX4_meeting_68 : decode cX4_meeting 68 = .ok (.iconst 1, 1) := dk_4 (dk_at dksX4_meeting_2 21 rfl rfl)
theorem dX4_meeting_69 : decode cX4_meeting 69 = .ok (.iand, 1) := dk_126 (dk_at dksX4_meeting_2 22 rfl rfl)
theorem dX4_meeting_70 : decode cX4_meeting 70 = .ok (.ifCond .eq 20, 3) := dk_153 0 20 (dk_at dksX4_meeting_3 0 rfl rfl)
theorem dX4_meeting_73 : decode cX4_meeting 73 = .ok (.aload_n 0, 1) := dk_42 (dk_at dksX4_meeting_3 3 rfl rfl)
theorem dX4_meeting_74 : decode cX4_meeting 74 = .ok (.getfield 81, 3) := dk_180 0 81 (dk_at dksX4_meeting_3 4 rfl rfl)
theorem dX4_meeting_77 : decode cX4_meeting 77 = .ok (.iload 4, 2) := dk_21 4 (dk_at dksX4_meeting_3 7 rfl rfl)
theorem dX4_meeting_79 : decode cX4_meeting 79 = .ok (.iaload, 1) := dk_46 (dk_at dksX4_meeting_3 9 rfl rfl)
theorem dX4_meeting_80 : decode cX4_meeting 80 = .ok (.aload_n 0, 1) := dk_42 (dk_at dksX4_meeting_3 10 rfl rfl)
theorem dX4_meeting_81 : decode cX4_meeting 81 = .ok (.getfield 90, 3) := dk_180 0 90 (dk_at dksX4_meeting_3 11 rfl rfl)
theorem dX4_meeting_84 : decode cX4_meeting 84 = .ok (.iload 4, 2) := dk_21 4 (dk_at dksX4_meeting_3 14 rfl rfl)
theorem dX4_meeting_86 : decode cX4_meeting 86 = .ok (.iaload, 1) := dk_46 (dk_at dksX4_meeting_3 16 rfl rfl)
theorem dX4_meeting_87 : decode cX4_meeting 87 = .ok (.if_icmp .le 7, 3) := dk_164 0 7 (dk_at dksX4_meeting_3 17 rfl rfl)
theorem dX4_meeting_90 : decode cX4_meeting 90 = .ok (.iconst 1, 1) := dk_4 (dk_at dksX4_meeting_3 20 rfl rfl)
theorem dX4_meeting_91 : decode cX4_meeting 91 = .ok (.goto 4, 3) := dk_167 0 4 (dk_at dksX4_meeting_3 21 rfl rfl)
theorem dX4_meeting_94 : decode cX4_meeting 94 = .ok (.iconst 0, 1) := dk_3 (dk_at dksX4_meeting_4 0 rfl rfl)
theorem dX4_meeting_95 : decode cX4_meeting 95 = .ok (.istore_n 3, 1) := dk_62 (dk_at dksX4_meeting_4 1 rfl rfl)
theorem dX4_meeting_96 : decode cX4_meeting 96 = .ok (.iinc 4 1, 3) := dk_132 4 1 (dk_at dksX4_meeting_4 2 rfl rfl)
theorem dX4_meeting_99 : decode cX4_meeting 99 = .ok (.goto (-48), 3) := dk_167 255 208 (dk_at dksX4_meeting_4 5 rfl rfl)
theorem dX4_meeting_102 : decode cX4_meeting 102 = .ok (.iload_n 3, 1) := dk_29 (dk_at dksX4_meeting_4 8 rfl rfl)
theorem dX4_meeting_103 : decode cX4_meeting 103 = .ok (.ifCond .eq 5, 3) := dk_153 0 5 (dk_at dksX4_meeting_4 9 rfl rfl)
theorem dX4_meeting_106 : decode cX4_meeting 106 = .ok (.iload_n 2, 1) := dk_28 (dk_at dksX4_meeting_4 12 rfl rfl)
theorem dX4_meeting_107 : decode cX4_meeting 107 = .ok (.ireturn, 1) := dk_172 (dk_at dksX4_meeting_4 13 rfl rfl)
theorem dX4_meeting_108 : decode cX4_meeting 108 = .ok (.iinc 2 1, 3) := dk_132 2 1 (dk_at dksX4_meeting_4 14 rfl rfl)
theorem dX4_meeting_111 : decode cX4_meeting 111 = .ok (.goto (-89), 3) := dk_167 255 167 (dk_at dksX4_meeting_4 17 rfl rfl)
theorem dX4_meeting_114 : decode cX4_meeting 114 = .ok (.iconst (-1), 1) := dk_2 (dk_at dksX4_meeting_4 20 rfl rfl)
theorem dX4_meeting_115 : decode cX4_meeting 115 = .ok (.ireturn, 1) := dk_172 (dk_at dksX4_meeting_4 21 rfl rfl)
abbrev cX4_giver : ByteArray := prog_12_method_96_code
def yX4_giver : MethodName := ⟨RX4, "giver", "(II)I"⟩
def dkwX4_giver_3 : List UInt8 := [27, 182, 1, 140, 164, 0, 6, 21, 4, 62, 132, 4, 1, 167, 255, 213, 29, 172]
abbrev dktX4_giver_3 : List UInt8 := dkwX4_giver_3 ++ []
def dkwX4_giver_2 : List UInt8 := [42, 21, 4, 27, 182, 1, 73, 153, 0, 27, 29, 2, 159, 0, 19, 42, 21, 4, 27, 182, 1, 140, 42, 29]
abbrev dktX4_giver_2 : List UInt8 := dkwX4_giver_2 ++ dktX4_giver_3
def dkwX4_giver_1 : List UInt8 := [182, 1, 6, 154, 0, 5, 3, 172, 42, 28, 182, 1, 144, 2, 62, 3, 54, 4, 21, 4, 27, 162, 0, 43]
abbrev dktX4_giver_1 : List UInt8 := dkwX4_giver_1 ++ dktX4_giver_2
def dkwX4_giver_0 : List UInt8 := [42, 3, 181, 0, 114, 42, 27, 182, 1, 95, 153, 0, 19, 42, 28, 3, 19, 1, 143, 184, 1, 76, 5]
abbrev dktX4_giver_0 : List UInt8 := dkwX4_giver_0 ++ dktX4_giver_1
theorem dksX4_giver_0 : cX4_giver.data.toList.drop 0 = dktX4_giver_0 := by decide +kernel
theorem dksX4_giver_1 : cX4_giver.data.toList.drop 23 = dktX4_giver_1 := dk_seg dksX4_giver_0 23 rfl rfl
theorem dksX4_giver_2 : cX4_giver.data.toList.drop 47 = dktX4_giver_2 := dk_seg dksX4_giver_1 24 rfl rfl
theorem dksX4_giver_3 : cX4_giver.data.toList.drop 71 = dktX4_giver_3 := dk_seg dksX4_giver_2 24 rfl rfl
theorem dX4_giver_0 : decode cX4_giver 0 = .ok (.aload_n 0, 1) := dk_42 (dk_at dksX4_giver_0 0 rfl rfl)
theorem dX4_giver_1 : decode cX4_giver 1 = .ok (.iconst 0, 1) := dk_3 (dk_at dksX4_giver_0 1 rfl rfl)
theorem dX4_giver_2 : decode cX4_giver 2 = .ok (.putfield 114, 3) := dk_181 0 114 (dk_at dksX4_giver_0 2 rfl rfl)
theorem dX4_giver_5 : decode cX4_giver 5 = .ok (.aload_n 0, 1) := dk_42 (dk_at dksX4_giver_0 5 rfl rfl)
theorem dX4_giver_6 : decode cX4_giver 6 = .ok (.iload_n 1, 1) := dk_27 (dk_at dksX4_giver_0 6 rfl rfl)
theorem dX4_giver_7 : decode cX4_giver 7 = .ok (.invokevirtual 351, 3) := dk_182 1 95 (dk_at dksX4_giver_0 7 rfl rfl)
theorem dX4_giver_10 : decode cX4_giver 10 = .ok (.ifCond .eq 19, 3) := dk_153 0 19 (dk_at dksX4_giver_0 10 rfl rfl)
theorem dX4_giver_13 : decode cX4_giver 13 = .ok (.aload_n 0, 1) := dk_42 (dk_at dksX4_giver_0 13 rfl rfl)
theorem dX4_giver_14 : decode cX4_giver 14 = .ok (.iload_n 2, 1) := dk_28 (dk_at dksX4_giver_0 14 rfl rfl)
theorem dX4_giver_15 : decode cX4_giver 15 = .ok (.iconst 0, 1) := dk_3 (dk_at dksX4_giver_0 15 rfl rfl)
theorem dX4_giver_16 : decode cX4_giver 16 = .ok (.ldc_w 399, 3) := dk_19 1 143 (dk_at dksX4_giver_0 16 rfl rfl)
theorem dX4_giver_19 : decode cX4_giver 19 = .ok (.invokestatic 332, 3) := dk_184 1 76 (dk_at dksX4_giver_0 19 rfl rfl)
theorem dX4_giver_22 : decode cX4_giver 22 = .ok (.iconst 2, 1) := dk_5 (dk_at dksX4_giver_0 22 rfl rfl)
theorem dX4_giver_23 : decode cX4_giver 23 = .ok (.invokevirtual 262, 3) := dk_182 1 6 (dk_at dksX4_giver_1 0 rfl rfl)
theorem dX4_giver_26 : decode cX4_giver 26 = .ok (.ifCond .ne 5, 3) := dk_154 0 5 (dk_at dksX4_giver_1 3 rfl rfl)
theorem dX4_giver_29 : decode cX4_giver 29 = .ok (.iconst 0, 1) := dk_3 (dk_at dksX4_giver_1 6 rfl rfl)
theorem dX4_giver_30 : decode cX4_giver 30 = .ok (.ireturn, 1) := dk_172 (dk_at dksX4_giver_1 7 rfl rfl)
theorem dX4_giver_31 : decode cX4_giver 31 = .ok (.aload_n 0, 1) := dk_42 (dk_at dksX4_giver_1 8 rfl rfl)
theorem dX4_giver_32 : decode cX4_giver 32 = .ok (.iload_n 2, 1) := dk_28 (dk_at dksX4_giver_1 9 rfl rfl)
theorem dX4_giver_33 : decode cX4_giver 33 = .ok (.invokevirtual 400, 3) := dk_182 1 144 (dk_at dksX4_giver_1 10 rfl rfl)
theorem dX4_giver_36 : decode cX4_giver 36 = .ok (.iconst (-1), 1) := dk_2 (dk_at dksX4_giver_1 13 rfl rfl)
theorem dX4_giver_37 : decode cX4_giver 37 = .ok (.istore_n 3, 1) := dk_62 (dk_at dksX4_giver_1 14 rfl rfl)
theorem dX4_giver_38 : decode cX4_giver 38 = .ok (.iconst 0, 1) := dk_3 (dk_at dksX4_giver_1 15 rfl rfl)
theorem dX4_giver_39 : decode cX4_giver 39 = .ok (.istore 4, 2) := dk_54 4 (dk_at dksX4_giver_1 16 rfl rfl)
theorem dX4_giver_41 : decode cX4_giver 41 = .ok (.iload 4, 2) := dk_21 4 (dk_at dksX4_giver_1 18 rfl rfl)
theorem dX4_giver_43 : decode cX4_giver 43 = .ok (.iload_n 1, 1) := dk_27 (dk_at dksX4_giver_1 20 rfl rfl)
theorem dX4_giver_44 : decode cX4_giver 44 = .ok (.if_icmp .ge 43, 3) := dk_162 0 43 (dk_at dksX4_giver_1 21 rfl rfl)
theorem dX4_giver_47 : decode cX4_giver 47 = .ok (.aload_n 0, 1) := dk_42 (dk_at dksX4_giver_2 0 rfl rfl)
theorem dX4_giver_48 : decode cX4_giver 48 = .ok (.iload 4, 2) := dk_21 4 (dk_at dksX4_giver_2 1 rfl rfl)
theorem dX4_giver_50 : decode cX4_giver 50 = .ok (.iload_n 1, 1) := dk_27 (dk_at dksX4_giver_2 3 rfl rfl)
theorem dX4_giver_51 : decode cX4_giver 51 = .ok (.invokevirtual 329, 3) := dk_182 1 73 (dk_at dksX4_giver_2 4 rfl rfl)
theorem dX4_giver_54 : decode cX4_giver 54 = .ok (.ifCond .eq 27, 3) := dk_153 0 27 (dk_at dksX4_giver_2 7 rfl rfl)
theorem dX4_giver_57 : decode cX4_giver 57 = .ok (.iload_n 3, 1) := dk_29 (dk_at dksX4_giver_2 10 rfl rfl)
theorem dX4_giver_58 : decode cX4_giver 58 = .ok (.iconst (-1), 1) := dk_2 (dk_at dksX4_giver_2 11 rfl rfl)
theorem dX4_giver_59 : decode cX4_giver 59 = .ok (.if_icmp .eq 19, 3) := dk_159 0 19 (dk_at dksX4_giver_2 12 rfl rfl)
theorem dX4_giver_62 : decode cX4_giver 62 = .ok (.aload_n 0, 1) := dk_42 (dk_at dksX4_giver_2 15 rfl rfl)
theorem dX4_giver_63 : decode cX4_giver 63 = .ok (.iload 4, 2) := dk_21 4 (dk_at dksX4_giver_2 16 rfl rfl)
theorem dX4_giver_65 : decode cX4_giver 65 = .ok (.iload_n 1, 1) := dk_27 (dk_at dksX4_giver_2 18 rfl rfl)
theorem dX4_giver_66 : decode cX4_giver 66 = .ok (.invokevirtual 396, 3) := dk_182 1 140 (dk_at dksX4_giver_2 19 rfl rfl)
theorem dX4_giver_69 : decode cX4_giver 69 = .ok (.aload_n 0, 1) := dk_42 (dk_at dksX4_giver_2 22 rfl rfl)
theorem dX4_giver_70 : decode cX4_giver 70 = .ok (.iload_n 3, 1) := dk_29 (dk_at dksX4_giver_2 23 rfl rfl)
theorem dX4_giver_71 : decode cX4_giver 71 = .ok (.iload_n 1, 1) := dk_27 (dk_at dksX4_giver_3 0 rfl rfl)
theorem dX4_giver_72 : decode cX4_giver 72 = .ok (.invokevirtual 396, 3) := dk_182 1 140 (dk_at dksX4_giver_3 1 rfl rfl)
theorem dX4_giver_75 : decode cX4_giver 75 = .ok (.if_icmp .le 6, 3) := dk_164 0 6 (dk_at dksX4_giver_3 4 rfl rfl)
theorem dX4_giver_78 : decode cX4_giver 78 = .ok (.iload 4, 2) := dk_21 4 (dk_at dksX4_giver_3 7 rfl rfl)
theorem dX4_giver_80 : decode cX4_giver 80 = .ok (.istore_n 3, 1) := dk_62 (dk_at dksX4_giver_3 9 rfl rfl)
theorem dX4_giver_81 : decode cX4_giver 81 = .ok (.iinc 4 1, 3) := dk_132 4 1 (dk_at dksX4_giver_3 10 rfl rfl)
theorem dX4_giver_84 : decode cX4_giver 84 = .ok (.goto (-43), 3) := dk_167 255 213 (dk_at dksX4_giver_3 13 rfl rfl)
theorem dX4_giver_87 : decode cX4_giver 87 = .ok (.iload_n 3, 1) := dk_29 (dk_at dksX4_giver_3 16 rfl rfl)
theorem dX4_giver_88 : decode cX4_giver 88 = .ok (.ireturn, 1) := dk_172 (dk_at dksX4_giver_3 17 rfl rfl)
abbrev cX4_tier : ByteArray := prog_12_method_97_code
def yX4_tier : MethodName := ⟨RX4, "tier", "(II)I"⟩
def dkwX4_tier_5 : List UInt8 := [132, 4, 1, 167, 255, 169, 29, 4, 27, 120, 2, 130, 126, 172]
abbrev dktX4_tier_5 : List UInt8 := dkwX4_tier_5 ++ []
def dkwX4_tier_4 : List UInt8 := [21, 5, 122, 4, 126, 21, 6, 120, 128, 62, 132, 6, 1, 167, 255, 205, 132, 5, 1, 167, 255, 187]
abbrev dktX4_tier_4 : List UInt8 := dkwX4_tier_4 ++ dktX4_tier_5
def dkwX4_tier_3 : List UInt8 := [182, 1, 73, 153, 0, 31, 29, 28, 154, 0, 15, 29, 21, 6, 122, 4, 126, 21, 5, 120, 167, 0, 12, 29]
abbrev dktX4_tier_3 : List UInt8 := dkwX4_tier_3 ++ dktX4_tier_4
def dkwX4_tier_2 : List UInt8 := [180, 1, 13, 162, 0, 66, 3, 54, 6, 21, 6, 42, 180, 1, 13, 162, 0, 48, 42, 21, 5, 21, 6]
abbrev dktX4_tier_2 : List UInt8 := dkwX4_tier_2 ++ dktX4_tier_3
def dkwX4_tier_1 : List UInt8 := [4, 27, 120, 62, 3, 54, 4, 21, 4, 42, 180, 1, 13, 162, 0, 84, 3, 54, 5, 21, 5, 42]
abbrev dktX4_tier_1 : List UInt8 := dkwX4_tier_1 ++ dktX4_tier_2
def dkwX4_tier_0 : List UInt8 := [42, 3, 181, 0, 114, 42, 27, 182, 1, 95, 153, 0, 12, 42, 28, 4, 182, 1, 98, 154, 0, 5, 3, 172]
abbrev dktX4_tier_0 : List UInt8 := dkwX4_tier_0 ++ dktX4_tier_1
theorem dksX4_tier_0 : cX4_tier.data.toList.drop 0 = dktX4_tier_0 := by decide +kernel
theorem dksX4_tier_1 : cX4_tier.data.toList.drop 24 = dktX4_tier_1 := dk_seg dksX4_tier_0 24 rfl rfl
theorem dksX4_tier_2 : cX4_tier.data.toList.drop 46 = dktX4_tier_2 := dk_seg dksX4_tier_1 22 rfl rfl
theorem dksX4_tier_3 : cX4_tier.data.toList.drop 69 = dktX4_tier_3 := dk_seg dksX4_tier_2 23 rfl rfl
theorem dksX4_tier_4 : cX4_tier.data.toList.drop 93 = dktX4_tier_4 := dk_seg dksX4_tier_3 24 rfl rfl
theorem dksX4_tier_5 : cX4_tier.data.toList.drop 115 = dktX4_tier_5 := dk_seg dksX4_tier_4 22 rfl rfl
theorem dX4_tier_0 : decode cX4_tier 0 = .ok (.aload_n 0, 1) := dk_42 (dk_at dksX4_tier_0 0 rfl rfl)
theorem dX4_tier_1 : decode cX4_tier 1 = .ok (.iconst 0, 1) := dk_3 (dk_at dksX4_tier_0 1 rfl rfl)
theorem dX4_tier_2 : decode cX4_tier 2 = .ok (.putfield 114, 3) := dk_181 0 114 (dk_at dksX4_tier_0 2 rfl rfl)
theorem dX4_tier_5 : decode cX4_tier 5 = .ok (.aload_n 0, 1) := dk_42 (dk_at dksX4_tier_0 5 rfl rfl)
theorem dX4_tier_6 : decode cX4_tier 6 = .ok (.iload_n 1, 1) := dk_27 (dk_at dksX4_tier_0 6 rfl rfl)
theorem dX4_tier_7 : decode cX4_tier 7 = .ok (.invokevirtual 351, 3) := dk_182 1 95 (dk_at dksX4_tier_0 7 rfl rfl)
theorem dX4_tier_10 : decode cX4_tier 10 = .ok (.ifCond .eq 12, 3) := dk_153 0 12 (dk_at dksX4_tier_0 10 rfl rfl)
theorem dX4_tier_13 : decode cX4_tier 13 = .ok (.aload_n 0, 1) := dk_42 (dk_at dksX4_tier_0 13 rfl rfl)
theorem dX4_tier_14 : decode cX4_tier 14 = .ok (.iload_n 2, 1) := dk_28 (dk_at dksX4_tier_0 14 rfl rfl)
theorem dX4_tier_15 : decode cX4_tier 15 = .ok (.iconst 1, 1) := dk_4 (dk_at dksX4_tier_0 15 rfl rfl)
theorem dX4_tier_16 : decode cX4_tier 16 = .ok (.invokevirtual 354, 3) := dk_182 1 98 (dk_at dksX4_tier_0 16 rfl rfl)
theorem dX4_tier_19 : decode cX4_tier 19 = .ok (.ifCond .ne 5, 3) := dk_154 0 5 (dk_at dksX4_tier_0 19 rfl rfl)
theorem dX4_tier_22 : decode cX4_tier 22 = .ok (.iconst 0, 1) := dk_3 (dk_at dksX4_tier_0 22 rfl rfl)
theorem dX4_tier_23 : decode cX4_tier 23 = .ok (.ireturn, 1) := dk_172 (dk_at dksX4_tier_0 23 rfl rfl)
theorem dX4_tier_24 : decode cX4_tier 24 = .ok (.iconst 1, 1) := dk_4 (dk_at dksX4_tier_1 0 rfl rfl)
theorem dX4_tier_25 : decode cX4_tier 25 = .ok (.iload_n 1, 1) := dk_27 (dk_at dksX4_tier_1 1 rfl rfl)
theorem dX4_tier_26 : decode cX4_tier 26 = .ok (.ishl, 1) := dk_120 (dk_at dksX4_tier_1 2 rfl rfl)
theorem dX4_tier_27 : decode cX4_tier 27 = .ok (.istore_n 3, 1) := dk_62 (dk_at dksX4_tier_1 3 rfl rfl)
theorem dX4_tier_28 : decode cX4_tier 28 = .ok (.iconst 0, 1) := dk_3 (dk_at dksX4_tier_1 4 rfl rfl)
theorem dX4_tier_29 : decode cX4_tier 29 = .ok (.istore 4, 2) := dk_54 4 (dk_at dksX4_tier_1 5 rfl rfl)
theorem dX4_tier_31 : decode cX4_tier 31 = .ok (.iload 4, 2) := dk_21 4 (dk_at dksX4_tier_1 7 rfl rfl)
theorem dX4_tier_33 : decode cX4_tier 33 = .ok (.aload_n 0, 1) := dk_42 (dk_at dksX4_tier_1 9 rfl rfl)
theorem dX4_tier_34 : decode cX4_tier 34 = .ok (.getfield 269, 3) := dk_180 1 13 (dk_at dksX4_tier_1 10 rfl rfl)
theorem dX4_tier_37 : decode cX4_tier 37 = .ok (.if_icmp .ge 84, 3) := dk_162 0 84 (dk_at dksX4_tier_1 13 rfl rfl)
theorem dX4_tier_40 : decode cX4_tier 40 = .ok (.iconst 0, 1) := dk_3 (dk_at dksX4_tier_1 16 rfl rfl)
theorem dX4_tier_41 : decode cX4_tier 41 = .ok (.istore 5, 2) := dk_54 5 (dk_at dksX4_tier_1 17 rfl rfl)
theorem dX4_tier_43 : decode cX4_tier 43 = .ok (.iload 5, 2) := dk_21 5 (dk_at dksX4_tier_1 19 rfl rfl)
theorem dX4_tier_45 : decode cX4_tier 45 = .ok (.aload_n 0, 1) := dk_42 (dk_at dksX4_tier_1 21 rfl rfl)
theorem dX4_tier_46 : decode cX4_tier 46 = .ok (.getfield 269, 3) := dk_180 1 13 (dk_at dksX4_tier_2 0 rfl rfl)
theorem dX4_tier_49 : decode cX4_tier 49 = .ok (.if_icmp .ge 66, 3) := dk_162 0 66 (dk_at dksX4_tier_2 3 rfl rfl)
theorem dX4_tier_52 : decode cX4_tier 52 = .ok (.iconst 0, 1) := dk_3 (dk_at dksX4_tier_2 6 rfl rfl)
theorem dX4_tier_53 : decode cX4_tier 53 = .ok (.istore 6, 2) := dk_54 6 (dk_at dksX4_tier_2 7 rfl rfl)
theorem dX4_tier_55 : decode cX4_tier 55 = .ok (.iload 6, 2) := dk_21 6 (dk_at dksX4_tier_2 9 rfl rfl)
theorem dX4_tier_57 : decode cX4_tier 57 = .ok (.aload_n 0, 1) := dk_42 (dk_at dksX4_tier_2 11 rfl rfl)
theorem dX4_tier_58 : decode cX4_tier 58 = .ok (.getfield 269, 3) := dk_180 1 13 (dk_at dksX4_tier_2 12 rfl rfl)
theorem dX4_tier_61 : decode cX4_tier 61 = .ok (.if_icmp .ge 48, 3) := dk_162 0 48 (dk_at dksX4_tier_2 15 rfl rfl)
theorem dX4_tier_64 : decode cX4_tier 64 = .ok (.aload_n 0, 1) := dk_42 (dk_at dksX4_tier_2 18 rfl rfl)
theorem dX4_tier_65 : decode cX4_tier 65 = .ok (.iload 5, 2) := dk_21 5 (dk_at dksX4_tier_2 19 rfl rfl)
theorem dX4_tier_67 : decode cX4_tier 67 = .ok (.iload 6, 2) := dk_21 6 (dk_at dksX4_tier_2 21 rfl rfl)
theorem dX4_tier_69 : decode cX4_tier 69 = .ok (.invokevirtual 329, 3) := dk_182 1 73 (dk_at dksX4_tier_3 0 rfl rfl)
theorem dX4_tier_72 : decode cX4_tier 72 = .ok (.ifCond .eq 31, 3) := dk_153 0 31 (dk_at dksX4_tier_3 3 rfl rfl)
theorem dX4_tier_75 : decode cX4_tier 75 = .ok (.iload_n 3, 1) := dk_29 (dk_at dksX4_tier_3 6 rfl rfl)
theorem dX4_tier_76 : decode cX4_tier 76 = .ok (.iload_n 2, 1) := dk_28 (dk_at dksX4_tier_3 7 rfl rfl)
theorem dX4_tier_77 : decode cX4_tier 77 = .ok (.ifCond .ne 15, 3) := dk_154 0 15 (dk_at dksX4_tier_3 8 rfl rfl)
theorem dX4_tier_80 : decode cX4_tier 80 = .ok (.iload_n 3, 1) := dk_29 (dk_at dksX4_tier_3 11 rfl rfl)
theorem dX4_tier_81 : decode cX4_tier 81 = .ok (.iload 6, 2) := dk_21 6 (dk_at dksX4_tier_3 12 rfl rfl)
theorem dX4_tier_83 : decode cX4_tier 83 = .ok (.ishr, 1) := dk_122 (dk_at dksX4_tier_3 14 rfl rfl)
theorem dX4_tier_84 : decode cX4_tier 84 = .ok (.iconst 1, 1) := dk_4 (dk_at dksX4_tier_3 15 rfl rfl)
theorem dX4_tier_85 : decode cX4_tier 85 = .ok (.iand, 1) := dk_126 (dk_at dksX4_tier_3 16 rfl rfl)
theorem dX4_tier_86 : decode cX4_tier 86 = .ok (.iload 5, 2) := dk_21 5 (dk_at dksX4_tier_3 17 rfl rfl)
theorem dX4_tier_88 : decode cX4_tier 88 = .ok (.ishl, 1) := dk_120 (dk_at dksX4_tier_3 19 rfl rfl)
theorem dX4_tier_89 : decode cX4_tier 89 = .ok (.goto 12, 3) := dk_167 0 12 (dk_at dksX4_tier_3 20 rfl rfl)
theorem dX4_tier_92 : decode cX4_tier 92 = .ok (.iload_n 3, 1) := dk_29 (dk_at dksX4_tier_3 23 rfl rfl)
theorem dX4_tier_93 : decode cX4_tier 93 = .ok (.iload 5, 2) := dk_21 5 (dk_at dksX4_tier_4 0 rfl rfl)
theorem dX4_tier_95 : decode cX4_tier 95 = .ok (.ishr, 1) := dk_122 (dk_at dksX4_tier_4 2 rfl rfl)
theorem dX4_tier_96 : decode cX4_tier 96 = .ok (.iconst 1, 1) := dk_4 (dk_at dksX4_tier_4 3 rfl rfl)
theorem dX4_tier_97 : decode cX4_tier 97 = .ok (.iand, 1) := dk_126 (dk_at dksX4_tier_4 4 rfl rfl)
theorem dX4_tier_98 : decode cX4_tier 98 = .ok (.iload 6, 2) := dk_21 6 (dk_at dksX4_tier_4 5 rfl rfl)
theorem dX4_tier_100 : decode cX4_tier 100 = .ok (.ishl, 1) := dk_120 (dk_at dksX4_tier_4 7 rfl rfl)
theorem dX4_tier_101 : decode cX4_tier 101 = .ok (.ior, 1) := dk_128 (dk_at dksX4_tier_4 8 rfl rfl)
theorem dX4_tier_102 : decode cX4_tier 102 = .ok (.istore_n 3, 1) := dk_62 (dk_at dksX4_tier_4 9 rfl rfl)
theorem dX4_tier_103 : decode cX4_tier 103 = .ok (.iinc 6 1, 3) := dk_132 6 1 (dk_at dksX4_tier_4 10 rfl rfl)
theorem dX4_tier_106 : decode cX4_tier 106 = .ok (.goto (-51), 3) := dk_167 255 205 (dk_at dksX4_tier_4 13 rfl rfl)
theorem dX4_tier_109 : decode cX4_tier 109 = .ok (.iinc 5 1, 3) := dk_132 5 1 (dk_at dksX4_tier_4 16 rfl rfl)
theorem dX4_tier_112 : decode cX4_tier 112 = .ok (.goto (-69), 3) := dk_167 255 187 (dk_at dksX4_tier_4 19 rfl rfl)
theorem dX4_tier_115 : decode cX4_tier 115 = .ok (.iinc 4 1, 3) := dk_132 4 1 (dk_at dksX4_tier_5 0 rfl rfl)
theorem dX4_tier_118 : decode cX4_tier 118 = .ok (.goto (-87), 3) := dk_167 255 169 (dk_at dksX4_tier_5 3 rfl rfl)
theorem dX4_tier_121 : decode cX4_tier 121 = .ok (.iload_n 3, 1) := dk_29 (dk_at dksX4_tier_5 6 rfl rfl)
theorem dX4_tier_122 : decode cX4_tier 122 = .ok (.iconst 1, 1) := dk_4 (dk_at dksX4_tier_5 7 rfl rfl)
theorem dX4_tier_123 : decode cX4_tier 123 = .ok (.iload_n 1, 1) := dk_27 (dk_at dksX4_tier_5 8 rfl rfl)
theorem dX4_tier_124 : decode cX4_tier 124 = .ok (.ishl, 1) := dk_120 (dk_at dksX4_tier_5 9 rfl rfl)
theorem dX4_tier_125 : decode cX4_tier 125 = .ok (.iconst (-1), 1) := dk_2 (dk_at dksX4_tier_5 10 rfl rfl)
theorem dX4_tier_126 : decode cX4_tier 126 = .ok (.ixor, 1) := dk_130 (dk_at dksX4_tier_5 11 rfl rfl)
theorem dX4_tier_127 : decode cX4_tier 127 = .ok (.iand, 1) := dk_126 (dk_at dksX4_tier_5 12 rfl rfl)
theorem dX4_tier_128 : decode cX4_tier 128 = .ok (.ireturn, 1) := dk_172 (dk_at dksX4_tier_5 13 rfl rfl)
abbrev cX4_ways : ByteArray := prog_12_method_98_code
def yX4_ways : MethodName := ⟨RX4, "ways", "(II)I"⟩
def dkwX4_ways_4 : List UInt8 := [132, 3, 1, 167, 255, 184, 42, 180, 0, 93, 28, 46, 172]
abbrev dktX4_ways_4 : List UInt8 := dkwX4_ways_4 ++ []
def dkwX4_ways_3 : List UInt8 := [153, 0, 13, 42, 180, 0, 93, 21, 4, 46, 167, 0, 4, 3, 96, 79, 132, 4, 1, 167, 255, 217]
abbrev dktX4_ways_3 : List UInt8 := dkwX4_ways_3 ++ dktX4_ways_4
def dkwX4_ways_2 : List UInt8 := [79, 3, 54, 4, 21, 4, 29, 162, 0, 39, 42, 180, 0, 93, 29, 92, 46, 42, 21, 4, 29, 182, 1, 73]
abbrev dktX4_ways_2 : List UInt8 := dkwX4_ways_2 ++ dktX4_ways_3
def dkwX4_ways_1 : List UInt8 := [62, 29, 42, 180, 1, 13, 162, 0, 70, 42, 180, 0, 93, 29, 29, 27, 160, 0, 7, 4, 167, 0, 4, 3]
abbrev dktX4_ways_1 : List UInt8 := dkwX4_ways_1 ++ dktX4_ways_2
def dkwX4_ways_0 : List UInt8 := [42, 3, 181, 0, 114, 42, 27, 182, 1, 95, 153, 0, 11, 42, 28, 182, 1, 95, 154, 0, 5, 3, 172, 3]
abbrev dktX4_ways_0 : List UInt8 := dkwX4_ways_0 ++ dktX4_ways_1
theorem dksX4_ways_0 : cX4_ways.data.toList.drop 0 = dktX4_ways_0 := by decide +kernel
theorem dksX4_ways_1 : cX4_ways.data.toList.drop 24 = dktX4_ways_1 := dk_seg dksX4_ways_0 24 rfl rfl
theorem dksX4_ways_2 : cX4_ways.data.toList.drop 48 = dktX4_ways_2 := dk_seg dksX4_ways_1 24 rfl rfl
theorem dksX4_ways_3 : cX4_ways.data.toList.drop 72 = dktX4_ways_3 := dk_seg dksX4_ways_2 24 rfl rfl
theorem dksX4_ways_4 : cX4_ways.data.toList.drop 94 = dktX4_ways_4 := dk_seg dksX4_ways_3 22 rfl rfl
theorem dX4_ways_0 : decode cX4_ways 0 = .ok (.aload_n 0, 1) := dk_42 (dk_at dksX4_ways_0 0 rfl rfl)
theorem dX4_ways_1 : decode cX4_ways 1 = .ok (.iconst 0, 1) := dk_3 (dk_at dksX4_ways_0 1 rfl rfl)
theorem dX4_ways_2 : decode cX4_ways 2 = .ok (.putfield 114, 3) := dk_181 0 114 (dk_at dksX4_ways_0 2 rfl rfl)
theorem dX4_ways_5 : decode cX4_ways 5 = .ok (.aload_n 0, 1) := dk_42 (dk_at dksX4_ways_0 5 rfl rfl)
theorem dX4_ways_6 : decode cX4_ways 6 = .ok (.iload_n 1, 1) := dk_27 (dk_at dksX4_ways_0 6 rfl rfl)
theorem dX4_ways_7 : decode cX4_ways 7 = .ok (.invokevirtual 351, 3) := dk_182 1 95 (dk_at dksX4_ways_0 7 rfl rfl)
theorem dX4_ways_10 : decode cX4_ways 10 = .ok (.ifCond .eq 11, 3) := dk_153 0 11 (dk_at dksX4_ways_0 10 rfl rfl)
theorem dX4_ways_13 : decode cX4_ways 13 = .ok (.aload_n 0, 1) := dk_42 (dk_at dksX4_ways_0 13 rfl rfl)
theorem dX4_ways_14 : decode cX4_ways 14 = .ok (.iload_n 2, 1) := dk_28 (dk_at dksX4_ways_0 14 rfl rfl)
theorem dX4_ways_15 : decode cX4_ways 15 = .ok (.invokevirtual 351, 3) := dk_182 1 95 (dk_at dksX4_ways_0 15 rfl rfl)
theorem dX4_ways_18 : decode cX4_ways 18 = .ok (.ifCond .ne 5, 3) := dk_154 0 5 (dk_at dksX4_ways_0 18 rfl rfl)
theorem dX4_ways_21 : decode cX4_ways 21 = .ok (.iconst 0, 1) := dk_3 (dk_at dksX4_ways_0 21 rfl rfl)
theorem dX4_ways_22 : decode cX4_ways 22 = .ok (.ireturn, 1) := dk_172 (dk_at dksX4_ways_0 22 rfl rfl)
theorem dX4_ways_23 : decode cX4_ways 23 = .ok (.iconst 0, 1) := dk_3 (dk_at dksX4_ways_0 23 rfl rfl)
theorem dX4_ways_24 : decode cX4_ways 24 = .ok (.istore_n 3, 1) := dk_62 (dk_at dksX4_ways_1 0 rfl rfl)
theorem dX4_ways_25 : decode cX4_ways 25 = .ok (.iload_n 3, 1) := dk_29 (dk_at dksX4_ways_1 1 rfl rfl)
theorem dX4_ways_26 : decode cX4_ways 26 = .ok (.aload_n 0, 1) := dk_42 (dk_at dksX4_ways_1 2 rfl rfl)
theorem dX4_ways_27 : decode cX4_ways 27 = .ok (.getfield 269, 3) := dk_180 1 13 (dk_at dksX4_ways_1 3 rfl rfl)
theorem dX4_ways_30 : decode cX4_ways 30 = .ok (.if_icmp .ge 70, 3) := dk_162 0 70 (dk_at dksX4_ways_1 6 rfl rfl)
theorem dX4_ways_33 : decode cX4_ways 33 = .ok (.aload_n 0, 1) := dk_42 (dk_at dksX4_ways_1 9 rfl rfl)
theorem dX4_ways_34 : decode cX4_ways 34 = .ok (.getfield 93, 3) := dk_180 0 93 (dk_at dksX4_ways_1 10 rfl rfl)
theorem dX4_ways_37 : decode cX4_ways 37 = .ok (.iload_n 3, 1) := dk_29 (dk_at dksX4_ways_1 13 rfl rfl)
theorem dX4_ways_38 : decode cX4_ways 38 = .ok (.iload_n 3, 1) := dk_29 (dk_at dksX4_ways_1 14 rfl rfl)
theorem dX4_ways_39 : decode cX4_ways 39 = .ok (.iload_n 1, 1) := dk_27 (dk_at dksX4_ways_1 15 rfl rfl)
theorem dX4_ways_40 : decode cX4_ways 40 = .ok (.if_icmp .ne 7, 3) := dk_160 0 7 (dk_at dksX4_ways_1 16 rfl rfl)
theorem dX4_ways_43 : decode cX4_ways 43 = .ok (.iconst 1, 1) := dk_4 (dk_at dksX4_ways_1 19 rfl rfl)
theorem dX4_ways_44 : decode cX4_ways 44 = .ok (.goto 4, 3) := dk_167 0 4 (dk_at dksX4_ways_1 20 rfl rfl)
theorem dX4_ways_47 : decode cX4_ways 47 = .ok (.iconst 0, 1) := dk_3 (dk_at dksX4_ways_1 23 rfl rfl)
theorem dX4_ways_48 : decode cX4_ways 48 = .ok (.iastore, 1) := dk_79 (dk_at dksX4_ways_2 0 rfl rfl)
theorem dX4_ways_49 : decode cX4_ways 49 = .ok (.iconst 0, 1) := dk_3 (dk_at dksX4_ways_2 1 rfl rfl)
theorem dX4_ways_50 : decode cX4_ways 50 = .ok (.istore 4, 2) := dk_54 4 (dk_at dksX4_ways_2 2 rfl rfl)
theorem dX4_ways_52 : decode cX4_ways 52 = .ok (.iload 4, 2) := dk_21 4 (dk_at dksX4_ways_2 4 rfl rfl)
theorem dX4_ways_54 : decode cX4_ways 54 = .ok (.iload_n 3, 1) := dk_29 (dk_at dksX4_ways_2 6 rfl rfl)
theorem dX4_ways_55 : decode cX4_ways 55 = .ok (.if_icmp .ge 39, 3) := dk_162 0 39 (dk_at dksX4_ways_2 7 rfl rfl)
theorem dX4_ways_58 : decode cX4_ways 58 = .ok (.aload_n 0, 1) := dk_42 (dk_at dksX4_ways_2 10 rfl rfl)
theorem dX4_ways_59 : decode cX4_ways 59 = .ok (.getfield 93, 3) := dk_180 0 93 (dk_at dksX4_ways_2 11 rfl rfl)
theorem dX4_ways_62 : decode cX4_ways 62 = .ok (.iload_n 3, 1) := dk_29 (dk_at dksX4_ways_2 14 rfl rfl)
theorem dX4_ways_63 : decode cX4_ways 63 = .ok (.dup2, 1) := dk_92 (dk_at dksX4_ways_2 15 rfl rfl)
theorem dX4_ways_64 : decode cX4_ways 64 = .ok (.iaload, 1) := dk_46 (dk_at dksX4_ways_2 16 rfl rfl)
theorem dX4_ways_65 : decode cX4_ways 65 = .ok (.aload_n 0, 1) := dk_42 (dk_at dksX4_ways_2 17 rfl rfl)
theorem dX4_ways_66 : decode cX4_ways 66 = .ok (.iload 4, 2) := dk_21 4 (dk_at dksX4_ways_2 18 rfl rfl)
theorem dX4_ways_68 : decode cX4_ways 68 = .ok (.iload_n 3, 1) := dk_29 (dk_at dksX4_ways_2 20 rfl rfl)
theorem dX4_ways_69 : decode cX4_ways 69 = .ok (.invokevirtual 329, 3) := dk_182 1 73 (dk_at dksX4_ways_2 21 rfl rfl)
theorem dX4_ways_72 : decode cX4_ways 72 = .ok (.ifCond .eq 13, 3) := dk_153 0 13 (dk_at dksX4_ways_3 0 rfl rfl)
theorem dX4_ways_75 : decode cX4_ways 75 = .ok (.aload_n 0, 1) := dk_42 (dk_at dksX4_ways_3 3 rfl rfl)
theorem dX4_ways_76 : decode cX4_ways 76 = .ok (.getfield 93, 3) := dk_180 0 93 (dk_at dksX4_ways_3 4 rfl rfl)
theorem dX4_ways_79 : decode cX4_ways 79 = .ok (.iload 4, 2) := dk_21 4 (dk_at dksX4_ways_3 7 rfl rfl)
theorem dX4_ways_81 : decode cX4_ways 81 = .ok (.iaload, 1) := dk_46 (dk_at dksX4_ways_3 9 rfl rfl)
theorem dX4_ways_82 : decode cX4_ways 82 = .ok (.goto 4, 3) := dk_167 0 4 (dk_at dksX4_ways_3 10 rfl rfl)
theorem dX4_ways_85 : decode cX4_ways 85 = .ok (.iconst 0, 1) := dk_3 (dk_at dksX4_ways_3 13 rfl rfl)
theorem dX4_ways_86 : decode cX4_ways 86 = .ok (.iadd, 1) := dk_96 (dk_at dksX4_ways_3 14 rfl rfl)
theorem dX4_ways_87 : decode cX4_ways 87 = .ok (.iastore, 1) := dk_79 (dk_at dksX4_ways_3 15 rfl rfl)
theorem dX4_ways_88 : decode cX4_ways 88 = .ok (.iinc 4 1, 3) := dk_132 4 1 (dk_at dksX4_ways_3 16 rfl rfl)
theorem dX4_ways_91 : decode cX4_ways 91 = .ok (.goto (-39), 3) := dk_167 255 217 (dk_at dksX4_ways_3 19 rfl rfl)
theorem dX4_ways_94 : decode cX4_ways 94 = .ok (.iinc 3 1, 3) := dk_132 3 1 (dk_at dksX4_ways_4 0 rfl rfl)
theorem dX4_ways_97 : decode cX4_ways 97 = .ok (.goto (-72), 3) := dk_167 255 184 (dk_at dksX4_ways_4 3 rfl rfl)
theorem dX4_ways_100 : decode cX4_ways 100 = .ok (.aload_n 0, 1) := dk_42 (dk_at dksX4_ways_4 6 rfl rfl)
theorem dX4_ways_101 : decode cX4_ways 101 = .ok (.getfield 93, 3) := dk_180 0 93 (dk_at dksX4_ways_4 7 rfl rfl)
theorem dX4_ways_104 : decode cX4_ways 104 = .ok (.iload_n 2, 1) := dk_28 (dk_at dksX4_ways_4 10 rfl rfl)
theorem dX4_ways_105 : decode cX4_ways 105 = .ok (.iaload, 1) := dk_46 (dk_at dksX4_ways_4 11 rfl rfl)
theorem dX4_ways_106 : decode cX4_ways 106 = .ok (.ireturn, 1) := dk_172 (dk_at dksX4_ways_4 12 rfl rfl)
abbrev cX4_toCrack : ByteArray := prog_12_method_99_code
def yX4_toCrack : MethodName := ⟨RX4, "toCrack", "(IIII)I"⟩
def dkwX4_toCrack_7 : List UInt8 := [167, 255, 155, 21, 4, 154, 0, 8, 21, 5, 167, 0, 5, 21, 6, 172]
abbrev dktX4_toCrack_7 : List UInt8 := dkwX4_toCrack_7 ++ []
def dkwX4_toCrack_6 : List UInt8 := [159, 0, 13, 21, 9, 21, 6, 161, 0, 6, 167, 0, 11, 21, 7, 54, 5, 21, 9, 54, 6, 132, 7, 1]
abbrev dktX4_toCrack_6 : List UInt8 := dkwX4_toCrack_6 ++ dktX4_toCrack_7
def dkwX4_toCrack_5 : List UInt8 := [21, 8, 28, 164, 0, 10, 21, 8, 28, 100, 167, 0, 7, 28, 21, 8, 100, 54, 9, 21, 5, 2]
abbrev dktX4_toCrack_5 : List UInt8 := dkwX4_toCrack_5 ++ dktX4_toCrack_6
def dkwX4_toCrack_4 : List UInt8 := [42, 16, 64, 182, 1, 67, 21, 8, 42, 180, 0, 66, 27, 46, 96, 54, 8, 132, 9, 1, 167, 255, 230]
abbrev dktX4_toCrack_4 : List UInt8 := dkwX4_toCrack_4 ++ dktX4_toCrack_5
def dkwX4_toCrack_3 : List UInt8 := [182, 1, 125, 42, 16, 64, 27, 21, 7, 182, 1, 119, 3, 54, 8, 3, 54, 9, 21, 9, 29, 162, 0, 26]
abbrev dktX4_toCrack_3 : List UInt8 := dkwX4_toCrack_3 ++ dktX4_toCrack_4
def dkwX4_toCrack_2 : List UInt8 := [154, 0, 5, 3, 172, 2, 54, 5, 3, 54, 6, 4, 54, 7, 21, 7, 16, 30, 163, 0, 100, 42]
abbrev dktX4_toCrack_2 : List UInt8 := dkwX4_toCrack_2 ++ dktX4_toCrack_3
def dkwX4_toCrack_1 : List UInt8 := [28, 155, 0, 17, 29, 4, 16, 60, 184, 1, 76, 153, 0, 7, 4, 167, 0, 4, 3, 5, 182, 1, 6]
abbrev dktX4_toCrack_1 : List UInt8 := dkwX4_toCrack_1 ++ dktX4_toCrack_2
def dkwX4_toCrack_0 : List UInt8 := [42, 3, 181, 0, 114, 42, 27, 182, 1, 95, 153, 0, 40, 42, 21, 4, 4, 182, 1, 98, 153, 0, 30, 42]
abbrev dktX4_toCrack_0 : List UInt8 := dkwX4_toCrack_0 ++ dktX4_toCrack_1
theorem dksX4_toCrack_0 : cX4_toCrack.data.toList.drop 0 = dktX4_toCrack_0 := by decide +kernel
theorem dksX4_toCrack_1 : cX4_toCrack.data.toList.drop 24 = dktX4_toCrack_1 := dk_seg dksX4_toCrack_0 24 rfl rfl
theorem dksX4_toCrack_2 : cX4_toCrack.data.toList.drop 47 = dktX4_toCrack_2 := dk_seg dksX4_toCrack_1 23 rfl rfl
theorem dksX4_toCrack_3 : cX4_toCrack.data.toList.drop 69 = dktX4_toCrack_3 := dk_seg dksX4_toCrack_2 22 rfl rfl
theorem dksX4_toCrack_4 : cX4_toCrack.data.toList.drop 93 = dktX4_toCrack_4 := dk_seg dksX4_toCrack_3 24 rfl rfl
theorem dksX4_toCrack_5 : cX4_toCrack.data.toList.drop 116 = dktX4_toCrack_5 := dk_seg dksX4_toCrack_4 23 rfl rfl
theorem dksX4_toCrack_6 : cX4_toCrack.data.toList.drop 138 = dktX4_toCrack_6 := dk_seg dksX4_toCrack_5 22 rfl rfl
theorem dksX4_toCrack_7 : cX4_toCrack.data.toList.drop 162 = dktX4_toCrack_7 := dk_seg dksX4_toCrack_6 24 rfl rfl
theorem dX4_toCrack_0 : decode cX4_toCrack 0 = .ok (.aload_n 0, 1) := dk_42 (dk_at dksX4_toCrack_0 0 rfl rfl)
theorem dX4_toCrack_1 : decode cX4_toCrack 1 = .ok (.iconst 0, 1) := dk_3 (dk_at dksX4_toCrack_0 1 rfl rfl)
theorem dX4_toCrack_2 : decode cX4_toCrack 2 = .ok (.putfield 114, 3) := dk_181 0 114 (dk_at dksX4_toCrack_0 2 rfl rfl)
theorem dX4_toCrack_5 : decode cX4_toCrack 5 = .ok (.aload_n 0, 1) := dk_42 (dk_at dksX4_toCrack_0 5 rfl rfl)
theorem dX4_toCrack_6 : decode cX4_toCrack 6 = .ok (.iload_n 1, 1) := dk_27 (dk_at dksX4_toCrack_0 6 rfl rfl)
theorem dX4_toCrack_7 : decode cX4_toCrack 7 = .ok (.invokevirtual 351, 3) := dk_182 1 95 (dk_at dksX4_toCrack_0 7 rfl rfl)
theorem dX4_toCrack_10 : decode cX4_toCrack 10 = .ok (.ifCond .eq 40, 3) := dk_153 0 40 (dk_at dksX4_toCrack_0 10 rfl rfl)
theorem dX4_toCrack_13 : decode cX4_toCrack 13 = .ok (.aload_n 0, 1) := dk_42 (dk_at dksX4_toCrack_0 13 rfl rfl)
theorem dX4_toCrack_14 : decode cX4_toCrack 14 = .ok (.iload 4, 2) := dk_21 4 (dk_at dksX4_toCrack_0 14 rfl rfl)
theorem dX4_toCrack_16 : decode cX4_toCrack 16 = .ok (.iconst 1, 1) := dk_4 (dk_at dksX4_toCrack_0 16 rfl rfl)
theorem dX4_toCrack_17 : decode cX4_toCrack 17 = .ok (.invokevirtual 354, 3) := dk_182 1 98 (dk_at dksX4_toCrack_0 17 rfl rfl)
theorem dX4_toCrack_20 : decode cX4_toCrack 20 = .ok (.ifCond .eq 30, 3) := dk_153 0 30 (dk_at dksX4_toCrack_0 20 rfl rfl)
theorem dX4_toCrack_23 : decode cX4_toCrack 23 = .ok (.aload_n 0, 1) := dk_42 (dk_at dksX4_toCrack_0 23 rfl rfl)
theorem dX4_toCrack_24 : decode cX4_toCrack 24 = .ok (.iload_n 2, 1) := dk_28 (dk_at dksX4_toCrack_1 0 rfl rfl)
theorem dX4_toCrack_25 : decode cX4_toCrack 25 = .ok (.ifCond .lt 17, 3) := dk_155 0 17 (dk_at dksX4_toCrack_1 1 rfl rfl)
theorem dX4_toCrack_28 : decode cX4_toCrack 28 = .ok (.iload_n 3, 1) := dk_29 (dk_at dksX4_toCrack_1 4 rfl rfl)
theorem dX4_toCrack_29 : decode cX4_toCrack 29 = .ok (.iconst 1, 1) := dk_4 (dk_at dksX4_toCrack_1 5 rfl rfl)
theorem dX4_toCrack_30 : decode cX4_toCrack 30 = .ok (.bipush 60, 2) := dk_16 60 (dk_at dksX4_toCrack_1 6 rfl rfl)
theorem dX4_toCrack_32 : decode cX4_toCrack 32 = .ok (.invokestatic 332, 3) := dk_184 1 76 (dk_at dksX4_toCrack_1 8 rfl rfl)
theorem dX4_toCrack_35 : decode cX4_toCrack 35 = .ok (.ifCond .eq 7, 3) := dk_153 0 7 (dk_at dksX4_toCrack_1 11 rfl rfl)
theorem dX4_toCrack_38 : decode cX4_toCrack 38 = .ok (.iconst 1, 1) := dk_4 (dk_at dksX4_toCrack_1 14 rfl rfl)
theorem dX4_toCrack_39 : decode cX4_toCrack 39 = .ok (.goto 4, 3) := dk_167 0 4 (dk_at dksX4_toCrack_1 15 rfl rfl)
theorem dX4_toCrack_42 : decode cX4_toCrack 42 = .ok (.iconst 0, 1) := dk_3 (dk_at dksX4_toCrack_1 18 rfl rfl)
theorem dX4_toCrack_43 : decode cX4_toCrack 43 = .ok (.iconst 2, 1) := dk_5 (dk_at dksX4_toCrack_1 19 rfl rfl)
theorem dX4_toCrack_44 : decode cX4_toCrack 44 = .ok (.invokevirtual 262, 3) := dk_182 1 6 (dk_at dksX4_toCrack_1 20 rfl rfl)
theorem dX4_toCrack_47 : decode cX4_toCrack 47 = .ok (.ifCond .ne 5, 3) := dk_154 0 5 (dk_at dksX4_toCrack_2 0 rfl rfl)
theorem dX4_toCrack_50 : decode cX4_toCrack 50 = .ok (.iconst 0, 1) := dk_3 (dk_at dksX4_toCrack_2 3 rfl rfl)
theorem dX4_toCrack_51 : decode cX4_toCrack 51 = .ok (.ireturn, 1) := dk_172 (dk_at dksX4_toCrack_2 4 rfl rfl)
theorem dX4_toCrack_52 : decode cX4_toCrack 52 = .ok (.iconst (-1), 1) := dk_2 (dk_at dksX4_toCrack_2 5 rfl rfl)
theorem dX4_toCrack_53 : decode cX4_toCrack 53 = .ok (.istore 5, 2) := dk_54 5 (dk_at dksX4_toCrack_2 6 rfl rfl)
theorem dX4_toCrack_55 : decode cX4_toCrack 55 = .ok (.iconst 0, 1) := dk_3 (dk_at dksX4_toCrack_2 8 rfl rfl)
theorem dX4_toCrack_56 : decode cX4_toCrack 56 = .ok (.istore 6, 2) := dk_54 6 (dk_at dksX4_toCrack_2 9 rfl rfl)
theorem dX4_toCrack_58 : decode cX4_toCrack 58 = .ok (.iconst 1, 1) := dk_4 (dk_at dksX4_toCrack_2 11 rfl rfl)
theorem dX4_toCrack_59 : decode cX4_toCrack 59 = .ok (.istore 7, 2) := dk_54 7 (dk_at dksX4_toCrack_2 12 rfl rfl)
theorem dX4_toCrack_61 : decode cX4_toCrack 61 = .ok (.iload 7, 2) := dk_21 7 (dk_at dksX4_toCrack_2 14 rfl rfl)
theorem dX4_toCrack_63 : decode cX4_toCrack 63 = .ok (.bipush 30, 2) := dk_16 30 (dk_at dksX4_toCrack_2 16 rfl rfl)
theorem dX4_toCrack_65 : decode cX4_toCrack 65 = .ok (.if_icmp .gt 100, 3) := dk_163 0 100 (dk_at dksX4_toCrack_2 18 rfl rfl)
theorem dX4_toCrack_68 : decode cX4_toCrack 68 = .ok (.aload_n 0, 1) := dk_42 (dk_at dksX4_toCrack_2 21 rfl rfl)
theorem dX4_toCrack_69 : decode cX4_toCrack 69 = .ok (.invokevirtual 381, 3) := dk_182 1 125 (dk_at dksX4_toCrack_3 0 rfl rfl)
theorem dX4_toCrack_72 : decode cX4_toCrack 72 = .ok (.aload_n 0, 1) := dk_42 (dk_at dksX4_toCrack_3 3 rfl rfl)
theorem dX4_toCrack_73 : decode cX4_toCrack 73 = .ok (.bipush 64, 2) := dk_16 64 (dk_at dksX4_toCrack_3 4 rfl rfl)
theorem dX4_toCrack_75 : decode cX4_toCrack 75 = .ok (.iload_n 1, 1) := dk_27 (dk_at dksX4_toCrack_3 6 rfl rfl)
theorem dX4_toCrack_76 : decode cX4_toCrack 76 = .ok (.iload 7, 2) := dk_21 7 (dk_at dksX4_toCrack_3 7 rfl rfl)
theorem dX4_toCrack_78 : decode cX4_toCrack 78 = .ok (.invokevirtual 375, 3) := dk_182 1 119 (dk_at dksX4_toCrack_3 9 rfl rfl)
theorem dX4_toCrack_81 : decode cX4_toCrack 81 = .ok (.iconst 0, 1) := dk_3 (dk_at dksX4_toCrack_3 12 rfl rfl)
theorem dX4_toCrack_82 : decode cX4_toCrack 82 = .ok (.istore 8, 2) := dk_54 8 (dk_at dksX4_toCrack_3 13 rfl rfl)
theorem dX4_toCrack_84 : decode cX4_toCrack 84 = .ok (.iconst 0, 1) := dk_3 (dk_at dksX4_toCrack_3 15 rfl rfl)
theorem dX4_toCrack_85 : decode cX4_toCrack 85 = .ok (.istore 9, 2) := dk_54 9 (dk_at dksX4_toCrack_3 16 rfl rfl)
theorem dX4_toCrack_87 : decode cX4_toCrack 87 = .ok (.iload 9, 2) := dk_21 9 (dk_at dksX4_toCrack_3 18 rfl rfl)
theorem dX4_toCrack_89 : decode cX4_toCrack 89 = .ok (.iload_n 3, 1) := dk_29 (dk_at dksX4_toCrack_3 20 rfl rfl)
theorem dX4_toCrack_90 : decode cX4_toCrack 90 = .ok (.if_icmp .ge 26, 3) := dk_162 0 26 (dk_at dksX4_toCrack_3 21 rfl rfl)
theorem dX4_toCrack_93 : decode cX4_toCrack 93 = .ok (.aload_n 0, 1) := dk_42 (dk_at dksX4_toCrack_4 0 rfl rfl)
theorem dX4_toCrack_94 : decode cX4_toCrack 94 = .ok (.bipush 64, 2) := dk_16 64 (dk_at dksX4_toCrack_4 1 rfl rfl)
theorem dX4_toCrack_96 : decode cX4_toCrack 96 = .ok (.invokevirtual 323, 3) := dk_182 1 67 (dk_at dksX4_toCrack_4 3 rfl rfl)
theorem dX4_toCrack_99 : decode cX4_toCrack 99 = .ok (.iload 8, 2) := dk_21 8 (dk_at dksX4_toCrack_4 6 rfl rfl)
theorem dX4_toCrack_101 : decode cX4_toCrack 101 = .ok (.aload_n 0, 1) := dk_42 (dk_at dksX4_toCrack_4 8 rfl rfl)
theorem dX4_toCrack_102 : decode cX4_toCrack 102 = .ok (.getfield 66, 3) := dk_180 0 66 (dk_at dksX4_toCrack_4 9 rfl rfl)
theorem dX4_toCrack_105 : decode cX4_toCrack 105 = .ok (.iload_n 1, 1) := dk_27 (dk_at dksX4_toCrack_4 12 rfl rfl)
theorem dX4_toCrack_106 : decode cX4_toCrack 106 = .ok (.iaload, 1) := dk_46 (dk_at dksX4_toCrack_4 13 rfl rfl)
theorem dX4_toCrack_107 : decode cX4_toCrack 107 = .ok (.iadd, 1) := dk_96 (dk_at dksX4_toCrack_4 14 rfl rfl)
theorem dX4_toCrack_108 : decode cX4_toCrack 108 = .ok (.istore 8, 2) := dk_54 8 (dk_at dksX4_toCrack_4 15 rfl rfl)
theorem dX4_toCrack_110 : decode cX4_toCrack 110 = .ok (.iinc 9 1, 3) := dk_132 9 1 (dk_at dksX4_toCrack_4 17 rfl rfl)
theorem dX4_toCrack_113 : decode cX4_toCrack 113 = .ok (.goto (-26), 3) := dk_167 255 230 (dk_at dksX4_toCrack_4 20 rfl rfl)
theorem dX4_toCrack_116 : decode cX4_toCrack 116 = .ok (.iload 8, 2) := dk_21 8 (dk_at dksX4_toCrack_5 0 rfl rfl)
theorem dX4_toCrack_118 : decode cX4_toCrack 118 = .ok (.iload_n 2, 1) := dk_28 (dk_at dksX4_toCrack_5 2 rfl rfl)
theorem dX4_toCrack_119 : decode cX4_toCrack 119 = .ok (.if_icmp .le 10, 3) := dk_164 0 10 (dk_at dksX4_toCrack_5 3 rfl rfl)
theorem dX4_toCrack_122 : decode cX4_toCrack 122 = .ok (.iload 8, 2) := dk_21 8 (dk_at dksX4_toCrack_5 6 rfl rfl)
theorem dX4_toCrack_124 : decode cX4_toCrack 124 = .ok (.iload_n 2, 1) := dk_28 (dk_at dksX4_toCrack_5 8 rfl rfl)
theorem dX4_toCrack_125 : decode cX4_toCrack 125 = .ok (.isub, 1) := dk_100 (dk_at dksX4_toCrack_5 9 rfl rfl)
theorem dX4_toCrack_126 : decode cX4_toCrack 126 = .ok (.goto 7, 3) := dk_167 0 7 (dk_at dksX4_toCrack_5 10 rfl rfl)
theorem dX4_toCrack_129 : decode cX4_toCrack 129 = .ok (.iload_n 2, 1) := dk_28 (dk_at dksX4_toCrack_5 13 rfl rfl)
theorem dX4_toCrack_130 : decode cX4_toCrack 130 = .ok (.iload 8, 2) := dk_21 8 (dk_at dksX4_toCrack_5 14 rfl rfl)
theorem dX4_toCrack_132 : decode cX4_toCrack 132 = .ok (.isub, 1) := dk_100 (dk_at dksX4_toCrack_5 16 rfl rfl)
theorem dX4_toCrack_133 : decode cX4_toCrack 133 = .ok (.istore 9, 2) := dk_54 9 (dk_at dksX4_toCrack_5 17 rfl rfl)
theorem dX4_toCrack_135 : decode cX4_toCrack 135 = .ok (.iload 5, 2) := dk_21 5 (dk_at dksX4_toCrack_5 19 rfl rfl)
theorem dX4_toCrack_137 : decode cX4_toCrack 137 = .ok (.iconst (-1), 1) := dk_2 (dk_at dksX4_toCrack_5 21 rfl rfl)
theorem dX4_toCrack_138 : decode cX4_toCrack 138 = .ok (.if_icmp .eq 13, 3) := dk_159 0 13 (dk_at dksX4_toCrack_6 0 rfl rfl)
theorem dX4_toCrack_141 : decode cX4_toCrack 141 = .ok (.iload 9, 2) := dk_21 9 (dk_at dksX4_toCrack_6 3 rfl rfl)
theorem dX4_toCrack_143 : decode cX4_toCrack 143 = .ok (.iload 6, 2) := dk_21 6 (dk_at dksX4_toCrack_6 5 rfl rfl)
theorem dX4_toCrack_145 : decode cX4_toCrack 145 = .ok (.if_icmp .lt 6, 3) := dk_161 0 6 (dk_at dksX4_toCrack_6 7 rfl rfl)
theorem dX4_toCrack_148 : decode cX4_toCrack 148 = .ok (.goto 11, 3) := dk_167 0 11 (dk_at dksX4_toCrack_6 10 rfl rfl)
theorem dX4_toCrack_151 : decode cX4_toCrack 151 = .ok (.iload 7, 2) := dk_21 7 (dk_at dksX4_toCrack_6 13 rfl rfl)
theorem dX4_toCrack_153 : decode cX4_toCrack 153 = .ok (.istore 5, 2) := dk_54 5 (dk_at dksX4_toCrack_6 15 rfl rfl)
theorem dX4_toCrack_155 : decode cX4_toCrack 155 = .ok (.iload 9, 2) := dk_21 9 (dk_at dksX4_toCrack_6 17 rfl rfl)
theorem dX4_toCrack_157 : decode cX4_toCrack 157 = .ok (.istore 6, 2) := dk_54 6 (dk_at dksX4_toCrack_6 19 rfl rfl)
theorem dX4_toCrack_159 : decode cX4_toCrack 159 = .ok (.iinc 7 1, 3) := dk_132 7 1 (dk_at dksX4_toCrack_6 21 rfl rfl)
theorem dX4_toCrack_162 : decode cX4_toCrack 162 = .ok (.goto (-101), 3) := dk_167 255 155 (dk_at dksX4_toCrack_7 0 rfl rfl)
theorem dX4_toCrack_165 : decode cX4_toCrack 165 = .ok (.iload 4, 2) := dk_21 4 (dk_at dksX4_toCrack_7 3 rfl rfl)
theorem dX4_toCrack_167 : decode cX4_toCrack 167 = .ok (.ifCond .ne 8, 3) := dk_154 0 8 (dk_at dksX4_toCrack_7 5 rfl rfl)
theorem dX4_toCrack_170 : decode cX4_toCrack 170 = .ok (.iload 5, 2) := dk_21 5 (dk_at dksX4_toCrack_7 8 rfl rfl)
theorem dX4_toCrack_172 : decode cX4_toCrack 172 = .ok (.goto 5, 3) := dk_167 0 5 (dk_at dksX4_toCrack_7 10 rfl rfl)
theorem dX4_toCrack_175 : decode cX4_toCrack 175 = .ok (.iload 6, 2) := dk_21 6 (dk_at dksX4_toCrack_7 13 rfl rfl)
theorem dX4_toCrack_177 : decode cX4_toCrack 177 = .ok (.ireturn, 1) := dk_172 (dk_at dksX4_toCrack_7 15 rfl rfl)
abbrev cX4_toPour : ByteArray := prog_12_method_100_code
def yX4_toPour : MethodName := ⟨RX4, "toPour", "(II)I"⟩
def dkwX4_toPour_3 : List UInt8 := [160, 0, 5, 29, 172, 132, 3, 1, 167, 255, 211, 2, 172]
abbrev dktX4_toPour_3 : List UInt8 := dkwX4_toPour_3 ++ []
def dkwX4_toPour_2 : List UInt8 := [42, 16, 64, 27, 29, 182, 1, 116, 87, 42, 28, 182, 1, 128, 42, 180, 1, 44, 27, 122, 4, 126, 4]
abbrev dktX4_toPour_2 : List UInt8 := dkwX4_toPour_2 ++ dktX4_toPour_3
def dkwX4_toPour_1 : List UInt8 := [182, 1, 6, 154, 0, 5, 3, 172, 3, 62, 29, 16, 50, 163, 0, 45, 42, 182, 1, 125, 29, 158, 0, 12]
abbrev dktX4_toPour_1 : List UInt8 := dkwX4_toPour_1 ++ dktX4_toPour_2
def dkwX4_toPour_0 : List UInt8 := [42, 3, 181, 0, 114, 42, 27, 182, 1, 95, 153, 0, 18, 42, 28, 4, 16, 60, 184, 1, 76, 5]
abbrev dktX4_toPour_0 : List UInt8 := dkwX4_toPour_0 ++ dktX4_toPour_1
theorem dksX4_toPour_0 : cX4_toPour.data.toList.drop 0 = dktX4_toPour_0 := by decide +kernel
theorem dksX4_toPour_1 : cX4_toPour.data.toList.drop 22 = dktX4_toPour_1 := dk_seg dksX4_toPour_0 22 rfl rfl
theorem dksX4_toPour_2 : cX4_toPour.data.toList.drop 46 = dktX4_toPour_2 := dk_seg dksX4_toPour_1 24 rfl rfl
theorem dksX4_toPour_3 : cX4_toPour.data.toList.drop 69 = dktX4_toPour_3 := dk_seg dksX4_toPour_2 23 rfl rfl
theorem dX4_toPour_0 : decode cX4_toPour 0 = .ok (.aload_n 0, 1) := dk_42 (dk_at dksX4_toPour_0 0 rfl rfl)
theorem dX4_toPour_1 : decode cX4_toPour 1 = .ok (.iconst 0, 1) := dk_3 (dk_at dksX4_toPour_0 1 rfl rfl)
theorem dX4_toPour_2 : decode cX4_toPour 2 = .ok (.putfield 114, 3) := dk_181 0 114 (dk_at dksX4_toPour_0 2 rfl rfl)
theorem dX4_toPour_5 : decode cX4_toPour 5 = .ok (.aload_n 0, 1) := dk_42 (dk_at dksX4_toPour_0 5 rfl rfl)
theorem dX4_toPour_6 : decode cX4_toPour 6 = .ok (.iload_n 1, 1) := dk_27 (dk_at dksX4_toPour_0 6 rfl rfl)
theorem dX4_toPour_7 : decode cX4_toPour 7 = .ok (.invokevirtual 351, 3) := dk_182 1 95 (dk_at dksX4_toPour_0 7 rfl rfl)
theorem dX4_toPour_10 : decode cX4_toPour 10 = .ok (.ifCond .eq 18, 3) := dk_153 0 18 (dk_at dksX4_toPour_0 10 rfl rfl)
theorem dX4_toPour_13 : decode cX4_toPour 13 = .ok (.aload_n 0, 1) := dk_42 (dk_at dksX4_toPour_0 13 rfl rfl)
theorem dX4_toPour_14 : decode cX4_toPour 14 = .ok (.iload_n 2, 1) := dk_28 (dk_at dksX4_toPour_0 14 rfl rfl)
theorem dX4_toPour_15 : decode cX4_toPour 15 = .ok (.iconst 1, 1) := dk_4 (dk_at dksX4_toPour_0 15 rfl rfl)
theorem dX4_toPour_16 : decode cX4_toPour 16 = .ok (.bipush 60, 2) := dk_16 60 (dk_at dksX4_toPour_0 16 rfl rfl)
theorem dX4_toPour_18 : decode cX4_toPour 18 = .ok (.invokestatic 332, 3) := dk_184 1 76 (dk_at dksX4_toPour_0 18 rfl rfl)
theorem dX4_toPour_21 : decode cX4_toPour 21 = .ok (.iconst 2, 1) := dk_5 (dk_at dksX4_toPour_0 21 rfl rfl)
theorem dX4_toPour_22 : decode cX4_toPour 22 = .ok (.invokevirtual 262, 3) := dk_182 1 6 (dk_at dksX4_toPour_1 0 rfl rfl)
theorem dX4_toPour_25 : decode cX4_toPour 25 = .ok (.ifCond .ne 5, 3) := dk_154 0 5 (dk_at dksX4_toPour_1 3 rfl rfl)
theorem dX4_toPour_28 : decode cX4_toPour 28 = .ok (.iconst 0, 1) := dk_3 (dk_at dksX4_toPour_1 6 rfl rfl)
theorem dX4_toPour_29 : decode cX4_toPour 29 = .ok (.ireturn, 1) := dk_172 (dk_at dksX4_toPour_1 7 rfl rfl)
theorem dX4_toPour_30 : decode cX4_toPour 30 = .ok (.iconst 0, 1) := dk_3 (dk_at dksX4_toPour_1 8 rfl rfl)
theorem dX4_toPour_31 : decode cX4_toPour 31 = .ok (.istore_n 3, 1) := dk_62 (dk_at dksX4_toPour_1 9 rfl rfl)
theorem dX4_toPour_32 : decode cX4_toPour 32 = .ok (.iload_n 3, 1) := dk_29 (dk_at dksX4_toPour_1 10 rfl rfl)
theorem dX4_toPour_33 : decode cX4_toPour 33 = .ok (.bipush 50, 2) := dk_16 50 (dk_at dksX4_toPour_1 11 rfl rfl)
theorem dX4_toPour_35 : decode cX4_toPour 35 = .ok (.if_icmp .gt 45, 3) := dk_163 0 45 (dk_at dksX4_toPour_1 13 rfl rfl)
theorem dX4_toPour_38 : decode cX4_toPour 38 = .ok (.aload_n 0, 1) := dk_42 (dk_at dksX4_toPour_1 16 rfl rfl)
theorem dX4_toPour_39 : decode cX4_toPour 39 = .ok (.invokevirtual 381, 3) := dk_182 1 125 (dk_at dksX4_toPour_1 17 rfl rfl)
theorem dX4_toPour_42 : decode cX4_toPour 42 = .ok (.iload_n 3, 1) := dk_29 (dk_at dksX4_toPour_1 20 rfl rfl)
theorem dX4_toPour_43 : decode cX4_toPour 43 = .ok (.ifCond .le 12, 3) := dk_158 0 12 (dk_at dksX4_toPour_1 21 rfl rfl)
theorem dX4_toPour_46 : decode cX4_toPour 46 = .ok (.aload_n 0, 1) := dk_42 (dk_at dksX4_toPour_2 0 rfl rfl)
theorem dX4_toPour_47 : decode cX4_toPour 47 = .ok (.bipush 64, 2) := dk_16 64 (dk_at dksX4_toPour_2 1 rfl rfl)
theorem dX4_toPour_49 : decode cX4_toPour 49 = .ok (.iload_n 1, 1) := dk_27 (dk_at dksX4_toPour_2 3 rfl rfl)
theorem dX4_toPour_50 : decode cX4_toPour 50 = .ok (.iload_n 3, 1) := dk_29 (dk_at dksX4_toPour_2 4 rfl rfl)
theorem dX4_toPour_51 : decode cX4_toPour 51 = .ok (.invokevirtual 372, 3) := dk_182 1 116 (dk_at dksX4_toPour_2 5 rfl rfl)
theorem dX4_toPour_54 : decode cX4_toPour 54 = .ok (.pop, 1) := dk_87 (dk_at dksX4_toPour_2 8 rfl rfl)
theorem dX4_toPour_55 : decode cX4_toPour 55 = .ok (.aload_n 0, 1) := dk_42 (dk_at dksX4_toPour_2 9 rfl rfl)
theorem dX4_toPour_56 : decode cX4_toPour 56 = .ok (.iload_n 2, 1) := dk_28 (dk_at dksX4_toPour_2 10 rfl rfl)
theorem dX4_toPour_57 : decode cX4_toPour 57 = .ok (.invokevirtual 384, 3) := dk_182 1 128 (dk_at dksX4_toPour_2 11 rfl rfl)
theorem dX4_toPour_60 : decode cX4_toPour 60 = .ok (.aload_n 0, 1) := dk_42 (dk_at dksX4_toPour_2 14 rfl rfl)
theorem dX4_toPour_61 : decode cX4_toPour 61 = .ok (.getfield 300, 3) := dk_180 1 44 (dk_at dksX4_toPour_2 15 rfl rfl)
theorem dX4_toPour_64 : decode cX4_toPour 64 = .ok (.iload_n 1, 1) := dk_27 (dk_at dksX4_toPour_2 18 rfl rfl)
theorem dX4_toPour_65 : decode cX4_toPour 65 = .ok (.ishr, 1) := dk_122 (dk_at dksX4_toPour_2 19 rfl rfl)
theorem dX4_toPour_66 : decode cX4_toPour 66 = .ok (.iconst 1, 1) := dk_4 (dk_at dksX4_toPour_2 20 rfl rfl)
theorem dX4_toPour_67 : decode cX4_toPour 67 = .ok (.iand, 1) := dk_126 (dk_at dksX4_toPour_2 21 rfl rfl)
theorem dX4_toPour_68 : decode cX4_toPour 68 = .ok (.iconst 1, 1) := dk_4 (dk_at dksX4_toPour_2 22 rfl rfl)
theorem dX4_toPour_69 : decode cX4_toPour 69 = .ok (.if_icmp .ne 5, 3) := dk_160 0 5 (dk_at dksX4_toPour_3 0 rfl rfl)
theorem dX4_toPour_72 : decode cX4_toPour 72 = .ok (.iload_n 3, 1) := dk_29 (dk_at dksX4_toPour_3 3 rfl rfl)
theorem dX4_toPour_73 : decode cX4_toPour 73 = .ok (.ireturn, 1) := dk_172 (dk_at dksX4_toPour_3 4 rfl rfl)
theorem dX4_toPour_74 : decode cX4_toPour 74 = .ok (.iinc 3 1, 3) := dk_132 3 1 (dk_at dksX4_toPour_3 5 rfl rfl)
theorem dX4_toPour_77 : decode cX4_toPour 77 = .ok (.goto (-45), 3) := dk_167 255 211 (dk_at dksX4_toPour_3 8 rfl rfl)
theorem dX4_toPour_80 : decode cX4_toPour 80 = .ok (.iconst (-1), 1) := dk_2 (dk_at dksX4_toPour_3 11 rfl rfl)
theorem dX4_toPour_81 : decode cX4_toPour 81 = .ok (.ireturn, 1) := dk_172 (dk_at dksX4_toPour_3 12 rfl rfl)
abbrev cX4_office : ByteArray := prog_12_method_101_code
def yX4_office : MethodName := ⟨RX4, "office", "(II)I"⟩
def dkwX4_office_5 : List UInt8 := [154, 0, 7, 29, 167, 0, 5, 21, 4, 172]
abbrev dktX4_office_5 : List UInt8 := dkwX4_office_5 ++ []
def dkwX4_office_4 : List UInt8 := [180, 1, 44, 29, 122, 4, 126, 154, 0, 9, 132, 3, 1, 167, 255, 242, 132, 5, 1, 167, 255, 186, 28]
abbrev dktX4_office_4 : List UInt8 := dkwX4_office_4 ++ dktX4_office_5
def dkwX4_office_3 : List UInt8 := [27, 184, 1, 149, 21, 4, 27, 184, 1, 149, 161, 0, 6, 167, 0, 26, 21, 5, 54, 4, 3, 62, 42]
abbrev dktX4_office_3 : List UInt8 := dkwX4_office_3 ++ dktX4_office_4
def dkwX4_office_2 : List UInt8 := [163, 0, 69, 42, 16, 64, 182, 1, 67, 42, 180, 1, 44, 153, 0, 50, 21, 4, 2, 159, 0, 21, 21, 5]
abbrev dktX4_office_2 : List UInt8 := dkwX4_office_2 ++ dktX4_office_3
def dkwX4_office_1 : List UInt8 := [182, 1, 6, 154, 0, 5, 3, 172, 2, 62, 2, 54, 4, 42, 182, 1, 125, 4, 54, 5, 21, 5, 16, 120]
abbrev dktX4_office_1 : List UInt8 := dkwX4_office_1 ++ dktX4_office_2
def dkwX4_office_0 : List UInt8 := [42, 3, 181, 0, 114, 42, 28, 4, 182, 1, 98, 153, 0, 18, 42, 27, 4, 16, 60, 184, 1, 76, 5]
abbrev dktX4_office_0 : List UInt8 := dkwX4_office_0 ++ dktX4_office_1
theorem dksX4_office_0 : cX4_office.data.toList.drop 0 = dktX4_office_0 := by decide +kernel
theorem dksX4_office_1 : cX4_office.data.toList.drop 23 = dktX4_office_1 := dk_seg dksX4_office_0 23 rfl rfl
theorem dksX4_office_2 : cX4_office.data.toList.drop 47 = dktX4_office_2 := dk_seg dksX4_office_1 24 rfl rfl
theorem dksX4_office_3 : cX4_office.data.toList.drop 71 = dktX4_office_3 := dk_seg dksX4_office_2 24 rfl rfl
theorem dksX4_office_4 : cX4_office.data.toList.drop 94 = dktX4_office_4 := dk_seg dksX4_office_3 23 rfl rfl
theorem dksX4_office_5 : cX4_office.data.toList.drop 117 = dktX4_office_5 := dk_seg dksX4_office_4 23 rfl rfl
theorem dX4_office_0 : decode cX4_office 0 = .ok (.aload_n 0, 1) := dk_42 (dk_at dksX4_office_0 0 rfl rfl)
theorem dX4_office_1 : decode cX4_office 1 = .ok (.iconst 0, 1) := dk_3 (dk_at dksX4_office_0 1 rfl rfl)
theorem dX4_office_2 : decode cX4_office 2 = .ok (.putfield 114, 3) := dk_181 0 114 (dk_at dksX4_office_0 2 rfl rfl)
theorem dX4_office_5 : decode cX4_office 5 = .ok (.aload_n 0, 1) := dk_42 (dk_at dksX4_office_0 5 rfl rfl)
theorem dX4_office_6 : decode cX4_office 6 = .ok (.iload_n 2, 1) := dk_28 (dk_at dksX4_office_0 6 rfl rfl)
theorem dX4_office_7 : decode cX4_office 7 = .ok (.iconst 1, 1) := dk_4 (dk_at dksX4_office_0 7 rfl rfl)
theorem dX4_office_8 : decode cX4_office 8 = .ok (.invokevirtual 354, 3) := dk_182 1 98 (dk_at dksX4_office_0 8 rfl rfl)
theorem dX4_office_11 : decode cX4_office 11 = .ok (.ifCond .eq 18, 3) := dk_153 0 18 (dk_at dksX4_office_0 11 rfl rfl)
theorem dX4_office_14 : decode cX4_office 14 = .ok (.aload_n 0, 1) := dk_42 (dk_at dksX4_office_0 14 rfl rfl)
theorem dX4_office_15 : decode cX4_office 15 = .ok (.iload_n 1, 1) := dk_27 (dk_at dksX4_office_0 15 rfl rfl)
theorem dX4_office_16 : decode cX4_office 16 = .ok (.iconst 1, 1) := dk_4 (dk_at dksX4_office_0 16 rfl rfl)
theorem dX4_office_17 : decode cX4_office 17 = .ok (.bipush 60, 2) := dk_16 60 (dk_at dksX4_office_0 17 rfl rfl)
theorem dX4_office_19 : decode cX4_office 19 = .ok (.invokestatic 332, 3) := dk_184 1 76 (dk_at dksX4_office_0 19 rfl rfl)
theorem dX4_office_22 : decode cX4_office 22 = .ok (.iconst 2, 1) := dk_5 (dk_at dksX4_office_0 22 rfl rfl)
theorem dX4_office_23 : decode cX4_office 23 = .ok (.invokevirtual 262, 3) := dk_182 1 6 (dk_at dksX4_office_1 0 rfl rfl)
theorem dX4_office_26 : decode cX4_office 26 = .ok (.ifCond .ne 5, 3) := dk_154 0 5 (dk_at dksX4_office_1 3 rfl rfl)
theorem dX4_office_29 : decode cX4_office 29 = .ok (.iconst 0, 1) := dk_3 (dk_at dksX4_office_1 6 rfl rfl)
theorem dX4_office_30 : decode cX4_office 30 = .ok (.ireturn, 1) := dk_172 (dk_at dksX4_office_1 7 rfl rfl)
theorem dX4_office_31 : decode cX4_office 31 = .ok (.iconst (-1), 1) := dk_2 (dk_at dksX4_office_1 8 rfl rfl)
theorem dX4_office_32 : decode cX4_office 32 = .ok (.istore_n 3, 1) := dk_62 (dk_at dksX4_office_1 9 rfl rfl)
theorem dX4_office_33 : decode cX4_office 33 = .ok (.iconst (-1), 1) := dk_2 (dk_at dksX4_office_1 10 rfl rfl)
theorem dX4_office_34 : decode cX4_office 34 = .ok (.istore 4, 2) := dk_54 4 (dk_at dksX4_office_1 11 rfl rfl)
theorem dX4_office_36 : decode cX4_office 36 = .ok (.aload_n 0, 1) := dk_42 (dk_at dksX4_office_1 13 rfl rfl)
theorem dX4_office_37 : decode cX4_office 37 = .ok (.invokevirtual 381, 3) := dk_182 1 125 (dk_at dksX4_office_1 14 rfl rfl)
theorem dX4_office_40 : decode cX4_office 40 = .ok (.iconst 1, 1) := dk_4 (dk_at dksX4_office_1 17 rfl rfl)
theorem dX4_office_41 : decode cX4_office 41 = .ok (.istore 5, 2) := dk_54 5 (dk_at dksX4_office_1 18 rfl rfl)
theorem dX4_office_43 : decode cX4_office 43 = .ok (.iload 5, 2) := dk_21 5 (dk_at dksX4_office_1 20 rfl rfl)
theorem dX4_office_45 : decode cX4_office 45 = .ok (.bipush 120, 2) := dk_16 120 (dk_at dksX4_office_1 22 rfl rfl)
theorem dX4_office_47 : decode cX4_office 47 = .ok (.if_icmp .gt 69, 3) := dk_163 0 69 (dk_at dksX4_office_2 0 rfl rfl)
theorem dX4_office_50 : decode cX4_office 50 = .ok (.aload_n 0, 1) := dk_42 (dk_at dksX4_office_2 3 rfl rfl)
theorem dX4_office_51 : decode cX4_office 51 = .ok (.bipush 64, 2) := dk_16 64 (dk_at dksX4_office_2 4 rfl rfl)
theorem dX4_office_53 : decode cX4_office 53 = .ok (.invokevirtual 323, 3) := dk_182 1 67 (dk_at dksX4_office_2 6 rfl rfl)
theorem dX4_office_56 : decode cX4_office 56 = .ok (.aload_n 0, 1) := dk_42 (dk_at dksX4_office_2 9 rfl rfl)
theorem dX4_office_57 : decode cX4_office 57 = .ok (.getfield 300, 3) := dk_180 1 44 (dk_at dksX4_office_2 10 rfl rfl)
theorem dX4_office_60 : decode cX4_office 60 = .ok (.ifCond .eq 50, 3) := dk_153 0 50 (dk_at dksX4_office_2 13 rfl rfl)
theorem dX4_office_63 : decode cX4_office 63 = .ok (.iload 4, 2) := dk_21 4 (dk_at dksX4_office_2 16 rfl rfl)
theorem dX4_office_65 : decode cX4_office 65 = .ok (.iconst (-1), 1) := dk_2 (dk_at dksX4_office_2 18 rfl rfl)
theorem dX4_office_66 : decode cX4_office 66 = .ok (.if_icmp .eq 21, 3) := dk_159 0 21 (dk_at dksX4_office_2 19 rfl rfl)
theorem dX4_office_69 : decode cX4_office 69 = .ok (.iload 5, 2) := dk_21 5 (dk_at dksX4_office_2 22 rfl rfl)
theorem dX4_office_71 : decode cX4_office 71 = .ok (.iload_n 1, 1) := dk_27 (dk_at dksX4_office_3 0 rfl rfl)
theorem dX4_office_72 : decode cX4_office 72 = .ok (.invokestatic 405, 3) := dk_184 1 149 (dk_at dksX4_office_3 1 rfl rfl)
theorem dX4_office_75 : decode cX4_office 75 = .ok (.iload 4, 2) := dk_21 4 (dk_at dksX4_office_3 4 rfl rfl)
theorem dX4_office_77 : decode cX4_office 77 = .ok (.iload_n 1, 1) := dk_27 (dk_at dksX4_office_3 6 rfl rfl)
theorem dX4_office_78 : decode cX4_office 78 = .ok (.invokestatic 405, 3) := dk_184 1 149 (dk_at dksX4_office_3 7 rfl rfl)
theorem dX4_office_81 : decode cX4_office 81 = .ok (.if_icmp .lt 6, 3) := dk_161 0 6 (dk_at dksX4_office_3 10 rfl rfl)
theorem dX4_office_84 : decode cX4_office 84 = .ok (.goto 26, 3) := dk_167 0 26 (dk_at dksX4_office_3 13 rfl rfl)
theorem dX4_office_87 : decode cX4_office 87 = .ok (.iload 5, 2) := dk_21 5 (dk_at dksX4_office_3 16 rfl rfl)
theorem dX4_office_89 : decode cX4_office 89 = .ok (.istore 4, 2) := dk_54 4 (dk_at dksX4_office_3 18 rfl rfl)
theorem dX4_office_91 : decode cX4_office 91 = .ok (.iconst 0, 1) := dk_3 (dk_at dksX4_office_3 20 rfl rfl)
theorem dX4_office_92 : decode cX4_office 92 = .ok (.istore_n 3, 1) := dk_62 (dk_at dksX4_office_3 21 rfl rfl)
theorem dX4_office_93 : decode cX4_office 93 = .ok (.aload_n 0, 1) := dk_42 (dk_at dksX4_office_3 22 rfl rfl)
theorem dX4_office_94 : decode cX4_office 94 = .ok (.getfield 300, 3) := dk_180 1 44 (dk_at dksX4_office_4 0 rfl rfl)
theorem dX4_office_97 : decode cX4_office 97 = .ok (.iload_n 3, 1) := dk_29 (dk_at dksX4_office_4 3 rfl rfl)
theorem dX4_office_98 : decode cX4_office 98 = .ok (.ishr, 1) := dk_122 (dk_at dksX4_office_4 4 rfl rfl)
theorem dX4_office_99 : decode cX4_office 99 = .ok (.iconst 1, 1) := dk_4 (dk_at dksX4_office_4 5 rfl rfl)
theorem dX4_office_100 : decode cX4_office 100 = .ok (.iand, 1) := dk_126 (dk_at dksX4_office_4 6 rfl rfl)
theorem dX4_office_101 : decode cX4_office 101 = .ok (.ifCond .ne 9, 3) := dk_154 0 9 (dk_at dksX4_office_4 7 rfl rfl)
theorem dX4_office_104 : decode cX4_office 104 = .ok (.iinc 3 1, 3) := dk_132 3 1 (dk_at dksX4_office_4 10 rfl rfl)
theorem dX4_office_107 : decode cX4_office 107 = .ok (.goto (-14), 3) := dk_167 255 242 (dk_at dksX4_office_4 13 rfl rfl)
theorem dX4_office_110 : decode cX4_office 110 = .ok (.iinc 5 1, 3) := dk_132 5 1 (dk_at dksX4_office_4 16 rfl rfl)
theorem dX4_office_113 : decode cX4_office 113 = .ok (.goto (-70), 3) := dk_167 255 186 (dk_at dksX4_office_4 19 rfl rfl)
theorem dX4_office_116 : decode cX4_office 116 = .ok (.iload_n 2, 1) := dk_28 (dk_at dksX4_office_4 22 rfl rfl)
theorem dX4_office_117 : decode cX4_office 117 = .ok (.ifCond .ne 7, 3) := dk_154 0 7 (dk_at dksX4_office_5 0 rfl rfl)
theorem dX4_office_120 : decode cX4_office 120 = .ok (.iload_n 3, 1) := dk_29 (dk_at dksX4_office_5 3 rfl rfl)
theorem dX4_office_121 : decode cX4_office 121 = .ok (.goto 5, 3) := dk_167 0 5 (dk_at dksX4_office_5 4 rfl rfl)
theorem dX4_office_124 : decode cX4_office 124 = .ok (.iload 4, 2) := dk_21 4 (dk_at dksX4_office_5 7 rfl rfl)
theorem dX4_office_126 : decode cX4_office 126 = .ok (.ireturn, 1) := dk_172 (dk_at dksX4_office_5 9 rfl rfl)
abbrev cX4_offBy : ByteArray := prog_12_method_102_code
def yX4_offBy : MethodName := ⟨RX4, "offBy", "(II)I"⟩
def dkwX4_offBy_0 : List UInt8 := [26, 27, 162, 0, 9, 27, 26, 100, 167, 0, 6, 26, 27, 100, 172]
abbrev dktX4_offBy_0 : List UInt8 := dkwX4_offBy_0 ++ []
theorem dksX4_offBy_0 : cX4_offBy.data.toList.drop 0 = dktX4_offBy_0 := by decide +kernel
theorem dX4_offBy_0 : decode cX4_offBy 0 = .ok (.iload_n 0, 1) := dk_26 (dk_at dksX4_offBy_0 0 rfl rfl)
theorem dX4_offBy_1 : decode cX4_offBy 1 = .ok (.iload_n 1, 1) := dk_27 (dk_at dksX4_offBy_0 1 rfl rfl)
theorem dX4_offBy_2 : decode cX4_offBy 2 = .ok (.if_icmp .ge 9, 3) := dk_162 0 9 (dk_at dksX4_offBy_0 2 rfl rfl)
theorem dX4_offBy_5 : decode cX4_offBy 5 = .ok (.iload_n 1, 1) := dk_27 (dk_at dksX4_offBy_0 5 rfl rfl)
theorem dX4_offBy_6 : decode cX4_offBy 6 = .ok (.iload_n 0, 1) := dk_26 (dk_at dksX4_offBy_0 6 rfl rfl)
theorem dX4_offBy_7 : decode cX4_offBy 7 = .ok (.isub, 1) := dk_100 (dk_at dksX4_offBy_0 7 rfl rfl)
theorem dX4_offBy_8 : decode cX4_offBy 8 = .ok (.goto 6, 3) := dk_167 0 6 (dk_at dksX4_offBy_0 8 rfl rfl)
theorem dX4_offBy_11 : decode cX4_offBy 11 = .ok (.iload_n 0, 1) := dk_26 (dk_at dksX4_offBy_0 11 rfl rfl)
theorem dX4_offBy_12 : decode cX4_offBy 12 = .ok (.iload_n 1, 1) := dk_27 (dk_at dksX4_offBy_0 12 rfl rfl)
theorem dX4_offBy_13 : decode cX4_offBy 13 = .ok (.isub, 1) := dk_100 (dk_at dksX4_offBy_0 13 rfl rfl)
theorem dX4_offBy_14 : decode cX4_offBy 14 = .ok (.ireturn, 1) := dk_172 (dk_at dksX4_offBy_0 14 rfl rfl)
abbrev cX4_hear : ByteArray := prog_12_method_103_code
def yX4_hear : MethodName := ⟨RX4, "hear", "(IIZ)I"⟩
def dkwX4_hear_4 : List UInt8 := [96, 181, 1, 23, 42, 180, 1, 23, 172]
abbrev dktX4_hear_4 : List UInt8 := dkwX4_hear_4 ++ []
def dkwX4_hear_3 : List UInt8 := [6, 42, 180, 1, 23, 104, 5, 96, 29, 153, 0, 7, 4, 167, 0, 4, 3, 79, 42, 89, 180, 1, 23, 4]
abbrev dktX4_hear_3 : List UInt8 := dkwX4_hear_3 ++ dktX4_hear_4
def dkwX4_hear_2 : List UInt8 := [180, 1, 23, 104, 27, 79, 42, 180, 0, 96, 6, 42, 180, 1, 23, 104, 4, 96, 28, 79, 42, 180, 0, 96]
abbrev dktX4_hear_2 : List UInt8 := dkwX4_hear_2 ++ dktX4_hear_3
def dkwX4_hear_1 : List UInt8 := [28, 4, 16, 40, 184, 1, 76, 154, 0, 9, 42, 5, 182, 1, 107, 172, 42, 180, 0, 96, 6, 42]
abbrev dktX4_hear_1 : List UInt8 := dkwX4_hear_1 ++ dktX4_hear_2
def dkwX4_hear_0 : List UInt8 := [42, 3, 181, 0, 114, 42, 27, 182, 1, 95, 154, 0, 5, 3, 172, 42, 180, 1, 23, 16, 8, 159, 0, 13]
abbrev dktX4_hear_0 : List UInt8 := dkwX4_hear_0 ++ dktX4_hear_1
theorem dksX4_hear_0 : cX4_hear.data.toList.drop 0 = dktX4_hear_0 := by decide +kernel
theorem dksX4_hear_1 : cX4_hear.data.toList.drop 24 = dktX4_hear_1 := dk_seg dksX4_hear_0 24 rfl rfl
theorem dksX4_hear_2 : cX4_hear.data.toList.drop 46 = dktX4_hear_2 := dk_seg dksX4_hear_1 22 rfl rfl
theorem dksX4_hear_3 : cX4_hear.data.toList.drop 70 = dktX4_hear_3 := dk_seg dksX4_hear_2 24 rfl rfl
theorem dksX4_hear_4 : cX4_hear.data.toList.drop 94 = dktX4_hear_4 := dk_seg dksX4_hear_3 24 rfl rfl
theorem dX4_hear_0 : decode cX4_hear 0 = .ok (.aload_n 0, 1) := dk_42 (dk_at dksX4_hear_0 0 rfl rfl)
theorem dX4_hear_1 : decode cX4_hear 1 = .ok (.iconst 0, 1) := dk_3 (dk_at dksX4_hear_0 1 rfl rfl)
theorem dX4_hear_2 : decode cX4_hear 2 = .ok (.putfield 114, 3) := dk_181 0 114 (dk_at dksX4_hear_0 2 rfl rfl)
theorem dX4_hear_5 : decode cX4_hear 5 = .ok (.aload_n 0, 1) := dk_42 (dk_at dksX4_hear_0 5 rfl rfl)
theorem dX4_hear_6 : decode cX4_hear 6 = .ok (.iload_n 1, 1) := dk_27 (dk_at dksX4_hear_0 6 rfl rfl)
theorem dX4_hear_7 : decode cX4_hear 7 = .ok (.invokevirtual 351, 3) := dk_182 1 95 (dk_at dksX4_hear_0 7 rfl rfl)
theorem dX4_hear_10 : decode cX4_hear 10 = .ok (.ifCond .ne 5, 3) := dk_154 0 5 (dk_at dksX4_hear_0 10 rfl rfl)
theorem dX4_hear_13 : decode cX4_hear 13 = .ok (.iconst 0, 1) := dk_3 (dk_at dksX4_hear_0 13 rfl rfl)
theorem dX4_hear_14 : decode cX4_hear 14 = .ok (.ireturn, 1) := dk_172 (dk_at dksX4_hear_0 14 rfl rfl)
theorem dX4_hear_15 : decode cX4_hear 15 = .ok (.aload_n 0, 1) := dk_42 (dk_at dksX4_hear_0 15 rfl rfl)
theorem dX4_hear_16 : decode cX4_hear 16 = .ok (.getfield 279, 3) := dk_180 1 23 (dk_at dksX4_hear_0 16 rfl rfl)
theorem dX4_hear_19 : decode cX4_hear 19 = .ok (.bipush 8, 2) := dk_16 8 (dk_at dksX4_hear_0 19 rfl rfl)
theorem dX4_hear_21 : decode cX4_hear 21 = .ok (.if_icmp .eq 13, 3) := dk_159 0 13 (dk_at dksX4_hear_0 21 rfl rfl)
theorem dX4_hear_24 : decode cX4_hear 24 = .ok (.iload_n 2, 1) := dk_28 (dk_at dksX4_hear_1 0 rfl rfl)
theorem dX4_hear_25 : decode cX4_hear 25 = .ok (.iconst 1, 1) := dk_4 (dk_at dksX4_hear_1 1 rfl rfl)
theorem dX4_hear_26 : decode cX4_hear 26 = .ok (.bipush 40, 2) := dk_16 40 (dk_at dksX4_hear_1 2 rfl rfl)
theorem dX4_hear_28 : decode cX4_hear 28 = .ok (.invokestatic 332, 3) := dk_184 1 76 (dk_at dksX4_hear_1 4 rfl rfl)
theorem dX4_hear_31 : decode cX4_hear 31 = .ok (.ifCond .ne 9, 3) := dk_154 0 9 (dk_at dksX4_hear_1 7 rfl rfl)
theorem dX4_hear_34 : decode cX4_hear 34 = .ok (.aload_n 0, 1) := dk_42 (dk_at dksX4_hear_1 10 rfl rfl)
theorem dX4_hear_35 : decode cX4_hear 35 = .ok (.iconst 2, 1) := dk_5 (dk_at dksX4_hear_1 11 rfl rfl)
theorem dX4_hear_36 : decode cX4_hear 36 = .ok (.invokevirtual 363, 3) := dk_182 1 107 (dk_at dksX4_hear_1 12 rfl rfl)
theorem dX4_hear_39 : decode cX4_hear 39 = .ok (.ireturn, 1) := dk_172 (dk_at dksX4_hear_1 15 rfl rfl)
theorem dX4_hear_40 : decode cX4_hear 40 = .ok (.aload_n 0, 1) := dk_42 (dk_at dksX4_hear_1 16 rfl rfl)
theorem dX4_hear_41 : decode cX4_hear 41 = .ok (.getfield 96, 3) := dk_180 0 96 (dk_at dksX4_hear_1 17 rfl rfl)
theorem dX4_hear_44 : decode cX4_hear 44 = .ok (.iconst 3, 1) := dk_6 (dk_at dksX4_hear_1 20 rfl rfl)
theorem dX4_hear_45 : decode cX4_hear 45 = .ok (.aload_n 0, 1) := dk_42 (dk_at dksX4_hear_1 21 rfl rfl)
theorem dX4_hear_46 : decode cX4_hear 46 = .ok (.getfield 279, 3) := dk_180 1 23 (dk_at dksX4_hear_2 0 rfl rfl)
theorem dX4_hear_49 : decode cX4_hear 49 = .ok (.imul, 1) := dk_104 (dk_at dksX4_hear_2 3 rfl rfl)
theorem dX4_hear_50 : decode cX4_hear 50 = .ok (.iload_n 1, 1) := dk_27 (dk_at dksX4_hear_2 4 rfl rfl)
theorem dX4_hear_51 : decode cX4_hear 51 = .ok (.iastore, 1) := dk_79 (dk_at dksX4_hear_2 5 rfl rfl)
theorem dX4_hear_52 : decode cX4_hear 52 = .ok (.aload_n 0, 1) := dk_42 (dk_at dksX4_hear_2 6 rfl rfl)
theorem dX4_hear_53 : decode cX4_hear 53 = .ok (.getfield 96, 3) := dk_180 0 96 (dk_at dksX4_hear_2 7 rfl rfl)
theorem dX4_hear_56 : decode cX4_hear 56 = .ok (.iconst 3, 1) := dk_6 (dk_at dksX4_hear_2 10 rfl rfl)
theorem dX4_hear_57 : decode cX4_hear 57 = .ok (.aload_n 0, 1) := dk_42 (dk_at dksX4_hear_2 11 rfl rfl)
theorem dX4_hear_58 : decode cX4_hear 58 = .ok (.getfield 279, 3) := dk_180 1 23 (dk_at dksX4_hear_2 12 rfl rfl)
theorem dX4_hear_61 : decode cX4_hear 61 = .ok (.imul, 1) := dk_104 (dk_at dksX4_hear_2 15 rfl rfl)
theorem dX4_hear_62 : decode cX4_hear 62 = .ok (.iconst 1, 1) := dk_4 (dk_at dksX4_hear_2 16 rfl rfl)
theorem dX4_hear_63 : decode cX4_hear 63 = .ok (.iadd, 1) := dk_96 (dk_at dksX4_hear_2 17 rfl rfl)
theorem dX4_hear_64 : decode cX4_hear 64 = .ok (.iload_n 2, 1) := dk_28 (dk_at dksX4_hear_2 18 rfl rfl)
theorem dX4_hear_65 : decode cX4_hear 65 = .ok (.iastore, 1) := dk_79 (dk_at dksX4_hear_2 19 rfl rfl)
theorem dX4_hear_66 : decode cX4_hear 66 = .ok (.aload_n 0, 1) := dk_42 (dk_at dksX4_hear_2 20 rfl rfl)
theorem dX4_hear_67 : decode cX4_hear 67 = .ok (.getfield 96, 3) := dk_180 0 96 (dk_at dksX4_hear_2 21 rfl rfl)
theorem dX4_hear_70 : decode cX4_hear 70 = .ok (.iconst 3, 1) := dk_6 (dk_at dksX4_hear_3 0 rfl rfl)
theorem dX4_hear_71 : decode cX4_hear 71 = .ok (.aload_n 0, 1) := dk_42 (dk_at dksX4_hear_3 1 rfl rfl)
theorem dX4_hear_72 : decode cX4_hear 72 = .ok (.getfield 279, 3) := dk_180 1 23 (dk_at dksX4_hear_3 2 rfl rfl)
theorem dX4_hear_75 : decode cX4_hear 75 = .ok (.imul, 1) := dk_104 (dk_at dksX4_hear_3 5 rfl rfl)
theorem dX4_hear_76 : decode cX4_hear 76 = .ok (.iconst 2, 1) := dk_5 (dk_at dksX4_hear_3 6 rfl rfl)
theorem dX4_hear_77 : decode cX4_hear 77 = .ok (.iadd, 1) := dk_96 (dk_at dksX4_hear_3 7 rfl rfl)
theorem dX4_hear_78 : decode cX4_hear 78 = .ok (.iload_n 3, 1) := dk_29 (dk_at dksX4_hear_3 8 rfl rfl)
theorem dX4_hear_79 : decode cX4_hear 79 = .ok (.ifCond .eq 7, 3) := dk_153 0 7 (dk_at dksX4_hear_3 9 rfl rfl)
theorem dX4_hear_82 : decode cX4_hear 82 = .ok (.iconst 1, 1) := dk_4 (dk_at dksX4_hear_3 12 rfl rfl)
theorem dX4_hear_83 : decode cX4_hear 83 = .ok (.goto 4, 3) := dk_167 0 4 (dk_at dksX4_hear_3 13 rfl rfl)
theorem dX4_hear_86 : decode cX4_hear 86 = .ok (.iconst 0, 1) := dk_3 (dk_at dksX4_hear_3 16 rfl rfl)
theorem dX4_hear_87 : decode cX4_hear 87 = .ok (.iastore, 1) := dk_79 (dk_at dksX4_hear_3 17 rfl rfl)
theorem dX4_hear_88 : decode cX4_hear 88 = .ok (.aload_n 0, 1) := dk_42 (dk_at dksX4_hear_3 18 rfl rfl)
theorem dX4_hear_89 : decode cX4_hear 89 = .ok (.dup, 1) := dk_89 (dk_at dksX4_hear_3 19 rfl rfl)
theorem dX4_hear_90 : decode cX4_hear 90 = .ok (.getfield 279, 3) := dk_180 1 23 (dk_at dksX4_hear_3 20 rfl rfl)
theorem dX4_hear_93 : decode cX4_hear 93 = .ok (.iconst 1, 1) := dk_4 (dk_at dksX4_hear_3 23 rfl rfl)
theorem dX4_hear_94 : decode cX4_hear 94 = .ok (.iadd, 1) := dk_96 (dk_at dksX4_hear_4 0 rfl rfl)
theorem dX4_hear_95 : decode cX4_hear 95 = .ok (.putfield 279, 3) := dk_181 1 23 (dk_at dksX4_hear_4 1 rfl rfl)
theorem dX4_hear_98 : decode cX4_hear 98 = .ok (.aload_n 0, 1) := dk_42 (dk_at dksX4_hear_4 4 rfl rfl)
theorem dX4_hear_99 : decode cX4_hear 99 = .ok (.getfield 279, 3) := dk_180 1 23 (dk_at dksX4_hear_4 5 rfl rfl)
theorem dX4_hear_102 : decode cX4_hear 102 = .ok (.ireturn, 1) := dk_172 (dk_at dksX4_hear_4 8 rfl rfl)
abbrev cX4_forget : ByteArray := prog_12_method_104_code
def yX4_forget : MethodName := ⟨RX4, "forget", "()V"⟩
def dkwX4_forget_0 : List UInt8 := [42, 3, 181, 0, 114, 42, 3, 181, 1, 23, 177]
abbrev dktX4_forget_0 : List UInt8 := dkwX4_forget_0 ++ []
theorem dksX4_forget_0 : cX4_forget.data.toList.drop 0 = dktX4_forget_0 := by decide +kernel
theorem dX4_forget_0 : decode cX4_forget 0 = .ok (.aload_n 0, 1) := dk_42 (dk_at dksX4_forget_0 0 rfl rfl)
theorem dX4_forget_1 : decode cX4_forget 1 = .ok (.iconst 0, 1) := dk_3 (dk_at dksX4_forget_0 1 rfl rfl)
theorem dX4_forget_2 : decode cX4_forget 2 = .ok (.putfield 114, 3) := dk_181 0 114 (dk_at dksX4_forget_0 2 rfl rfl)
theorem dX4_forget_5 : decode cX4_forget 5 = .ok (.aload_n 0, 1) := dk_42 (dk_at dksX4_forget_0 5 rfl rfl)
theorem dX4_forget_6 : decode cX4_forget 6 = .ok (.iconst 0, 1) := dk_3 (dk_at dksX4_forget_0 6 rfl rfl)
theorem dX4_forget_7 : decode cX4_forget 7 = .ok (.putfield 279, 3) := dk_181 1 23 (dk_at dksX4_forget_0 7 rfl rfl)
theorem dX4_forget_10 : decode cX4_forget 10 = .ok (.return_, 1) := dk_177 (dk_at dksX4_forget_0 10 rfl rfl)
abbrev cX4_led : ByteArray := prog_12_method_107_code
def yX4_led : MethodName := ⟨RX4, "led", "(I)I"⟩
def dkwX4_led_4 : List UInt8 := [167, 0, 4, 29, 172]
abbrev dktX4_led_4 : List UInt8 := dkwX4_led_4 ++ []
def dkwX4_led_3 : List UInt8 := [132, 2, 1, 29, 2, 160, 0, 6, 21, 4, 62, 132, 4, 1, 167, 255, 218, 27, 154, 0, 7, 28]
abbrev dktX4_led_3 : List UInt8 := dkwX4_led_3 ++ dktX4_led_4
def dkwX4_led_2 : List UInt8 := [21, 4, 16, 10, 42, 180, 1, 13, 104, 162, 0, 32, 42, 21, 4, 182, 1, 155, 154, 0, 6, 167, 0, 14]
abbrev dktX4_led_2 : List UInt8 := dkwX4_led_2 ++ dktX4_led_3
def dkwX4_led_1 : List UInt8 := [182, 1, 125, 42, 182, 1, 152, 153, 0, 7, 4, 167, 0, 4, 3, 172, 3, 61, 2, 62, 3, 54, 4]
abbrev dktX4_led_1 : List UInt8 := dkwX4_led_1 ++ dktX4_led_2
def dkwX4_led_0 : List UInt8 := [42, 3, 181, 0, 114, 42, 27, 5, 182, 1, 98, 154, 0, 5, 3, 172, 27, 5, 160, 0, 20, 42]
abbrev dktX4_led_0 : List UInt8 := dkwX4_led_0 ++ dktX4_led_1
theorem dksX4_led_0 : cX4_led.data.toList.drop 0 = dktX4_led_0 := by decide +kernel
theorem dksX4_led_1 : cX4_led.data.toList.drop 22 = dktX4_led_1 := dk_seg dksX4_led_0 22 rfl rfl
theorem dksX4_led_2 : cX4_led.data.toList.drop 45 = dktX4_led_2 := dk_seg dksX4_led_1 23 rfl rfl
theorem dksX4_led_3 : cX4_led.data.toList.drop 69 = dktX4_led_3 := dk_seg dksX4_led_2 24 rfl rfl
theorem dksX4_led_4 : cX4_led.data.toList.drop 91 = dktX4_led_4 := dk_seg dksX4_led_3 22 rfl rfl
theorem dX4_led_0 : decode cX4_led 0 = .ok (.aload_n 0, 1) := dk_42 (dk_at dksX4_led_0 0 rfl rfl)
theorem dX4_led_1 : decode cX4_led 1 = .ok (.iconst 0, 1) := dk_3 (dk_at dksX4_led_0 1 rfl rfl)
theorem dX4_led_2 : decode cX4_led 2 = .ok (.putfield 114, 3) := dk_181 0 114 (dk_at dksX4_led_0 2 rfl rfl)
theorem dX4_led_5 : decode cX4_led 5 = .ok (.aload_n 0, 1) := dk_42 (dk_at dksX4_led_0 5 rfl rfl)
theorem dX4_led_6 : decode cX4_led 6 = .ok (.iload_n 1, 1) := dk_27 (dk_at dksX4_led_0 6 rfl rfl)
theorem dX4_led_7 : decode cX4_led 7 = .ok (.iconst 2, 1) := dk_5 (dk_at dksX4_led_0 7 rfl rfl)
theorem dX4_led_8 : decode cX4_led 8 = .ok (.invokevirtual 354, 3) := dk_182 1 98 (dk_at dksX4_led_0 8 rfl rfl)
theorem dX4_led_11 : decode cX4_led 11 = .ok (.ifCond .ne 5, 3) := dk_154 0 5 (dk_at dksX4_led_0 11 rfl rfl)
theorem dX4_led_14 : decode cX4_led 14 = .ok (.iconst 0, 1) := dk_3 (dk_at dksX4_led_0 14 rfl rfl)
theorem dX4_led_15 : decode cX4_led 15 = .ok (.ireturn, 1) := dk_172 (dk_at dksX4_led_0 15 rfl rfl)
theorem dX4_led_16 : decode cX4_led 16 = .ok (.iload_n 1, 1) := dk_27 (dk_at dksX4_led_0 16 rfl rfl)
theorem dX4_led_17 : decode cX4_led 17 = .ok (.iconst 2, 1) := dk_5 (dk_at dksX4_led_0 17 rfl rfl)
theorem dX4_led_18 : decode cX4_led 18 = .ok (.if_icmp .ne 20, 3) := dk_160 0 20 (dk_at dksX4_led_0 18 rfl rfl)
theorem dX4_led_21 : decode cX4_led 21 = .ok (.aload_n 0, 1) := dk_42 (dk_at dksX4_led_0 21 rfl rfl)
theorem dX4_led_22 : decode cX4_led 22 = .ok (.invokevirtual 381, 3) := dk_182 1 125 (dk_at dksX4_led_1 0 rfl rfl)
theorem dX4_led_25 : decode cX4_led 25 = .ok (.aload_n 0, 1) := dk_42 (dk_at dksX4_led_1 3 rfl rfl)
theorem dX4_led_26 : decode cX4_led 26 = .ok (.invokevirtual 408, 3) := dk_182 1 152 (dk_at dksX4_led_1 4 rfl rfl)
theorem dX4_led_29 : decode cX4_led 29 = .ok (.ifCond .eq 7, 3) := dk_153 0 7 (dk_at dksX4_led_1 7 rfl rfl)
theorem dX4_led_32 : decode cX4_led 32 = .ok (.iconst 1, 1) := dk_4 (dk_at dksX4_led_1 10 rfl rfl)
theorem dX4_led_33 : decode cX4_led 33 = .ok (.goto 4, 3) := dk_167 0 4 (dk_at dksX4_led_1 11 rfl rfl)
theorem dX4_led_36 : decode cX4_led 36 = .ok (.iconst 0, 1) := dk_3 (dk_at dksX4_led_1 14 rfl rfl)
theorem dX4_led_37 : decode cX4_led 37 = .ok (.ireturn, 1) := dk_172 (dk_at dksX4_led_1 15 rfl rfl)
theorem dX4_led_38 : decode cX4_led 38 = .ok (.iconst 0, 1) := dk_3 (dk_at dksX4_led_1 16 rfl rfl)
theorem dX4_led_39 : decode cX4_led 39 = .ok (.istore_n 2, 1) := dk_61 (dk_at dksX4_led_1 17 rfl rfl)
theorem dX4_led_40 : decode cX4_led 40 = .ok (.iconst (-1), 1) := dk_2 (dk_at dksX4_led_1 18 rfl rfl)
theorem dX4_led_41 : decode cX4_led 41 = .ok (.istore_n 3, 1) := dk_62 (dk_at dksX4_led_1 19 rfl rfl)
theorem dX4_led_42 : decode cX4_led 42 = .ok (.iconst 0, 1) := dk_3 (dk_at dksX4_led_1 20 rfl rfl)
theorem dX4_led_43 : decode cX4_led 43 = .ok (.istore 4, 2) := dk_54 4 (dk_at dksX4_led_1 21 rfl rfl)
theorem dX4_led_45 : decode cX4_led 45 = .ok (.iload 4, 2) := dk_21 4 (dk_at dksX4_led_2 0 rfl rfl)
theorem dX4_led_47 : decode cX4_led 47 = .ok (.bipush 10, 2) := dk_16 10 (dk_at dksX4_led_2 2 rfl rfl)
theorem dX4_led_49 : decode cX4_led 49 = .ok (.aload_n 0, 1) := dk_42 (dk_at dksX4_led_2 4 rfl rfl)
theorem dX4_led_50 : decode cX4_led 50 = .ok (.getfield 269, 3) := dk_180 1 13 (dk_at dksX4_led_2 5 rfl rfl)
theorem dX4_led_53 : decode cX4_led 53 = .ok (.imul, 1) := dk_104 (dk_at dksX4_led_2 8 rfl rfl)
theorem dX4_led_54 : decode cX4_led 54 = .ok (.if_icmp .ge 32, 3) := dk_162 0 32 (dk_at dksX4_led_2 9 rfl rfl)
theorem dX4_led_57 : decode cX4_led 57 = .ok (.aload_n 0, 1) := dk_42 (dk_at dksX4_led_2 12 rfl rfl)
theorem dX4_led_58 : decode cX4_led 58 = .ok (.iload 4, 2) := dk_21 4 (dk_at dksX4_led_2 13 rfl rfl)
theorem dX4_led_60 : decode cX4_led 60 = .ok (.invokevirtual 411, 3) := dk_182 1 155 (dk_at dksX4_led_2 15 rfl rfl)
theorem dX4_led_63 : decode cX4_led 63 = .ok (.ifCond .ne 6, 3) := dk_154 0 6 (dk_at dksX4_led_2 18 rfl rfl)
theorem dX4_led_66 : decode cX4_led 66 = .ok (.goto 14, 3) := dk_167 0 14 (dk_at dksX4_led_2 21 rfl rfl)
theorem dX4_led_69 : decode cX4_led 69 = .ok (.iinc 2 1, 3) := dk_132 2 1 (dk_at dksX4_led_3 0 rfl rfl)
theorem dX4_led_72 : decode cX4_led 72 = .ok (.iload_n 3, 1) := dk_29 (dk_at dksX4_led_3 3 rfl rfl)
theorem dX4_led_73 : decode cX4_led 73 = .ok (.iconst (-1), 1) := dk_2 (dk_at dksX4_led_3 4 rfl rfl)
theorem dX4_led_74 : decode cX4_led 74 = .ok (.if_icmp .ne 6, 3) := dk_160 0 6 (dk_at dksX4_led_3 5 rfl rfl)
theorem dX4_led_77 : decode cX4_led 77 = .ok (.iload 4, 2) := dk_21 4 (dk_at dksX4_led_3 8 rfl rfl)
theorem dX4_led_79 : decode cX4_led 79 = .ok (.istore_n 3, 1) := dk_62 (dk_at dksX4_led_3 10 rfl rfl)
theorem dX4_led_80 : decode cX4_led 80 = .ok (.iinc 4 1, 3) := dk_132 4 1 (dk_at dksX4_led_3 11 rfl rfl)
theorem dX4_led_83 : decode cX4_led 83 = .ok (.goto (-38), 3) := dk_167 255 218 (dk_at dksX4_led_3 14 rfl rfl)
theorem dX4_led_86 : decode cX4_led 86 = .ok (.iload_n 1, 1) := dk_27 (dk_at dksX4_led_3 17 rfl rfl)
theorem dX4_led_87 : decode cX4_led 87 = .ok (.ifCond .ne 7, 3) := dk_154 0 7 (dk_at dksX4_led_3 18 rfl rfl)
theorem dX4_led_90 : decode cX4_led 90 = .ok (.iload_n 2, 1) := dk_28 (dk_at dksX4_led_3 21 rfl rfl)
theorem dX4_led_91 : decode cX4_led 91 = .ok (.goto 4, 3) := dk_167 0 4 (dk_at dksX4_led_4 0 rfl rfl)
theorem dX4_led_94 : decode cX4_led 94 = .ok (.iload_n 3, 1) := dk_29 (dk_at dksX4_led_4 3 rfl rfl)
theorem dX4_led_95 : decode cX4_led 95 = .ok (.ireturn, 1) := dk_172 (dk_at dksX4_led_4 4 rfl rfl)
abbrev cX4_isHeard : ByteArray := prog_12_method_105_code
def yX4_isHeard : MethodName := ⟨RX4, "isHeard", "()Z"⟩
def dkwX4_isHeard_3 : List UInt8 := [28, 104, 5, 96, 46, 159, 0, 5, 3, 172, 132, 2, 1, 167, 255, 201, 132, 1, 1, 167, 255, 169, 4, 172]
abbrev dktX4_isHeard_3 : List UInt8 := dkwX4_isHeard_3 ++ []
def dkwX4_isHeard_2 : List UInt8 := [27, 160, 0, 33, 42, 180, 1, 44, 42, 180, 0, 96, 6, 28, 104, 46, 122, 4, 126, 42, 180, 0, 96, 6]
abbrev dktX4_isHeard_2 : List UInt8 := dkwX4_isHeard_2 ++ dktX4_isHeard_3
def dkwX4_isHeard_1 : List UInt8 := [180, 1, 44, 79, 3, 61, 28, 42, 180, 1, 23, 162, 0, 53, 42, 180, 0, 96, 6, 28, 104, 4, 96, 46]
abbrev dktX4_isHeard_1 : List UInt8 := dkwX4_isHeard_1 ++ dktX4_isHeard_2
def dkwX4_isHeard_0 : List UInt8 := [4, 60, 27, 16, 40, 163, 0, 87, 42, 16, 64, 182, 1, 67, 42, 180, 0, 99, 27, 4, 100, 42]
abbrev dktX4_isHeard_0 : List UInt8 := dkwX4_isHeard_0 ++ dktX4_isHeard_1
theorem dksX4_isHeard_0 : cX4_isHeard.data.toList.drop 0 = dktX4_isHeard_0 := by decide +kernel
theorem dksX4_isHeard_1 : cX4_isHeard.data.toList.drop 22 = dktX4_isHeard_1 := dk_seg dksX4_isHeard_0 22 rfl rfl
theorem dksX4_isHeard_2 : cX4_isHeard.data.toList.drop 46 = dktX4_isHeard_2 := dk_seg dksX4_isHeard_1 24 rfl rfl
theorem dksX4_isHeard_3 : cX4_isHeard.data.toList.drop 70 = dktX4_isHeard_3 := dk_seg dksX4_isHeard_2 24 rfl rfl
theorem dX4_isHeard_0 : decode cX4_isHeard 0 = .ok (.iconst 1, 1) := dk_4 (dk_at dksX4_isHeard_0 0 rfl rfl)
theorem dX4_isHeard_1 : decode cX4_isHeard 1 = .ok (.istore_n 1, 1) := dk_60 (dk_at dksX4_isHeard_0 1 rfl rfl)
theorem dX4_isHeard_2 : decode cX4_isHeard 2 = .ok (.iload_n 1, 1) := dk_27 (dk_at dksX4_isHeard_0 2 rfl rfl)
theorem dX4_isHeard_3 : decode cX4_isHeard 3 = .ok (.bipush 40, 2) := dk_16 40 (dk_at dksX4_isHeard_0 3 rfl rfl)
theorem dX4_isHeard_5 : decode cX4_isHeard 5 = .ok (.if_icmp .gt 87, 3) := dk_163 0 87 (dk_at dksX4_isHeard_0 5 rfl rfl)
theorem dX4_isHeard_8 : decode cX4_isHeard 8 = .ok (.aload_n 0, 1) := dk_42 (dk_at dksX4_isHeard_0 8 rfl rfl)
theorem dX4_isHeard_9 : decode cX4_isHeard 9 = .ok (.bipush 64, 2) := dk_16 64 (dk_at dksX4_isHeard_0 9 rfl rfl)
theorem dX4_isHeard_11 : decode cX4_isHeard 11 = .ok (.invokevirtual 323, 3) := dk_182 1 67 (dk_at dksX4_isHeard_0 11 rfl rfl)
theorem dX4_isHeard_14 : decode cX4_isHeard 14 = .ok (.aload_n 0, 1) := dk_42 (dk_at dksX4_isHeard_0 14 rfl rfl)
theorem dX4_isHeard_15 : decode cX4_isHeard 15 = .ok (.getfield 99, 3) := dk_180 0 99 (dk_at dksX4_isHeard_0 15 rfl rfl)
theorem dX4_isHeard_18 : decode cX4_isHeard 18 = .ok (.iload_n 1, 1) := dk_27 (dk_at dksX4_isHeard_0 18 rfl rfl)
theorem dX4_isHeard_19 : decode cX4_isHeard 19 = .ok (.iconst 1, 1) := dk_4 (dk_at dksX4_isHeard_0 19 rfl rfl)
theorem dX4_isHeard_20 : decode cX4_isHeard 20 = .ok (.isub, 1) := dk_100 (dk_at dksX4_isHeard_0 20 rfl rfl)
theorem dX4_isHeard_21 : decode cX4_isHeard 21 = .ok (.aload_n 0, 1) := dk_42 (dk_at dksX4_isHeard_0 21 rfl rfl)
theorem dX4_isHeard_22 : decode cX4_isHeard 22 = .ok (.getfield 300, 3) := dk_180 1 44 (dk_at dksX4_isHeard_1 0 rfl rfl)
theorem dX4_isHeard_25 : decode cX4_isHeard 25 = .ok (.iastore, 1) := dk_79 (dk_at dksX4_isHeard_1 3 rfl rfl)
theorem dX4_isHeard_26 : decode cX4_isHeard 26 = .ok (.iconst 0, 1) := dk_3 (dk_at dksX4_isHeard_1 4 rfl rfl)
theorem dX4_isHeard_27 : decode cX4_isHeard 27 = .ok (.istore_n 2, 1) := dk_61 (dk_at dksX4_isHeard_1 5 rfl rfl)
theorem dX4_isHeard_28 : decode cX4_isHeard 28 = .ok (.iload_n 2, 1) := dk_28 (dk_at dksX4_isHeard_1 6 rfl rfl)
theorem dX4_isHeard_29 : decode cX4_isHeard 29 = .ok (.aload_n 0, 1) := dk_42 (dk_at dksX4_isHeard_1 7 rfl rfl)
theorem dX4_isHeard_30 : decode cX4_isHeard 30 = .ok (.getfield 279, 3) := dk_180 1 23 (dk_at dksX4_isHeard_1 8 rfl rfl)
theorem dX4_isHeard_33 : decode cX4_isHeard 33 = .ok (.if_icmp .ge 53, 3) := dk_162 0 53 (dk_at dksX4_isHeard_1 11 rfl rfl)
theorem dX4_isHeard_36 : decode cX4_isHeard 36 = .ok (.aload_n 0, 1) := dk_42 (dk_at dksX4_isHeard_1 14 rfl rfl)
theorem dX4_isHeard_37 : decode cX4_isHeard 37 = .ok (.getfield 96, 3) := dk_180 0 96 (dk_at dksX4_isHeard_1 15 rfl rfl)
theorem dX4_isHeard_40 : decode cX4_isHeard 40 = .ok (.iconst 3, 1) := dk_6 (dk_at dksX4_isHeard_1 18 rfl rfl)
theorem dX4_isHeard_41 : decode cX4_isHeard 41 = .ok (.iload_n 2, 1) := dk_28 (dk_at dksX4_isHeard_1 19 rfl rfl)
theorem dX4_isHeard_42 : decode cX4_isHeard 42 = .ok (.imul, 1) := dk_104 (dk_at dksX4_isHeard_1 20 rfl rfl)
theorem dX4_isHeard_43 : decode cX4_isHeard 43 = .ok (.iconst 1, 1) := dk_4 (dk_at dksX4_isHeard_1 21 rfl rfl)
theorem dX4_isHeard_44 : decode cX4_isHeard 44 = .ok (.iadd, 1) := dk_96 (dk_at dksX4_isHeard_1 22 rfl rfl)
theorem dX4_isHeard_45 : decode cX4_isHeard 45 = .ok (.iaload, 1) := dk_46 (dk_at dksX4_isHeard_1 23 rfl rfl)
theorem dX4_isHeard_46 : decode cX4_isHeard 46 = .ok (.iload_n 1, 1) := dk_27 (dk_at dksX4_isHeard_2 0 rfl rfl)
theorem dX4_isHeard_47 : decode cX4_isHeard 47 = .ok (.if_icmp .ne 33, 3) := dk_160 0 33 (dk_at dksX4_isHeard_2 1 rfl rfl)
theorem dX4_isHeard_50 : decode cX4_isHeard 50 = .ok (.aload_n 0, 1) := dk_42 (dk_at dksX4_isHeard_2 4 rfl rfl)
theorem dX4_isHeard_51 : decode cX4_isHeard 51 = .ok (.getfield 300, 3) := dk_180 1 44 (dk_at dksX4_isHeard_2 5 rfl rfl)
theorem dX4_isHeard_54 : decode cX4_isHeard 54 = .ok (.aload_n 0, 1) := dk_42 (dk_at dksX4_isHeard_2 8 rfl rfl)
theorem dX4_isHeard_55 : decode cX4_isHeard 55 = .ok (.getfield 96, 3) := dk_180 0 96 (dk_at dksX4_isHeard_2 9 rfl rfl)
theorem dX4_isHeard_58 : decode cX4_isHeard 58 = .ok (.iconst 3, 1) := dk_6 (dk_at dksX4_isHeard_2 12 rfl rfl)
theorem dX4_isHeard_59 : decode cX4_isHeard 59 = .ok (.iload_n 2, 1) := dk_28 (dk_at dksX4_isHeard_2 13 rfl rfl)
theorem dX4_isHeard_60 : decode cX4_isHeard 60 = .ok (.imul, 1) := dk_104 (dk_at dksX4_isHeard_2 14 rfl rfl)
theorem dX4_isHeard_61 : decode cX4_isHeard 61 = .ok (.iaload, 1) := dk_46 (dk_at dksX4_isHeard_2 15 rfl rfl)
theorem dX4_isHeard_62 : decode cX4_isHeard 62 = .ok (.ishr, 1) := dk_122 (dk_at dksX4_isHeard_2 16 rfl rfl)
theorem dX4_isHeard_63 : decode cX4_isHeard 63 = .ok (.iconst 1, 1) := dk_4 (dk_at dksX4_isHeard_2 17 rfl rfl)
theorem dX4_isHeard_64 : decode cX4_isHeard 64 = .ok (.iand, 1) := dk_126 (dk_at dksX4_isHeard_2 18 rfl rfl)
theorem dX4_isHeard_65 : decode cX4_isHeard 65 = .ok (.aload_n 0, 1) := dk_42 (dk_at dksX4_isHeard_2 19 rfl rfl)
theorem dX4_isHeard_66 : decode cX4_isHeard 66 = .ok (.getfield 96, 3) := dk_180 0 96 (dk_at dksX4_isHeard_2 20 rfl rfl)
theorem dX4_isHeard_69 : decode cX4_isHeard 69 = .ok (.iconst 3, 1) := dk_6 (dk_at dksX4_isHeard_2 23 rfl rfl)
theorem dX4_isHeard_70 : decode cX4_isHeard 70 = .ok (.iload_n 2, 1) := dk_28 (dk_at dksX4_isHeard_3 0 rfl rfl)
theorem dX4_isHeard_71 : decode cX4_isHeard 71 = .ok (.imul, 1) := dk_104 (dk_at dksX4_isHeard_3 1 rfl rfl)
theorem dX4_isHeard_72 : decode cX4_isHeard 72 = .ok (.iconst 2, 1) := dk_5 (dk_at dksX4_isHeard_3 2 rfl rfl)
theorem dX4_isHeard_73 : decode cX4_isHeard 73 = .ok (.iadd, 1) := dk_96 (dk_at dksX4_isHeard_3 3 rfl rfl)
theorem dX4_isHeard_74 : decode cX4_isHeard 74 = .ok (.iaload, 1) := dk_46 (dk_at dksX4_isHeard_3 4 rfl rfl)
theorem dX4_isHeard_75 : decode cX4_isHeard 75 = .ok (.if_icmp .eq 5, 3) := dk_159 0 5 (dk_at dksX4_isHeard_3 5 rfl rfl)
theorem dX4_isHeard_78 : decode cX4_isHeard 78 = .ok (.iconst 0, 1) := dk_3 (dk_at dksX4_isHeard_3 8 rfl rfl)
theorem dX4_isHeard_79 : decode cX4_isHeard 79 = .ok (.ireturn, 1) := dk_172 (dk_at dksX4_isHeard_3 9 rfl rfl)
theorem dX4_isHeard_80 : decode cX4_isHeard 80 = .ok (.iinc 2 1, 3) := dk_132 2 1 (dk_at dksX4_isHeard_3 10 rfl rfl)
theorem dX4_isHeard_83 : decode cX4_isHeard 83 = .ok (.goto (-55), 3) := dk_167 255 201 (dk_at dksX4_isHeard_3 13 rfl rfl)
theorem dX4_isHeard_86 : decode cX4_isHeard 86 = .ok (.iinc 1 1, 3) := dk_132 1 1 (dk_at dksX4_isHeard_3 16 rfl rfl)
theorem dX4_isHeard_89 : decode cX4_isHeard 89 = .ok (.goto (-87), 3) := dk_167 255 169 (dk_at dksX4_isHeard_3 19 rfl rfl)
theorem dX4_isHeard_92 : decode cX4_isHeard 92 = .ok (.iconst 1, 1) := dk_4 (dk_at dksX4_isHeard_3 22 rfl rfl)
theorem dX4_isHeard_93 : decode cX4_isHeard 93 = .ok (.ireturn, 1) := dk_172 (dk_at dksX4_isHeard_3 23 rfl rfl)
abbrev cX4_isGuess : ByteArray := prog_12_method_106_code
def yX4_isGuess : MethodName := ⟨RX4, "isGuess", "(I)Z"⟩
def dkwX4_isGuess_3 : List UInt8 := [182, 1, 125, 42, 16, 64, 28, 29, 182, 1, 113, 42, 182, 1, 152, 172]
abbrev dktX4_isGuess_3 : List UInt8 := dkwX4_isGuess_3 ++ []
def dkwX4_isGuess_2 : List UInt8 := [96, 46, 2, 160, 0, 18, 42, 180, 0, 51, 16, 19, 28, 96, 46, 29, 160, 0, 5, 3, 172, 42]
abbrev dktX4_isGuess_2 : List UInt8 := dkwX4_isGuess_2 ++ dktX4_isGuess_3
def dkwX4_isGuess_1 : List UInt8 := [2, 159, 0, 16, 29, 28, 164, 0, 37, 29, 42, 180, 1, 13, 162, 0, 29, 42, 180, 0, 51, 16, 28, 28]
abbrev dktX4_isGuess_1 : List UInt8 := dkwX4_isGuess_1 ++ dktX4_isGuess_2
def dkwX4_isGuess_0 : List UInt8 := [27, 16, 10, 108, 61, 27, 16, 10, 112, 16, 9, 160, 0, 7, 2, 167, 0, 7, 27, 16, 10, 112, 62, 29]
abbrev dktX4_isGuess_0 : List UInt8 := dkwX4_isGuess_0 ++ dktX4_isGuess_1
theorem dksX4_isGuess_0 : cX4_isGuess.data.toList.drop 0 = dktX4_isGuess_0 := by decide +kernel
theorem dksX4_isGuess_1 : cX4_isGuess.data.toList.drop 24 = dktX4_isGuess_1 := dk_seg dksX4_isGuess_0 24 rfl rfl
theorem dksX4_isGuess_2 : cX4_isGuess.data.toList.drop 48 = dktX4_isGuess_2 := dk_seg dksX4_isGuess_1 24 rfl rfl
theorem dksX4_isGuess_3 : cX4_isGuess.data.toList.drop 70 = dktX4_isGuess_3 := dk_seg dksX4_isGuess_2 22 rfl rfl
theorem dX4_isGuess_0 : decode cX4_isGuess 0 = .ok (.iload_n 1, 1) := dk_27 (dk_at dksX4_isGuess_0 0 rfl rfl)
theorem dX4_isGuess_1 : decode cX4_isGuess 1 = .ok (.bipush 10, 2) := dk_16 10 (dk_at dksX4_isGuess_0 1 rfl rfl)
theorem dX4_isGuess_3 : decode cX4_isGuess 3 = .ok (.idiv, 1) := dk_108 (dk_at dksX4_isGuess_0 3 rfl rfl)
theorem dX4_isGuess_4 : decode cX4_isGuess 4 = .ok (.istore_n 2, 1) := dk_61 (dk_at dksX4_isGuess_0 4 rfl rfl)
theorem dX4_isGuess_5 : decode cX4_isGuess 5 = .ok (.iload_n 1, 1) := dk_27 (dk_at dksX4_isGuess_0 5 rfl rfl)
theorem dX4_isGuess_6 : decode cX4_isGuess 6 = .ok (.bipush 10, 2) := dk_16 10 (dk_at dksX4_isGuess_0 6 rfl rfl)
theorem dX4_isGuess_8 : decode cX4_isGuess 8 = .ok (.irem, 1) := dk_112 (dk_at dksX4_isGuess_0 8 rfl rfl)
theorem dX4_isGuess_9 : decode cX4_isGuess 9 = .ok (.bipush 9, 2) := dk_16 9 (dk_at dksX4_isGuess_0 9 rfl rfl)
theorem dX4_isGuess_11 : decode cX4_isGuess 11 = .ok (.if_icmp .ne 7, 3) := dk_160 0 7 (dk_at dksX4_isGuess_0 11 rfl rfl)
theorem dX4_isGuess_14 : decode cX4_isGuess 14 = .ok (.iconst (-1), 1) := dk_2 (dk_at dksX4_isGuess_0 14 rfl rfl)
theorem dX4_isGuess_15 : decode cX4_isGuess 15 = .ok (.goto 7, 3) := dk_167 0 7 (dk_at dksX4_isGuess_0 15 rfl rfl)
theorem dX4_isGuess_18 : decode cX4_isGuess 18 = .ok (.iload_n 1, 1) := dk_27 (dk_at dksX4_isGuess_0 18 rfl rfl)
theorem dX4_isGuess_19 : decode cX4_isGuess 19 = .ok (.bipush 10, 2) := dk_16 10 (dk_at dksX4_isGuess_0 19 rfl rfl)
theorem dX4_isGuess_21 : decode cX4_isGuess 21 = .ok (.irem, 1) := dk_112 (dk_at dksX4_isGuess_0 21 rfl rfl)
theorem dX4_isGuess_22 : decode cX4_isGuess 22 = .ok (.istore_n 3, 1) := dk_62 (dk_at dksX4_isGuess_0 22 rfl rfl)
theorem dX4_isGuess_23 : decode cX4_isGuess 23 = .ok (.iload_n 3, 1) := dk_29 (dk_at dksX4_isGuess_0 23 rfl rfl)
theorem dX4_isGuess_24 : decode cX4_isGuess 24 = .ok (.iconst (-1), 1) := dk_2 (dk_at dksX4_isGuess_1 0 rfl rfl)
theorem dX4_isGuess_25 : decode cX4_isGuess 25 = .ok (.if_icmp .eq 16, 3) := dk_159 0 16 (dk_at dksX4_isGuess_1 1 rfl rfl)
theorem dX4_isGuess_28 : decode cX4_isGuess 28 = .ok (.iload_n 3, 1) := dk_29 (dk_at dksX4_isGuess_1 4 rfl rfl)
theorem dX4_isGuess_29 : decode cX4_isGuess 29 = .ok (.iload_n 2, 1) := dk_28 (dk_at dksX4_isGuess_1 5 rfl rfl)
theorem dX4_isGuess_30 : decode cX4_isGuess 30 = .ok (.if_icmp .le 37, 3) := dk_164 0 37 (dk_at dksX4_isGuess_1 6 rfl rfl)
theorem dX4_isGuess_33 : decode cX4_isGuess 33 = .ok (.iload_n 3, 1) := dk_29 (dk_at dksX4_isGuess_1 9 rfl rfl)
theorem dX4_isGuess_34 : decode cX4_isGuess 34 = .ok (.aload_n 0, 1) := dk_42 (dk_at dksX4_isGuess_1 10 rfl rfl)
theorem dX4_isGuess_35 : decode cX4_isGuess 35 = .ok (.getfield 269, 3) := dk_180 1 13 (dk_at dksX4_isGuess_1 11 rfl rfl)
theorem dX4_isGuess_38 : decode cX4_isGuess 38 = .ok (.if_icmp .ge 29, 3) := dk_162 0 29 (dk_at dksX4_isGuess_1 14 rfl rfl)
theorem dX4_isGuess_41 : decode cX4_isGuess 41 = .ok (.aload_n 0, 1) := dk_42 (dk_at dksX4_isGuess_1 17 rfl rfl)
theorem dX4_isGuess_42 : decode cX4_isGuess 42 = .ok (.getfield 51, 3) := dk_180 0 51 (dk_at dksX4_isGuess_1 18 rfl rfl)
theorem dX4_isGuess_45 : decode cX4_isGuess 45 = .ok (.bipush 28, 2) := dk_16 28 (dk_at dksX4_isGuess_1 21 rfl rfl)
theorem dX4_isGuess_47 : decode cX4_isGuess 47 = .ok (.iload_n 2, 1) := dk_28 (dk_at dksX4_isGuess_1 23 rfl rfl)
theorem dX4_isGuess_48 : decode cX4_isGuess 48 = .ok (.iadd, 1) := dk_96 (dk_at dksX4_isGuess_2 0 rfl rfl)
theorem dX4_isGuess_49 : decode cX4_isGuess 49 = .ok (.iaload, 1) := dk_46 (dk_at dksX4_isGuess_2 1 rfl rfl)
theorem dX4_isGuess_50 : decode cX4_isGuess 50 = .ok (.iconst (-1), 1) := dk_2 (dk_at dksX4_isGuess_2 2 rfl rfl)
theorem dX4_isGuess_51 : decode cX4_isGuess 51 = .ok (.if_icmp .ne 18, 3) := dk_160 0 18 (dk_at dksX4_isGuess_2 3 rfl rfl)
theorem dX4_isGuess_54 : decode cX4_isGuess 54 = .ok (.aload_n 0, 1) := dk_42 (dk_at dksX4_isGuess_2 6 rfl rfl)
theorem dX4_isGuess_55 : decode cX4_isGuess 55 = .ok (.getfield 51, 3) := dk_180 0 51 (dk_at dksX4_isGuess_2 7 rfl rfl)
theorem dX4_isGuess_58 : decode cX4_isGuess 58 = .ok (.bipush 19, 2) := dk_16 19 (dk_at dksX4_isGuess_2 10 rfl rfl)
theorem dX4_isGuess_60 : decode cX4_isGuess 60 = .ok (.iload_n 2, 1) := dk_28 (dk_at dksX4_isGuess_2 12 rfl rfl)
theorem dX4_isGuess_61 : decode cX4_isGuess 61 = .ok (.iadd, 1) := dk_96 (dk_at dksX4_isGuess_2 13 rfl rfl)
theorem dX4_isGuess_62 : decode cX4_isGuess 62 = .ok (.iaload, 1) := dk_46 (dk_at dksX4_isGuess_2 14 rfl rfl)
theorem dX4_isGuess_63 : decode cX4_isGuess 63 = .ok (.iload_n 3, 1) := dk_29 (dk_at dksX4_isGuess_2 15 rfl rfl)
theorem dX4_isGuess_64 : decode cX4_isGuess 64 = .ok (.if_icmp .ne 5, 3) := dk_160 0 5 (dk_at dksX4_isGuess_2 16 rfl rfl)
theorem dX4_isGuess_67 : decode cX4_isGuess 67 = .ok (.iconst 0, 1) := dk_3 (dk_at dksX4_isGuess_2 19 rfl rfl)
theorem dX4_isGuess_68 : decode cX4_isGuess 68 = .ok (.ireturn, 1) := dk_172 (dk_at dksX4_isGuess_2 20 rfl rfl)
theorem dX4_isGuess_69 : decode cX4_isGuess 69 = .ok (.aload_n 0, 1) := dk_42 (dk_at dksX4_isGuess_2 21 rfl rfl)
theorem dX4_isGuess_70 : decode cX4_isGuess 70 = .ok (.invokevirtual 381, 3) := dk_182 1 125 (dk_at dksX4_isGuess_3 0 rfl rfl)
theorem dX4_isGuess_73 : decode cX4_isGuess 73 = .ok (.aload_n 0, 1) := dk_42 (dk_at dksX4_isGuess_3 3 rfl rfl)
theorem dX4_isGuess_74 : decode cX4_isGuess 74 = .ok (.bipush 64, 2) := dk_16 64 (dk_at dksX4_isGuess_3 4 rfl rfl)
theorem dX4_isGuess_76 : decode cX4_isGuess 76 = .ok (.iload_n 2, 1) := dk_28 (dk_at dksX4_isGuess_3 6 rfl rfl)
theorem dX4_isGuess_77 : decode cX4_isGuess 77 = .ok (.iload_n 3, 1) := dk_29 (dk_at dksX4_isGuess_3 7 rfl rfl)
theorem dX4_isGuess_78 : decode cX4_isGuess 78 = .ok (.invokevirtual 369, 3) := dk_182 1 113 (dk_at dksX4_isGuess_3 8 rfl rfl)
theorem dX4_isGuess_81 : decode cX4_isGuess 81 = .ok (.aload_n 0, 1) := dk_42 (dk_at dksX4_isGuess_3 11 rfl rfl)
theorem dX4_isGuess_82 : decode cX4_isGuess 82 = .ok (.invokevirtual 408, 3) := dk_182 1 152 (dk_at dksX4_isGuess_3 12 rfl rfl)
theorem dX4_isGuess_85 : decode cX4_isGuess 85 = .ok (.ireturn, 1) := dk_172 (dk_at dksX4_isGuess_3 15 rfl rfl)
abbrev cX4_listen : ByteArray := prog_12_method_108_code
def yX4_listen : MethodName := ⟨RX4, "listen", "(I)I"⟩
def dkwX4_listen_7 : List UInt8 := [61, 21, 5, 62, 132, 4, 1, 167, 255, 190, 27, 154, 0, 7, 28, 167, 0, 4, 29, 172]
abbrev dktX4_listen_7 : List UInt8 := dkwX4_listen_7 ++ []
def dkwX4_listen_6 : List UInt8 := [96, 46, 96, 54, 5, 132, 6, 1, 167, 255, 226, 21, 5, 29, 163, 0, 6, 167, 0, 11, 21, 4, 4, 96]
abbrev dktX4_listen_6 : List UInt8 := dkwX4_listen_6 ++ dktX4_listen_7
def dkwX4_listen_5 : List UInt8 := [54, 6, 21, 6, 17, 2, 0, 162, 0, 28, 21, 5, 42, 180, 0, 102, 17, 2, 0, 21, 4, 104, 21, 6]
abbrev dktX4_listen_5 : List UInt8 := dkwX4_listen_5 ++ dktX4_listen_6
def dkwX4_listen_4 : List UInt8 := [132, 2, 1, 167, 255, 202, 2, 61, 3, 62, 3, 54, 4, 21, 4, 16, 40, 162, 0, 65, 3, 54, 5, 3]
abbrev dktX4_listen_4 : List UInt8 := dkwX4_listen_4 ++ dktX4_listen_5
def dkwX4_listen_3 : List UInt8 := [180, 0, 102, 17, 2, 0, 29, 104, 42, 180, 0, 99, 29, 46, 96, 4, 79, 132, 3, 1, 167, 255, 229]
abbrev dktX4_listen_3 : List UInt8 := dkwX4_listen_3 ++ dktX4_listen_4
def dkwX4_listen_2 : List UInt8 := [180, 1, 13, 104, 162, 0, 49, 42, 28, 182, 1, 155, 153, 0, 35, 3, 62, 29, 16, 40, 162, 0, 27, 42]
abbrev dktX4_listen_2 : List UInt8 := dkwX4_listen_2 ++ dktX4_listen_3
def dkwX4_listen_1 : List UInt8 := [162, 0, 16, 42, 180, 0, 102, 28, 3, 79, 132, 2, 1, 167, 255, 239, 3, 61, 28, 16, 10, 42]
abbrev dktX4_listen_1 : List UInt8 := dkwX4_listen_1 ++ dktX4_listen_2
def dkwX4_listen_0 : List UInt8 := [42, 3, 181, 0, 114, 42, 27, 4, 182, 1, 98, 154, 0, 5, 3, 172, 3, 61, 28, 17, 80, 0]
abbrev dktX4_listen_0 : List UInt8 := dkwX4_listen_0 ++ dktX4_listen_1
theorem dksX4_listen_0 : cX4_listen.data.toList.drop 0 = dktX4_listen_0 := by decide +kernel
theorem dksX4_listen_1 : cX4_listen.data.toList.drop 22 = dktX4_listen_1 := dk_seg dksX4_listen_0 22 rfl rfl
theorem dksX4_listen_2 : cX4_listen.data.toList.drop 44 = dktX4_listen_2 := dk_seg dksX4_listen_1 22 rfl rfl
theorem dksX4_listen_3 : cX4_listen.data.toList.drop 68 = dktX4_listen_3 := dk_seg dksX4_listen_2 24 rfl rfl
theorem dksX4_listen_4 : cX4_listen.data.toList.drop 91 = dktX4_listen_4 := dk_seg dksX4_listen_3 23 rfl rfl
theorem dksX4_listen_5 : cX4_listen.data.toList.drop 115 = dktX4_listen_5 := dk_seg dksX4_listen_4 24 rfl rfl
theorem dksX4_listen_6 : cX4_listen.data.toList.drop 139 = dktX4_listen_6 := dk_seg dksX4_listen_5 24 rfl rfl
theorem dksX4_listen_7 : cX4_listen.data.toList.drop 163 = dktX4_listen_7 := dk_seg dksX4_listen_6 24 rfl rfl
theorem dX4_listen_0 : decode cX4_listen 0 = .ok (.aload_n 0, 1) := dk_42 (dk_at dksX4_listen_0 0 rfl rfl)
theorem dX4_listen_1 : decode cX4_listen 1 = .ok (.iconst 0, 1) := dk_3 (dk_at dksX4_listen_0 1 rfl rfl)
theorem dX4_listen_2 : decode cX4_listen 2 = .ok (.putfield 114, 3) := dk_181 0 114 (dk_at dksX4_listen_0 2 rfl rfl)
theorem dX4_listen_5 : decode cX4_listen 5 = .ok (.aload_n 0, 1) := dk_42 (dk_at dksX4_listen_0 5 rfl rfl)
theorem dX4_listen_6 : decode cX4_listen 6 = .ok (.iload_n 1, 1) := dk_27 (dk_at dksX4_listen_0 6 rfl rfl)
theorem dX4_listen_7 : decode cX4_listen 7 = .ok (.iconst 1, 1) := dk_4 (dk_at dksX4_listen_0 7 rfl rfl)
theorem dX4_listen_8 : decode cX4_listen 8 = .ok (.invokevirtual 354, 3) := dk_182 1 98 (dk_at dksX4_listen_0 8 rfl rfl)
theorem dX4_listen_11 : decode cX4_listen 11 = .ok (.ifCond .ne 5, 3) := dk_154 0 5 (dk_at dksX4_listen_0 11 rfl rfl)
theorem dX4_listen_14 : decode cX4_listen 14 = .ok (.iconst 0, 1) := dk_3 (dk_at dksX4_listen_0 14 rfl rfl)
theorem dX4_listen_15 : decode cX4_listen 15 = .ok (.ireturn, 1) := dk_172 (dk_at dksX4_listen_0 15 rfl rfl)
theorem dX4_listen_16 : decode cX4_listen 16 = .ok (.iconst 0, 1) := dk_3 (dk_at dksX4_listen_0 16 rfl rfl)
theorem dX4_listen_17 : decode cX4_listen 17 = .ok (.istore_n 2, 1) := dk_61 (dk_at dksX4_listen_0 17 rfl rfl)
theorem dX4_listen_18 : decode cX4_listen 18 = .ok (.iload_n 2, 1) := dk_28 (dk_at dksX4_listen_0 18 rfl rfl)
theorem dX4_listen_19 : decode cX4_listen 19 = .ok (.sipush 20480, 3) := dk_17 80 0 (dk_at dksX4_listen_0 19 rfl rfl)
theorem dX4_listen_22 : decode cX4_listen 22 = .ok (.if_icmp .ge 16, 3) := dk_162 0 16 (dk_at dksX4_listen_1 0 rfl rfl)
theorem dX4_listen_25 : decode cX4_listen 25 = .ok (.aload_n 0, 1) := dk_42 (dk_at dksX4_listen_1 3 rfl rfl)
theorem dX4_listen_26 : decode cX4_listen 26 = .ok (.getfield 102, 3) := dk_180 0 102 (dk_at dksX4_listen_1 4 rfl rfl)
theorem dX4_listen_29 : decode cX4_listen 29 = .ok (.iload_n 2, 1) := dk_28 (dk_at dksX4_listen_1 7 rfl rfl)
theorem dX4_listen_30 : decode cX4_listen 30 = .ok (.iconst 0, 1) := dk_3 (dk_at dksX4_listen_1 8 rfl rfl)
theorem dX4_listen_31 : decode cX4_listen 31 = .ok (.iastore, 1) := dk_79 (dk_at dksX4_listen_1 9 rfl rfl)
theorem dX4_listen_32 : decode cX4_listen 32 = .ok (.iinc 2 1, 3) := dk_132 2 1 (dk_at dksX4_listen_1 10 rfl rfl)
theorem dX4_listen_35 : decode cX4_listen 35 = .ok (.goto (-17), 3) := dk_167 255 239 (dk_at dksX4_listen_1 13 rfl rfl)
theorem dX4_listen_38 : decode cX4_listen 38 = .ok (.iconst 0, 1) := dk_3 (dk_at dksX4_listen_1 16 rfl rfl)
theorem dX4_listen_39 : decode cX4_listen 39 = .ok (.istore_n 2, 1) := dk_61 (dk_at dksX4_listen_1 17 rfl rfl)
theorem dX4_listen_40 : decode cX4_listen 40 = .ok (.iload_n 2, 1) := dk_28 (dk_at dksX4_listen_1 18 rfl rfl)
theorem dX4_listen_41 : decode cX4_listen 41 = .ok (.bipush 10, 2) := dk_16 10 (dk_at dksX4_listen_1 19 rfl rfl)
theorem dX4_listen_43 : decode cX4_listen 43 = .ok (.aload_n 0, 1) := dk_42 (dk_at dksX4_listen_1 21 rfl rfl)
theorem dX4_listen_44 : decode cX4_listen 44 = .ok (.getfield 269, 3) := dk_180 1 13 (dk_at dksX4_listen_2 0 rfl rfl)
theorem dX4_listen_47 : decode cX4_listen 47 = .ok (.imul, 1) := dk_104 (dk_at dksX4_listen_2 3 rfl rfl)
theorem dX4_listen_48 : decode cX4_listen 48 = .ok (.if_icmp .ge 49, 3) := dk_162 0 49 (dk_at dksX4_listen_2 4 rfl rfl)
theorem dX4_listen_51 : decode cX4_listen 51 = .ok (.aload_n 0, 1) := dk_42 (dk_at dksX4_listen_2 7 rfl rfl)
theorem dX4_listen_52 : decode cX4_listen 52 = .ok (.iload_n 2, 1) := dk_28 (dk_at dksX4_listen_2 8 rfl rfl)
theorem dX4_listen_53 : decode cX4_listen 53 = .ok (.invokevirtual 411, 3) := dk_182 1 155 (dk_at dksX4_listen_2 9 rfl rfl)
theorem dX4_listen_56 : decode cX4_listen 56 = .ok (.ifCond .eq 35, 3) := dk_153 0 35 (dk_at dksX4_listen_2 12 rfl rfl)
theorem dX4_listen_59 : decode cX4_listen 59 = .ok (.iconst 0, 1) := dk_3 (dk_at dksX4_listen_2 15 rfl rfl)
theorem dX4_listen_60 : decode cX4_listen 60 = .ok (.istore_n 3, 1) := dk_62 (dk_at dksX4_listen_2 16 rfl rfl)
theorem dX4_listen_61 : decode cX4_listen 61 = .ok (.iload_n 3, 1) := dk_29 (dk_at dksX4_listen_2 17 rfl rfl)
theorem dX4_listen_62 : decode cX4_listen 62 = .ok (.bipush 40, 2) := dk_16 40 (dk_at dksX4_listen_2 18 rfl rfl)
theorem dX4_listen_64 : decode cX4_listen 64 = .ok (.if_icmp .ge 27, 3) := dk_162 0 27 (dk_at dksX4_listen_2 20 rfl rfl)
theorem dX4_listen_67 : decode cX4_listen 67 = .ok (.aload_n 0, 1) := dk_42 (dk_at dksX4_listen_2 23 rfl rfl)
theorem dX4_listen_68 : decode cX4_listen 68 = .ok (.getfield 102, 3) := dk_180 0 102 (dk_at dksX4_listen_3 0 rfl rfl)
theorem dX4_listen_71 : decode cX4_listen 71 = .ok (.sipush 512, 3) := dk_17 2 0 (dk_at dksX4_listen_3 3 rfl rfl)
theorem dX4_listen_74 : decode cX4_listen 74 = .ok (.iload_n 3, 1) := dk_29 (dk_at dksX4_listen_3 6 rfl rfl)
theorem dX4_listen_75 : decode cX4_listen 75 = .ok (.imul, 1) := dk_104 (dk_at dksX4_listen_3 7 rfl rfl)
theorem dX4_listen_76 : decode cX4_listen 76 = .ok (.aload_n 0, 1) := dk_42 (dk_at dksX4_listen_3 8 rfl rfl)
theorem dX4_listen_77 : decode cX4_listen 77 = .ok (.getfield 99, 3) := dk_180 0 99 (dk_at dksX4_listen_3 9 rfl rfl)
theorem dX4_listen_80 : decode cX4_listen 80 = .ok (.iload_n 3, 1) := dk_29 (dk_at dksX4_listen_3 12 rfl rfl)
theorem dX4_listen_81 : decode cX4_listen 81 = .ok (.iaload, 1) := dk_46 (dk_at dksX4_listen_3 13 rfl rfl)
theorem dX4_listen_82 : decode cX4_listen 82 = .ok (.iadd, 1) := dk_96 (dk_at dksX4_listen_3 14 rfl rfl)
theorem dX4_listen_83 : decode cX4_listen 83 = .ok (.iconst 1, 1) := dk_4 (dk_at dksX4_listen_3 15 rfl rfl)
theorem dX4_listen_84 : decode cX4_listen 84 = .ok (.iastore, 1) := dk_79 (dk_at dksX4_listen_3 16 rfl rfl)
theorem dX4_listen_85 : decode cX4_listen 85 = .ok (.iinc 3 1, 3) := dk_132 3 1 (dk_at dksX4_listen_3 17 rfl rfl)
theorem dX4_listen_88 : decode cX4_listen 88 = .ok (.goto (-27), 3) := dk_167 255 229 (dk_at dksX4_listen_3 20 rfl rfl)
theorem dX4_listen_91 : decode cX4_listen 91 = .ok (.iinc 2 1, 3) := dk_132 2 1 (dk_at dksX4_listen_4 0 rfl rfl)
theorem dX4_listen_94 : decode cX4_listen 94 = .ok (.goto (-54), 3) := dk_167 255 202 (dk_at dksX4_listen_4 3 rfl rfl)
theorem dX4_listen_97 : decode cX4_listen 97 = .ok (.iconst (-1), 1) := dk_2 (dk_at dksX4_listen_4 6 rfl rfl)
theorem dX4_listen_98 : decode cX4_listen 98 = .ok (.istore_n 2, 1) := dk_61 (dk_at dksX4_listen_4 7 rfl rfl)
theorem dX4_listen_99 : decode cX4_listen 99 = .ok (.iconst 0, 1) := dk_3 (dk_at dksX4_listen_4 8 rfl rfl)
theorem dX4_listen_100 : decode cX4_listen 100 = .ok (.istore_n 3, 1) := dk_62 (dk_at dksX4_listen_4 9 rfl rfl)
theorem dX4_listen_101 : decode cX4_listen 101 = .ok (.iconst 0, 1) := dk_3 (dk_at dksX4_listen_4 10 rfl rfl)
theorem dX4_listen_102 : decode cX4_listen 102 = .ok (.istore 4, 2) := dk_54 4 (dk_at dksX4_listen_4 11 rfl rfl)
theorem dX4_listen_104 : decode cX4_listen 104 = .ok (.iload 4, 2) := dk_21 4 (dk_at dksX4_listen_4 13 rfl rfl)
theorem dX4_listen_106 : decode cX4_listen 106 = .ok (.bipush 40, 2) := dk_16 40 (dk_at dksX4_listen_4 15 rfl rfl)
theorem dX4_listen_108 : decode cX4_listen 108 = .ok (.if_icmp .ge 65, 3) := dk_162 0 65 (dk_at dksX4_listen_4 17 rfl rfl)
theorem dX4_listen_111 : decode cX4_listen 111 = .ok (.iconst 0, 1) := dk_3 (dk_at dksX4_listen_4 20 rfl rfl)
theorem dX4_listen_112 : decode cX4_listen 112 = .ok (.istore 5, 2) := dk_54 5 (dk_at dksX4_listen_4 21 rfl rfl)
theorem dX4_listen_114 : decode cX4_listen 114 = .ok (.iconst 0, 1) := dk_3 (dk_at dksX4_listen_4 23 rfl rfl)
theorem dX4_listen_115 : decode cX4_listen 115 = .ok (.istore 6, 2) := dk_54 6 (dk_at dksX4_listen_5 0 rfl rfl)
theorem dX4_listen_117 : decode cX4_listen 117 = .ok (.iload 6, 2) := dk_21 6 (dk_at dksX4_listen_5 2 rfl rfl)
theorem dX4_listen_119 : decode cX4_listen 119 = .ok (.sipush 512, 3) := dk_17 2 0 (dk_at dksX4_listen_5 4 rfl rfl)
theorem dX4_listen_122 : decode cX4_listen 122 = .ok (.if_icmp .ge 28, 3) := dk_162 0 28 (dk_at dksX4_listen_5 7 rfl rfl)
theorem dX4_listen_125 : decode cX4_listen 125 = .ok (.iload 5, 2) := dk_21 5 (dk_at dksX4_listen_5 10 rfl rfl)
theorem dX4_listen_127 : decode cX4_listen 127 = .ok (.aload_n 0, 1) := dk_42 (dk_at dksX4_listen_5 12 rfl rfl)
theorem dX4_listen_128 : decode cX4_listen 128 = .ok (.getfield 102, 3) := dk_180 0 102 (dk_at dksX4_listen_5 13 rfl rfl)
theorem dX4_listen_131 : decode cX4_listen 131 = .ok (.sipush 512, 3) := dk_17 2 0 (dk_at dksX4_listen_5 16 rfl rfl)
theorem dX4_listen_134 : decode cX4_listen 134 = .ok (.iload 4, 2) := dk_21 4 (dk_at dksX4_listen_5 19 rfl rfl)
theorem dX4_listen_136 : decode cX4_listen 136 = .ok (.imul, 1) := dk_104 (dk_at dksX4_listen_5 21 rfl rfl)
theorem dX4_listen_137 : decode cX4_listen 137 = .ok (.iload 6, 2) := dk_21 6 (dk_at dksX4_listen_5 22 rfl rfl)
theorem dX4_listen_139 : decode cX4_listen 139 = .ok (.iadd, 1) := dk_96 (dk_at dksX4_listen_6 0 rfl rfl)
theorem dX4_listen_140 : decode cX4_listen 140 = .ok (.iaload, 1) := dk_46 (dk_at dksX4_listen_6 1 rfl rfl)
theorem dX4_listen_141 : decode cX4_listen 141 = .ok (.iadd, 1) := dk_96 (dk_at dksX4_listen_6 2 rfl rfl)
theorem dX4_listen_142 : decode cX4_listen 142 = .ok (.istore 5, 2) := dk_54 5 (dk_at dksX4_listen_6 3 rfl rfl)
theorem dX4_listen_144 : decode cX4_listen 144 = .ok (.iinc 6 1, 3) := dk_132 6 1 (dk_at dksX4_listen_6 5 rfl rfl)
theorem dX4_listen_147 : decode cX4_listen 147 = .ok (.goto (-30), 3) := dk_167 255 226 (dk_at dksX4_listen_6 8 rfl rfl)
theorem dX4_listen_150 : decode cX4_listen 150 = .ok (.iload 5, 2) := dk_21 5 (dk_at dksX4_listen_6 11 rfl rfl)
theorem dX4_listen_152 : decode cX4_listen 152 = .ok (.iload_n 3, 1) := dk_29 (dk_at dksX4_listen_6 13 rfl rfl)
theorem dX4_listen_153 : decode cX4_listen 153 = .ok (.if_icmp .gt 6, 3) := dk_163 0 6 (dk_at dksX4_listen_6 14 rfl rfl)
theorem dX4_listen_156 : decode cX4_listen 156 = .ok (.goto 11, 3) := dk_167 0 11 (dk_at dksX4_listen_6 17 rfl rfl)
theorem dX4_listen_159 : decode cX4_listen 159 = .ok (.iload 4, 2) := dk_21 4 (dk_at dksX4_listen_6 20 rfl rfl)
theorem dX4_listen_161 : decode cX4_listen 161 = .ok (.iconst 1, 1) := dk_4 (dk_at dksX4_listen_6 22 rfl rfl)
theorem dX4_listen_162 : decode cX4_listen 162 = .ok (.iadd, 1) := dk_96 (dk_at dksX4_listen_6 23 rfl rfl)
theorem dX4_listen_163 : decode cX4_listen 163 = .ok (.istore_n 2, 1) := dk_61 (dk_at dksX4_listen_7 0 rfl rfl)
theorem dX4_listen_164 : decode cX4_listen 164 = .ok (.iload 5, 2) := dk_21 5 (dk_at dksX4_listen_7 1 rfl rfl)
theorem dX4_listen_166 : decode cX4_listen 166 = .ok (.istore_n 3, 1) := dk_62 (dk_at dksX4_listen_7 3 rfl rfl)
theorem dX4_listen_167 : decode cX4_listen 167 = .ok (.iinc 4 1, 3) := dk_132 4 1 (dk_at dksX4_listen_7 4 rfl rfl)
theorem dX4_listen_170 : decode cX4_listen 170 = .ok (.goto (-66), 3) := dk_167 255 190 (dk_at dksX4_listen_7 7 rfl rfl)
theorem dX4_listen_173 : decode cX4_listen 173 = .ok (.iload_n 1, 1) := dk_27 (dk_at dksX4_listen_7 10 rfl rfl)
theorem dX4_listen_174 : decode cX4_listen 174 = .ok (.ifCond .ne 7, 3) := dk_154 0 7 (dk_at dksX4_listen_7 11 rfl rfl)
theorem dX4_listen_177 : decode cX4_listen 177 = .ok (.iload_n 2, 1) := dk_28 (dk_at dksX4_listen_7 14 rfl rfl)
theorem dX4_listen_178 : decode cX4_listen 178 = .ok (.goto 4, 3) := dk_167 0 4 (dk_at dksX4_listen_7 15 rfl rfl)
theorem dX4_listen_181 : decode cX4_listen 181 = .ok (.iload_n 3, 1) := dk_29 (dk_at dksX4_listen_7 18 rfl rfl)
theorem dX4_listen_182 : decode cX4_listen 182 = .ok (.ireturn, 1) := dk_172 (dk_at dksX4_listen_7 19 rfl rfl)
abbrev cX4_cold : ByteArray := prog_12_method_109_code
def yX4_cold : MethodName := ⟨RX4, "cold", "(III)I"⟩
def dkwX4_cold_7 : List UInt8 := [21, 4, 172]
abbrev dktX4_cold_7 : List UInt8 := dkwX4_cold_7 ++ []
def dkwX4_cold_6 : List UInt8 := [160, 0, 8, 21, 6, 167, 0, 4, 3, 96, 54, 4, 132, 5, 1, 167, 255, 152, 42, 2, 181, 0, 69]
abbrev dktX4_cold_6 : List UInt8 := dkwX4_cold_6 ++ dktX4_cold_7
def dkwX4_cold_5 : List UInt8 := [21, 7, 42, 180, 1, 44, 128, 54, 7, 132, 8, 1, 167, 255, 200, 21, 4, 21, 7, 27, 122, 4, 126, 4]
abbrev dktX4_cold_5 : List UInt8 := dkwX4_cold_5 ++ dktX4_cold_6
def dkwX4_cold_4 : List UInt8 := [180, 0, 69, 4, 160, 0, 7, 29, 167, 0, 7, 16, 10, 29, 100, 104, 54, 6, 42, 16, 64, 182, 1, 67]
abbrev dktX4_cold_4 : List UInt8 := dkwX4_cold_4 ++ dktX4_cold_5
def dkwX4_cold_3 : List UInt8 := [54, 8, 21, 8, 28, 162, 0, 56, 42, 21, 5, 21, 8, 122, 4, 126, 181, 0, 69, 21, 6, 42]
abbrev dktX4_cold_3 : List UInt8 := dkwX4_cold_3 ++ dktX4_cold_4
def dkwX4_cold_2 : List UInt8 := [54, 4, 3, 54, 5, 21, 5, 4, 28, 120, 162, 0, 102, 4, 54, 6, 3, 54, 7, 42, 182, 1, 125, 3]
abbrev dktX4_cold_2 : List UInt8 := dkwX4_cold_2 ++ dktX4_cold_3
def dkwX4_cold_1 : List UInt8 := [3, 16, 10, 184, 1, 76, 153, 0, 7, 4, 167, 0, 4, 3, 5, 182, 1, 6, 154, 0, 5, 3, 172, 3]
abbrev dktX4_cold_1 : List UInt8 := dkwX4_cold_1 ++ dktX4_cold_2
def dkwX4_cold_0 : List UInt8 := [42, 3, 181, 0, 114, 42, 27, 182, 1, 95, 153, 0, 35, 42, 28, 4, 8, 184, 1, 76, 153, 0, 17, 29]
abbrev dktX4_cold_0 : List UInt8 := dkwX4_cold_0 ++ dktX4_cold_1
theorem dksX4_cold_0 : cX4_cold.data.toList.drop 0 = dktX4_cold_0 := by decide +kernel
theorem dksX4_cold_1 : cX4_cold.data.toList.drop 24 = dktX4_cold_1 := dk_seg dksX4_cold_0 24 rfl rfl
theorem dksX4_cold_2 : cX4_cold.data.toList.drop 48 = dktX4_cold_2 := dk_seg dksX4_cold_1 24 rfl rfl
theorem dksX4_cold_3 : cX4_cold.data.toList.drop 72 = dktX4_cold_3 := dk_seg dksX4_cold_2 24 rfl rfl
theorem dksX4_cold_4 : cX4_cold.data.toList.drop 94 = dktX4_cold_4 := dk_seg dksX4_cold_3 22 rfl rfl
theorem dksX4_cold_5 : cX4_cold.data.toList.drop 118 = dktX4_cold_5 := dk_seg dksX4_cold_4 24 rfl rfl
theorem dksX4_cold_6 : cX4_cold.data.toList.drop 142 = dktX4_cold_6 := dk_seg dksX4_cold_5 24 rfl rfl
theorem dksX4_cold_7 : cX4_cold.data.toList.drop 165 = dktX4_cold_7 := dk_seg dksX4_cold_6 23 rfl rfl
theorem dX4_cold_0 : decode cX4_cold 0 = .ok (.aload_n 0, 1) := dk_42 (dk_at dksX4_cold_0 0 rfl rfl)
theorem dX4_cold_1 : decode cX4_cold 1 = .ok (.iconst 0, 1) := dk_3 (dk_at dksX4_cold_0 1 rfl rfl)
theorem dX4_cold_2 : decode cX4_cold 2 = .ok (.putfield 114, 3) := dk_181 0 114 (dk_at dksX4_cold_0 2 rfl rfl)
theorem dX4_cold_5 : decode cX4_cold 5 = .ok (.aload_n 0, 1) := dk_42 (dk_at dksX4_cold_0 5 rfl rfl)
theorem dX4_cold_6 : decode cX4_cold 6 = .ok (.iload_n 1, 1) := dk_27 (dk_at dksX4_cold_0 6 rfl rfl)
theorem dX4_cold_7 : decode cX4_cold 7 = .ok (.invokevirtual 351, 3) := dk_182 1 95 (dk_at dksX4_cold_0 7 rfl rfl)
theorem dX4_cold_10 : decode cX4_cold 10 = .ok (.ifCond .eq 35, 3) := dk_153 0 35 (dk_at dksX4_cold_0 10 rfl rfl)
theorem dX4_cold_13 : decode cX4_cold 13 = .ok (.aload_n 0, 1) := dk_42 (dk_at dksX4_cold_0 13 rfl rfl)
theorem dX4_cold_14 : decode cX4_cold 14 = .ok (.iload_n 2, 1) := dk_28 (dk_at dksX4_cold_0 14 rfl rfl)
theorem dX4_cold_15 : decode cX4_cold 15 = .ok (.iconst 1, 1) := dk_4 (dk_at dksX4_cold_0 15 rfl rfl)
theorem dX4_cold_16 : decode cX4_cold 16 = .ok (.iconst 5, 1) := dk_8 (dk_at dksX4_cold_0 16 rfl rfl)
theorem dX4_cold_17 : decode cX4_cold 17 = .ok (.invokestatic 332, 3) := dk_184 1 76 (dk_at dksX4_cold_0 17 rfl rfl)
theorem dX4_cold_20 : decode cX4_cold 20 = .ok (.ifCond .eq 17, 3) := dk_153 0 17 (dk_at dksX4_cold_0 20 rfl rfl)
theorem dX4_cold_23 : decode cX4_cold 23 = .ok (.iload_n 3, 1) := dk_29 (dk_at dksX4_cold_0 23 rfl rfl)
theorem dX4_cold_24 : decode cX4_cold 24 = .ok (.iconst 0, 1) := dk_3 (dk_at dksX4_cold_1 0 rfl rfl)
theorem dX4_cold_25 : decode cX4_cold 25 = .ok (.bipush 10, 2) := dk_16 10 (dk_at dksX4_cold_1 1 rfl rfl)
theorem dX4_cold_27 : decode cX4_cold 27 = .ok (.invokestatic 332, 3) := dk_184 1 76 (dk_at dksX4_cold_1 3 rfl rfl)
theorem dX4_cold_30 : decode cX4_cold 30 = .ok (.ifCond .eq 7, 3) := dk_153 0 7 (dk_at dksX4_cold_1 6 rfl rfl)
theorem dX4_cold_33 : decode cX4_cold 33 = .ok (.iconst 1, 1) := dk_4 (dk_at dksX4_cold_1 9 rfl rfl)
theorem dX4_cold_34 : decode cX4_cold 34 = .ok (.goto 4, 3) := dk_167 0 4 (dk_at dksX4_cold_1 10 rfl rfl)
theorem dX4_cold_37 : decode cX4_cold 37 = .ok (.iconst 0, 1) := dk_3 (dk_at dksX4_cold_1 13 rfl rfl)
theorem dX4_cold_38 : decode cX4_cold 38 = .ok (.iconst 2, 1) := dk_5 (dk_at dksX4_cold_1 14 rfl rfl)
theorem dX4_cold_39 : decode cX4_cold 39 = .ok (.invokevirtual 262, 3) := dk_182 1 6 (dk_at dksX4_cold_1 15 rfl rfl)
theorem dX4_cold_42 : decode cX4_cold 42 = .ok (.ifCond .ne 5, 3) := dk_154 0 5 (dk_at dksX4_cold_1 18 rfl rfl)
theorem dX4_cold_45 : decode cX4_cold 45 = .ok (.iconst 0, 1) := dk_3 (dk_at dksX4_cold_1 21 rfl rfl)
theorem dX4_cold_46 : decode cX4_cold 46 = .ok (.ireturn, 1) := dk_172 (dk_at dksX4_cold_1 22 rfl rfl)
theorem dX4_cold_47 : decode cX4_cold 47 = .ok (.iconst 0, 1) := dk_3 (dk_at dksX4_cold_1 23 rfl rfl)
theorem dX4_cold_48 : decode cX4_cold 48 = .ok (.istore 4, 2) := dk_54 4 (dk_at dksX4_cold_2 0 rfl rfl)
theorem dX4_cold_50 : decode cX4_cold 50 = .ok (.iconst 0, 1) := dk_3 (dk_at dksX4_cold_2 2 rfl rfl)
theorem dX4_cold_51 : decode cX4_cold 51 = .ok (.istore 5, 2) := dk_54 5 (dk_at dksX4_cold_2 3 rfl rfl)
theorem dX4_cold_53 : decode cX4_cold 53 = .ok (.iload 5, 2) := dk_21 5 (dk_at dksX4_cold_2 5 rfl rfl)
theorem dX4_cold_55 : decode cX4_cold 55 = .ok (.iconst 1, 1) := dk_4 (dk_at dksX4_cold_2 7 rfl rfl)
theorem dX4_cold_56 : decode cX4_cold 56 = .ok (.iload_n 2, 1) := dk_28 (dk_at dksX4_cold_2 8 rfl rfl)
theorem dX4_cold_57 : decode cX4_cold 57 = .ok (.ishl, 1) := dk_120 (dk_at dksX4_cold_2 9 rfl rfl)
theorem dX4_cold_58 : decode cX4_cold 58 = .ok (.if_icmp .ge 102, 3) := dk_162 0 102 (dk_at dksX4_cold_2 10 rfl rfl)
theorem dX4_cold_61 : decode cX4_cold 61 = .ok (.iconst 1, 1) := dk_4 (dk_at dksX4_cold_2 13 rfl rfl)
theorem dX4_cold_62 : decode cX4_cold 62 = .ok (.istore 6, 2) := dk_54 6 (dk_at dksX4_cold_2 14 rfl rfl)
theorem dX4_cold_64 : decode cX4_cold 64 = .ok (.iconst 0, 1) := dk_3 (dk_at dksX4_cold_2 16 rfl rfl)
theorem dX4_cold_65 : decode cX4_cold 65 = .ok (.istore 7, 2) := dk_54 7 (dk_at dksX4_cold_2 17 rfl rfl)
theorem dX4_cold_67 : decode cX4_cold 67 = .ok (.aload_n 0, 1) := dk_42 (dk_at dksX4_cold_2 19 rfl rfl)
theorem dX4_cold_68 : decode cX4_cold 68 = .ok (.invokevirtual 381, 3) := dk_182 1 125 (dk_at dksX4_cold_2 20 rfl rfl)
theorem dX4_cold_71 : decode cX4_cold 71 = .ok (.iconst 0, 1) := dk_3 (dk_at dksX4_cold_2 23 rfl rfl)
theorem dX4_cold_72 : decode cX4_cold 72 = .ok (.istore 8, 2) := dk_54 8 (dk_at dksX4_cold_3 0 rfl rfl)
theorem dX4_cold_74 : decode cX4_cold 74 = .ok (.iload 8, 2) := dk_21 8 (dk_at dksX4_cold_3 2 rfl rfl)
theorem dX4_cold_76 : decode cX4_cold 76 = .ok (.iload_n 2, 1) := dk_28 (dk_at dksX4_cold_3 4 rfl rfl)
theorem dX4_cold_77 : decode cX4_cold 77 = .ok (.if_icmp .ge 56, 3) := dk_162 0 56 (dk_at dksX4_cold_3 5 rfl rfl)
theorem dX4_cold_80 : decode cX4_cold 80 = .ok (.aload_n 0, 1) := dk_42 (dk_at dksX4_cold_3 8 rfl rfl)
theorem dX4_cold_81 : decode cX4_cold 81 = .ok (.iload 5, 2) := dk_21 5 (dk_at dksX4_cold_3 9 rfl rfl)
theorem dX4_cold_83 : decode cX4_cold 83 = .ok (.iload 8, 2) := dk_21 8 (dk_at dksX4_cold_3 11 rfl rfl)
theorem dX4_cold_85 : decode cX4_cold 85 = .ok (.ishr, 1) := dk_122 (dk_at dksX4_cold_3 13 rfl rfl)
theorem dX4_cold_86 : decode cX4_cold 86 = .ok (.iconst 1, 1) := dk_4 (dk_at dksX4_cold_3 14 rfl rfl)
theorem dX4_cold_87 : decode cX4_cold 87 = .ok (.iand, 1) := dk_126 (dk_at dksX4_cold_3 15 rfl rfl)
theorem dX4_cold_88 : decode cX4_cold 88 = .ok (.putfield 69, 3) := dk_181 0 69 (dk_at dksX4_cold_3 16 rfl rfl)
theorem dX4_cold_91 : decode cX4_cold 91 = .ok (.iload 6, 2) := dk_21 6 (dk_at dksX4_cold_3 19 rfl rfl)
theorem dX4_cold_93 : decode cX4_cold 93 = .ok (.aload_n 0, 1) := dk_42 (dk_at dksX4_cold_3 21 rfl rfl)
theorem dX4_cold_94 : decode cX4_cold 94 = .ok (.getfield 69, 3) := dk_180 0 69 (dk_at dksX4_cold_4 0 rfl rfl)
theorem dX4_cold_97 : decode cX4_cold 97 = .ok (.iconst 1, 1) := dk_4 (dk_at dksX4_cold_4 3 rfl rfl)
theorem dX4_cold_98 : decode cX4_cold 98 = .ok (.if_icmp .ne 7, 3) := dk_160 0 7 (dk_at dksX4_cold_4 4 rfl rfl)
theorem dX4_cold_101 : decode cX4_cold 101 = .ok (.iload_n 3, 1) := dk_29 (dk_at dksX4_cold_4 7 rfl rfl)
theorem dX4_cold_102 : decode cX4_cold 102 = .ok (.goto 7, 3) := dk_167 0 7 (dk_at dksX4_cold_4 8 rfl rfl)
theorem dX4_cold_105 : decode cX4_cold 105 = .ok (.bipush 10, 2) := dk_16 10 (dk_at dksX4_cold_4 11 rfl rfl)
theorem dX4_cold_107 : decode cX4_cold 107 = .ok (.iload_n 3, 1) := dk_29 (dk_at dksX4_cold_4 13 rfl rfl)
theorem dX4_cold_108 : decode cX4_cold 108 = .ok (.isub, 1) := dk_100 (dk_at dksX4_cold_4 14 rfl rfl)
theorem dX4_cold_109 : decode cX4_cold 109 = .ok (.imul, 1) := dk_104 (dk_at dksX4_cold_4 15 rfl rfl)
theorem dX4_cold_110 : decode cX4_cold 110 = .ok (.istore 6, 2) := dk_54 6 (dk_at dksX4_cold_4 16 rfl rfl)
theorem dX4_cold_112 : decode cX4_cold 112 = .ok (.aload_n 0, 1) := dk_42 (dk_at dksX4_cold_4 18 rfl rfl)
theorem dX4_cold_113 : decode cX4_cold 113 = .ok (.bipush 64, 2) := dk_16 64 (dk_at dksX4_cold_4 19 rfl rfl)
theorem dX4_cold_115 : decode cX4_cold 115 = .ok (.invokevirtual 323, 3) := dk_182 1 67 (dk_at dksX4_cold_4 21 rfl rfl)
theorem dX4_cold_118 : decode cX4_cold 118 = .ok (.iload 7, 2) := dk_21 7 (dk_at dksX4_cold_5 0 rfl rfl)
theorem dX4_cold_120 : decode cX4_cold 120 = .ok (.aload_n 0, 1) := dk_42 (dk_at dksX4_cold_5 2 rfl rfl)
theorem dX4_cold_121 : decode cX4_cold 121 = .ok (.getfield 300, 3) := dk_180 1 44 (dk_at dksX4_cold_5 3 rfl rfl)
theorem dX4_cold_124 : decode cX4_cold 124 = .ok (.ior, 1) := dk_128 (dk_at dksX4_cold_5 6 rfl rfl)
theorem dX4_cold_125 : decode cX4_cold 125 = .ok (.istore 7, 2) := dk_54 7 (dk_at dksX4_cold_5 7 rfl rfl)
theorem dX4_cold_127 : decode cX4_cold 127 = .ok (.iinc 8 1, 3) := dk_132 8 1 (dk_at dksX4_cold_5 9 rfl rfl)
theorem dX4_cold_130 : decode cX4_cold 130 = .ok (.goto (-56), 3) := dk_167 255 200 (dk_at dksX4_cold_5 12 rfl rfl)
theorem dX4_cold_133 : decode cX4_cold 133 = .ok (.iload 4, 2) := dk_21 4 (dk_at dksX4_cold_5 15 rfl rfl)
theorem dX4_cold_135 : decode cX4_cold 135 = .ok (.iload 7, 2) := dk_21 7 (dk_at dksX4_cold_5 17 rfl rfl)
theorem dX4_cold_137 : decode cX4_cold 137 = .ok (.iload_n 1, 1) := dk_27 (dk_at dksX4_cold_5 19 rfl rfl)
theorem dX4_cold_138 : decode cX4_cold 138 = .ok (.ishr, 1) := dk_122 (dk_at dksX4_cold_5 20 rfl rfl)
theorem dX4_cold_139 : decode cX4_cold 139 = .ok (.iconst 1, 1) := dk_4 (dk_at dksX4_cold_5 21 rfl rfl)
theorem dX4_cold_140 : decode cX4_cold 140 = .ok (.iand, 1) := dk_126 (dk_at dksX4_cold_5 22 rfl rfl)
theorem dX4_cold_141 : decode cX4_cold 141 = .ok (.iconst 1, 1) := dk_4 (dk_at dksX4_cold_5 23 rfl rfl)
theorem dX4_cold_142 : decode cX4_cold 142 = .ok (.if_icmp .ne 8, 3) := dk_160 0 8 (dk_at dksX4_cold_6 0 rfl rfl)
theorem dX4_cold_145 : decode cX4_cold 145 = .ok (.iload 6, 2) := dk_21 6 (dk_at dksX4_cold_6 3 rfl rfl)
theorem dX4_cold_147 : decode cX4_cold 147 = .ok (.goto 4, 3) := dk_167 0 4 (dk_at dksX4_cold_6 5 rfl rfl)
theorem dX4_cold_150 : decode cX4_cold 150 = .ok (.iconst 0, 1) := dk_3 (dk_at dksX4_cold_6 8 rfl rfl)
theorem dX4_cold_151 : decode cX4_cold 151 = .ok (.iadd, 1) := dk_96 (dk_at dksX4_cold_6 9 rfl rfl)
theorem dX4_cold_152 : decode cX4_cold 152 = .ok (.istore 4, 2) := dk_54 4 (dk_at dksX4_cold_6 10 rfl rfl)
theorem dX4_cold_154 : decode cX4_cold 154 = .ok (.iinc 5 1, 3) := dk_132 5 1 (dk_at dksX4_cold_6 12 rfl rfl)
theorem dX4_cold_157 : decode cX4_cold 157 = .ok (.goto (-104), 3) := dk_167 255 152 (dk_at dksX4_cold_6 15 rfl rfl)
theorem dX4_cold_160 : decode cX4_cold 160 = .ok (.aload_n 0, 1) := dk_42 (dk_at dksX4_cold_6 18 rfl rfl)
theorem dX4_cold_161 : decode cX4_cold 161 = .ok (.iconst (-1), 1) := dk_2 (dk_at dksX4_cold_6 19 rfl rfl)
theorem dX4_cold_162 : decode cX4_cold 162 = .ok (.putfield 69, 3) := dk_181 0 69 (dk_at dksX4_cold_6 20 rfl rfl)
theorem dX4_cold_165 : decode cX4_cold 165 = .ok (.iload 4, 2) := dk_21 4 (dk_at dksX4_cold_7 0 rfl rfl)
theorem dX4_cold_167 : decode cX4_cold 167 = .ok (.ireturn, 1) := dk_172 (dk_at dksX4_cold_7 2 rfl rfl)
abbrev cX4_game : ByteArray := prog_12_method_111_code
def yX4_game : MethodName := ⟨RX4, "game", "(III)I"⟩
def dkwX4_game_7 : List UInt8 := [21, 5, 172]
abbrev dktX4_game_7 : List UInt8 := dkwX4_game_7 ++ []
def dkwX4_game_6 : List UInt8 := [21, 7, 104, 21, 8, 96, 54, 5, 132, 6, 1, 167, 255, 163, 29, 154, 0, 8, 21, 4, 167, 0, 5]
abbrev dktX4_game_6 : List UInt8 := dkwX4_game_6 ++ dktX4_game_7
def dkwX4_game_5 : List UInt8 := [21, 8, 21, 7, 182, 1, 158, 164, 0, 6, 167, 0, 22, 132, 4, 1, 21, 5, 2, 160, 0, 13, 16, 10]
abbrev dktX4_game_5 : List UInt8 := dkwX4_game_5 ++ dktX4_game_6
def dkwX4_game_4 : List UInt8 := [21, 8, 182, 1, 158, 163, 0, 50, 42, 28, 27, 4, 21, 8, 100, 21, 7, 182, 1, 158, 42, 28, 27]
abbrev dktX4_game_4 : List UInt8 := dkwX4_game_4 ++ dktX4_game_5
def dkwX4_game_3 : List UInt8 := [21, 6, 5, 112, 54, 8, 42, 27, 28, 4, 21, 7, 100, 21, 8, 182, 1, 158, 42, 27, 28, 21, 7]
abbrev dktX4_game_3 : List UInt8 := dkwX4_game_3 ++ dktX4_game_4
def dkwX4_game_2 : List UInt8 := [3, 172, 3, 54, 4, 2, 54, 5, 3, 54, 6, 21, 6, 7, 162, 0, 93, 21, 6, 5, 108, 54, 7]
abbrev dktX4_game_2 : List UInt8 := dkwX4_game_2 ++ dktX4_game_3
def dkwX4_game_1 : List UInt8 := [182, 1, 98, 153, 0, 21, 42, 27, 28, 159, 0, 7, 4, 167, 0, 4, 3, 5, 182, 1, 6, 154, 0, 5]
abbrev dktX4_game_1 : List UInt8 := dkwX4_game_1 ++ dktX4_game_2
def dkwX4_game_0 : List UInt8 := [42, 3, 181, 0, 114, 42, 27, 182, 1, 95, 153, 0, 38, 42, 28, 182, 1, 95, 153, 0, 30, 42, 29, 4]
abbrev dktX4_game_0 : List UInt8 := dkwX4_game_0 ++ dktX4_game_1
theorem dksX4_game_0 : cX4_game.data.toList.drop 0 = dktX4_game_0 := by decide +kernel
theorem dksX4_game_1 : cX4_game.data.toList.drop 24 = dktX4_game_1 := dk_seg dksX4_game_0 24 rfl rfl
theorem dksX4_game_2 : cX4_game.data.toList.drop 48 = dktX4_game_2 := dk_seg dksX4_game_1 24 rfl rfl
theorem dksX4_game_3 : cX4_game.data.toList.drop 71 = dktX4_game_3 := dk_seg dksX4_game_2 23 rfl rfl
theorem dksX4_game_4 : cX4_game.data.toList.drop 94 = dktX4_game_4 := dk_seg dksX4_game_3 23 rfl rfl
theorem dksX4_game_5 : cX4_game.data.toList.drop 117 = dktX4_game_5 := dk_seg dksX4_game_4 23 rfl rfl
theorem dksX4_game_6 : cX4_game.data.toList.drop 141 = dktX4_game_6 := dk_seg dksX4_game_5 24 rfl rfl
theorem dksX4_game_7 : cX4_game.data.toList.drop 164 = dktX4_game_7 := dk_seg dksX4_game_6 23 rfl rfl
theorem dX4_game_0 : decode cX4_game 0 = .ok (.aload_n 0, 1) := dk_42 (dk_at dksX4_game_0 0 rfl rfl)
theorem dX4_game_1 : decode cX4_game 1 = .ok (.iconst 0, 1) := dk_3 (dk_at dksX4_game_0 1 rfl rfl)
theorem dX4_game_2 : decode cX4_game 2 = .ok (.putfield 114, 3) := dk_181 0 114 (dk_at dksX4_game_0 2 rfl rfl)
theorem dX4_game_5 : decode cX4_game 5 = .ok (.aload_n 0, 1) := dk_42 (dk_at dksX4_game_0 5 rfl rfl)
theorem dX4_game_6 : decode cX4_game 6 = .ok (.iload_n 1, 1) := dk_27 (dk_at dksX4_game_0 6 rfl rfl)
theorem dX4_game_7 : decode cX4_game 7 = .ok (.invokevirtual 351, 3) := dk_182 1 95 (dk_at dksX4_game_0 7 rfl rfl)
theorem dX4_game_10 : decode cX4_game 10 = .ok (.ifCond .eq 38, 3) := dk_153 0 38 (dk_at dksX4_game_0 10 rfl rfl)
theorem dX4_game_13 : decode cX4_game 13 = .ok (.aload_n 0, 1) := dk_42 (dk_at dksX4_game_0 13 rfl rfl)
theorem dX4_game_14 : decode cX4_game 14 = .ok (.iload_n 2, 1) := dk_28 (dk_at dksX4_game_0 14 rfl rfl)
theorem dX4_game_15 : decode cX4_game 15 = .ok (.invokevirtual 351, 3) := dk_182 1 95 (dk_at dksX4_game_0 15 rfl rfl)
theorem dX4_game_18 : decode cX4_game 18 = .ok (.ifCond .eq 30, 3) := dk_153 0 30 (dk_at dksX4_game_0 18 rfl rfl)
theorem dX4_game_21 : decode cX4_game 21 = .ok (.aload_n 0, 1) := dk_42 (dk_at dksX4_game_0 21 rfl rfl)
theorem dX4_game_22 : decode cX4_game 22 = .ok (.iload_n 3, 1) := dk_29 (dk_at dksX4_game_0 22 rfl rfl)
theorem dX4_game_23 : decode cX4_game 23 = .ok (.iconst 1, 1) := dk_4 (dk_at dksX4_game_0 23 rfl rfl)
theorem dX4_game_24 : decode cX4_game 24 = .ok (.invokevirtual 354, 3) := dk_182 1 98 (dk_at dksX4_game_1 0 rfl rfl)
theorem dX4_game_27 : decode cX4_game 27 = .ok (.ifCond .eq 21, 3) := dk_153 0 21 (dk_at dksX4_game_1 3 rfl rfl)
theorem dX4_game_30 : decode cX4_game 30 = .ok (.aload_n 0, 1) := dk_42 (dk_at dksX4_game_1 6 rfl rfl)
theorem dX4_game_31 : decode cX4_game 31 = .ok (.iload_n 1, 1) := dk_27 (dk_at dksX4_game_1 7 rfl rfl)
theorem dX4_game_32 : decode cX4_game 32 = .ok (.iload_n 2, 1) := dk_28 (dk_at dksX4_game_1 8 rfl rfl)
theorem dX4_game_33 : decode cX4_game 33 = .ok (.if_icmp .eq 7, 3) := dk_159 0 7 (dk_at dksX4_game_1 9 rfl rfl)
theorem dX4_game_36 : decode cX4_game 36 = .ok (.iconst 1, 1) := dk_4 (dk_at dksX4_game_1 12 rfl rfl)
theorem dX4_game_37 : decode cX4_game 37 = .ok (.goto 4, 3) := dk_167 0 4 (dk_at dksX4_game_1 13 rfl rfl)
theorem dX4_game_40 : decode cX4_game 40 = .ok (.iconst 0, 1) := dk_3 (dk_at dksX4_game_1 16 rfl rfl)
theorem dX4_game_41 : decode cX4_game 41 = .ok (.iconst 2, 1) := dk_5 (dk_at dksX4_game_1 17 rfl rfl)
theorem dX4_game_42 : decode cX4_game 42 = .ok (.invokevirtual 262, 3) := dk_182 1 6 (dk_at dksX4_game_1 18 rfl rfl)
theorem dX4_game_45 : decode cX4_game 45 = .ok (.ifCond .ne 5, 3) := dk_154 0 5 (dk_at dksX4_game_1 21 rfl rfl)
theorem dX4_game_48 : decode cX4_game 48 = .ok (.iconst 0, 1) := dk_3 (dk_at dksX4_game_2 0 rfl rfl)
theorem dX4_game_49 : decode cX4_game 49 = .ok (.ireturn, 1) := dk_172 (dk_at dksX4_game_2 1 rfl rfl)
theorem dX4_game_50 : decode cX4_game 50 = .ok (.iconst 0, 1) := dk_3 (dk_at dksX4_game_2 2 rfl rfl)
theorem dX4_game_51 : decode cX4_game 51 = .ok (.istore 4, 2) := dk_54 4 (dk_at dksX4_game_2 3 rfl rfl)
theorem dX4_game_53 : decode cX4_game 53 = .ok (.iconst (-1), 1) := dk_2 (dk_at dksX4_game_2 5 rfl rfl)
theorem dX4_game_54 : decode cX4_game 54 = .ok (.istore 5, 2) := dk_54 5 (dk_at dksX4_game_2 6 rfl rfl)
theorem dX4_game_56 : decode cX4_game 56 = .ok (.iconst 0, 1) := dk_3 (dk_at dksX4_game_2 8 rfl rfl)
theorem dX4_game_57 : decode cX4_game 57 = .ok (.istore 6, 2) := dk_54 6 (dk_at dksX4_game_2 9 rfl rfl)
theorem dX4_game_59 : decode cX4_game 59 = .ok (.iload 6, 2) := dk_21 6 (dk_at dksX4_game_2 11 rfl rfl)
theorem dX4_game_61 : decode cX4_game 61 = .ok (.iconst 4, 1) := dk_7 (dk_at dksX4_game_2 13 rfl rfl)
theorem dX4_game_62 : decode cX4_game 62 = .ok (.if_icmp .ge 93, 3) := dk_162 0 93 (dk_at dksX4_game_2 14 rfl rfl)
theorem dX4_game_65 : decode cX4_game 65 = .ok (.iload 6, 2) := dk_21 6 (dk_at dksX4_game_2 17 rfl rfl)
theorem dX4_game_67 : decode cX4_game 67 = .ok (.iconst 2, 1) := dk_5 (dk_at dksX4_game_2 19 rfl rfl)
theorem dX4_game_68 : decode cX4_game 68 = .ok (.idiv, 1) := dk_108 (dk_at dksX4_game_2 20 rfl rfl)
theorem dX4_game_69 : decode cX4_game 69 = .ok (.istore 7, 2) := dk_54 7 (dk_at dksX4_game_2 21 rfl rfl)
theorem dX4_game_71 : decode cX4_game 71 = .ok (.iload 6, 2) := dk_21 6 (dk_at dksX4_game_3 0 rfl rfl)
theorem dX4_game_73 : decode cX4_game 73 = .ok (.iconst 2, 1) := dk_5 (dk_at dksX4_game_3 2 rfl rfl)
theorem dX4_game_74 : decode cX4_game 74 = .ok (.irem, 1) := dk_112 (dk_at dksX4_game_3 3 rfl rfl)
theorem dX4_game_75 : decode cX4_game 75 = .ok (.istore 8, 2) := dk_54 8 (dk_at dksX4_game_3 4 rfl rfl)
theorem dX4_game_77 : decode cX4_game 77 = .ok (.aload_n 0, 1) := dk_42 (dk_at dksX4_game_3 6 rfl rfl)
theorem dX4_game_78 : decode cX4_game 78 = .ok (.iload_n 1, 1) := dk_27 (dk_at dksX4_game_3 7 rfl rfl)
theorem dX4_game_79 : decode cX4_game 79 = .ok (.iload_n 2, 1) := dk_28 (dk_at dksX4_game_3 8 rfl rfl)
theorem dX4_game_80 : decode cX4_game 80 = .ok (.iconst 1, 1) := dk_4 (dk_at dksX4_game_3 9 rfl rfl)
theorem dX4_game_81 : decode cX4_game 81 = .ok (.iload 7, 2) := dk_21 7 (dk_at dksX4_game_3 10 rfl rfl)
theorem dX4_game_83 : decode cX4_game 83 = .ok (.isub, 1) := dk_100 (dk_at dksX4_game_3 12 rfl rfl)
theorem dX4_game_84 : decode cX4_game 84 = .ok (.iload 8, 2) := dk_21 8 (dk_at dksX4_game_3 13 rfl rfl)
theorem dX4_game_86 : decode cX4_game 86 = .ok (.invokevirtual 414, 3) := dk_182 1 158 (dk_at dksX4_game_3 15 rfl rfl)
theorem dX4_game_89 : decode cX4_game 89 = .ok (.aload_n 0, 1) := dk_42 (dk_at dksX4_game_3 18 rfl rfl)
theorem dX4_game_90 : decode cX4_game 90 = .ok (.iload_n 1, 1) := dk_27 (dk_at dksX4_game_3 19 rfl rfl)
theorem dX4_game_91 : decode cX4_game 91 = .ok (.iload_n 2, 1) := dk_28 (dk_at dksX4_game_3 20 rfl rfl)
theorem dX4_game_92 : decode cX4_game 92 = .ok (.iload 7, 2) := dk_21 7 (dk_at dksX4_game_3 21 rfl rfl)
theorem dX4_game_94 : decode cX4_game 94 = .ok (.iload 8, 2) := dk_21 8 (dk_at dksX4_game_4 0 rfl rfl)
theorem dX4_game_96 : decode cX4_game 96 = .ok (.invokevirtual 414, 3) := dk_182 1 158 (dk_at dksX4_game_4 2 rfl rfl)
theorem dX4_game_99 : decode cX4_game 99 = .ok (.if_icmp .gt 50, 3) := dk_163 0 50 (dk_at dksX4_game_4 5 rfl rfl)
theorem dX4_game_102 : decode cX4_game 102 = .ok (.aload_n 0, 1) := dk_42 (dk_at dksX4_game_4 8 rfl rfl)
theorem dX4_game_103 : decode cX4_game 103 = .ok (.iload_n 2, 1) := dk_28 (dk_at dksX4_game_4 9 rfl rfl)
theorem dX4_game_104 : decode cX4_game 104 = .ok (.iload_n 1, 1) := dk_27 (dk_at dksX4_game_4 10 rfl rfl)
theorem dX4_game_105 : decode cX4_game 105 = .ok (.iconst 1, 1) := dk_4 (dk_at dksX4_game_4 11 rfl rfl)
theorem dX4_game_106 : decode cX4_game 106 = .ok (.iload 8, 2) := dk_21 8 (dk_at dksX4_game_4 12 rfl rfl)
theorem dX4_game_108 : decode cX4_game 108 = .ok (.isub, 1) := dk_100 (dk_at dksX4_game_4 14 rfl rfl)
theorem dX4_game_109 : decode cX4_game 109 = .ok (.iload 7, 2) := dk_21 7 (dk_at dksX4_game_4 15 rfl rfl)
theorem dX4_game_111 : decode cX4_game 111 = .ok (.invokevirtual 414, 3) := dk_182 1 158 (dk_at dksX4_game_4 17 rfl rfl)
theorem dX4_game_114 : decode cX4_game 114 = .ok (.aload_n 0, 1) := dk_42 (dk_at dksX4_game_4 20 rfl rfl)
theorem dX4_game_115 : decode cX4_game 115 = .ok (.iload_n 2, 1) := dk_28 (dk_at dksX4_game_4 21 rfl rfl)
theorem dX4_game_116 : decode cX4_game 116 = .ok (.iload_n 1, 1) := dk_27 (dk_at dksX4_game_4 22 rfl rfl)
theorem dX4_game_117 : decode cX4_game 117 = .ok (.iload 8, 2) := dk_21 8 (dk_at dksX4_game_5 0 rfl rfl)
theorem dX4_game_119 : decode cX4_game 119 = .ok (.iload 7, 2) := dk_21 7 (dk_at dksX4_game_5 2 rfl rfl)
theorem dX4_game_121 : decode cX4_game 121 = .ok (.invokevirtual 414, 3) := dk_182 1 158 (dk_at dksX4_game_5 4 rfl rfl)
theorem dX4_game_124 : decode cX4_game 124 = .ok (.if_icmp .le 6, 3) := dk_164 0 6 (dk_at dksX4_game_5 7 rfl rfl)
theorem dX4_game_127 : decode cX4_game 127 = .ok (.goto 22, 3) := dk_167 0 22 (dk_at dksX4_game_5 10 rfl rfl)
theorem dX4_game_130 : decode cX4_game 130 = .ok (.iinc 4 1, 3) := dk_132 4 1 (dk_at dksX4_game_5 13 rfl rfl)
theorem dX4_game_133 : decode cX4_game 133 = .ok (.iload 5, 2) := dk_21 5 (dk_at dksX4_game_5 16 rfl rfl)
theorem dX4_game_135 : decode cX4_game 135 = .ok (.iconst (-1), 1) := dk_2 (dk_at dksX4_game_5 18 rfl rfl)
theorem dX4_game_136 : decode cX4_game 136 = .ok (.if_icmp .ne 13, 3) := dk_160 0 13 (dk_at dksX4_game_5 19 rfl rfl)
theorem dX4_game_139 : decode cX4_game 139 = .ok (.bipush 10, 2) := dk_16 10 (dk_at dksX4_game_5 22 rfl rfl)
theorem dX4_game_141 : decode cX4_game 141 = .ok (.iload 7, 2) := dk_21 7 (dk_at dksX4_game_6 0 rfl rfl)
theorem dX4_game_143 : decode cX4_game 143 = .ok (.imul, 1) := dk_104 (dk_at dksX4_game_6 2 rfl rfl)
theorem dX4_game_144 : decode cX4_game 144 = .ok (.iload 8, 2) := dk_21 8 (dk_at dksX4_game_6 3 rfl rfl)
theorem dX4_game_146 : decode cX4_game 146 = .ok (.iadd, 1) := dk_96 (dk_at dksX4_game_6 5 rfl rfl)
theorem dX4_game_147 : decode cX4_game 147 = .ok (.istore 5, 2) := dk_54 5 (dk_at dksX4_game_6 6 rfl rfl)
theorem dX4_game_149 : decode cX4_game 149 = .ok (.iinc 6 1, 3) := dk_132 6 1 (dk_at dksX4_game_6 8 rfl rfl)
theorem dX4_game_152 : decode cX4_game 152 = .ok (.goto (-93), 3) := dk_167 255 163 (dk_at dksX4_game_6 11 rfl rfl)
theorem dX4_game_155 : decode cX4_game 155 = .ok (.iload_n 3, 1) := dk_29 (dk_at dksX4_game_6 14 rfl rfl)
theorem dX4_game_156 : decode cX4_game 156 = .ok (.ifCond .ne 8, 3) := dk_154 0 8 (dk_at dksX4_game_6 15 rfl rfl)
theorem dX4_game_159 : decode cX4_game 159 = .ok (.iload 4, 2) := dk_21 4 (dk_at dksX4_game_6 18 rfl rfl)
theorem dX4_game_161 : decode cX4_game 161 = .ok (.goto 5, 3) := dk_167 0 5 (dk_at dksX4_game_6 20 rfl rfl)
theorem dX4_game_164 : decode cX4_game 164 = .ok (.iload 5, 2) := dk_21 5 (dk_at dksX4_game_7 0 rfl rfl)
theorem dX4_game_166 : decode cX4_game 166 = .ok (.ireturn, 1) := dk_172 (dk_at dksX4_game_7 2 rfl rfl)
abbrev cX4_gains : ByteArray := prog_12_method_110_code
def yX4_gains : MethodName := ⟨RX4, "gains", "(IIII)I"⟩
def dkwX4_gains_3 : List UInt8 := [96, 54, 5, 132, 6, 1, 167, 255, 222, 21, 5, 5, 108, 29, 100, 172]
abbrev dktX4_gains_3 : List UInt8 := dkwX4_gains_3 ++ []
def dkwX4_gains_2 : List UInt8 := [162, 0, 33, 42, 16, 64, 182, 1, 67, 21, 5, 42, 180, 0, 66, 27, 46, 42, 180, 0, 66, 28, 46, 100]
abbrev dktX4_gains_2 : List UInt8 := dkwX4_gains_2 ++ dktX4_gains_3
def dkwX4_gains_1 : List UInt8 := [160, 0, 13, 42, 180, 0, 51, 16, 119, 28, 96, 4, 79, 3, 54, 5, 3, 54, 6, 21, 6, 16, 12]
abbrev dktX4_gains_1 : List UInt8 := dkwX4_gains_1 ++ dktX4_gains_2
def dkwX4_gains_0 : List UInt8 := [42, 182, 1, 125, 29, 4, 160, 0, 13, 42, 180, 0, 51, 16, 119, 27, 96, 4, 79, 21, 4, 4]
abbrev dktX4_gains_0 : List UInt8 := dkwX4_gains_0 ++ dktX4_gains_1
theorem dksX4_gains_0 : cX4_gains.data.toList.drop 0 = dktX4_gains_0 := by decide +kernel
theorem dksX4_gains_1 : cX4_gains.data.toList.drop 22 = dktX4_gains_1 := dk_seg dksX4_gains_0 22 rfl rfl
theorem dksX4_gains_2 : cX4_gains.data.toList.drop 45 = dktX4_gains_2 := dk_seg dksX4_gains_1 23 rfl rfl
theorem dksX4_gains_3 : cX4_gains.data.toList.drop 69 = dktX4_gains_3 := dk_seg dksX4_gains_2 24 rfl rfl
theorem dX4_gains_0 : decode cX4_gains 0 = .ok (.aload_n 0, 1) := dk_42 (dk_at dksX4_gains_0 0 rfl rfl)
theorem dX4_gains_1 : decode cX4_gains 1 = .ok (.invokevirtual 381, 3) := dk_182 1 125 (dk_at dksX4_gains_0 1 rfl rfl)
theorem dX4_gains_4 : decode cX4_gains 4 = .ok (.iload_n 3, 1) := dk_29 (dk_at dksX4_gains_0 4 rfl rfl)
theorem dX4_gains_5 : decode cX4_gains 5 = .ok (.iconst 1, 1) := dk_4 (dk_at dksX4_gains_0 5 rfl rfl)
theorem dX4_gains_6 : decode cX4_gains 6 = .ok (.if_icmp .ne 13, 3) := dk_160 0 13 (dk_at dksX4_gains_0 6 rfl rfl)
theorem dX4_gains_9 : decode cX4_gains 9 = .ok (.aload_n 0, 1) := dk_42 (dk_at dksX4_gains_0 9 rfl rfl)
theorem dX4_gains_10 : decode cX4_gains 10 = .ok (.getfield 51, 3) := dk_180 0 51 (dk_at dksX4_gains_0 10 rfl rfl)
theorem dX4_gains_13 : decode cX4_gains 13 = .ok (.bipush 119, 2) := dk_16 119 (dk_at dksX4_gains_0 13 rfl rfl)
theorem dX4_gains_15 : decode cX4_gains 15 = .ok (.iload_n 1, 1) := dk_27 (dk_at dksX4_gains_0 15 rfl rfl)
theorem dX4_gains_16 : decode cX4_gains 16 = .ok (.iadd, 1) := dk_96 (dk_at dksX4_gains_0 16 rfl rfl)
theorem dX4_gains_17 : decode cX4_gains 17 = .ok (.iconst 1, 1) := dk_4 (dk_at dksX4_gains_0 17 rfl rfl)
theorem dX4_gains_18 : decode cX4_gains 18 = .ok (.iastore, 1) := dk_79 (dk_at dksX4_gains_0 18 rfl rfl)
theorem dX4_gains_19 : decode cX4_gains 19 = .ok (.iload 4, 2) := dk_21 4 (dk_at dksX4_gains_0 19 rfl rfl)
theorem dX4_gains_21 : decode cX4_gains 21 = .ok (.iconst 1, 1) := dk_4 (dk_at dksX4_gains_0 21 rfl rfl)
theorem dX4_gains_22 : decode cX4_gains 22 = .ok (.if_icmp .ne 13, 3) := dk_160 0 13 (dk_at dksX4_gains_1 0 rfl rfl)
theorem dX4_gains_25 : decode cX4_gains 25 = .ok (.aload_n 0, 1) := dk_42 (dk_at dksX4_gains_1 3 rfl rfl)
theorem dX4_gains_26 : decode cX4_gains 26 = .ok (.getfield 51, 3) := dk_180 0 51 (dk_at dksX4_gains_1 4 rfl rfl)
theorem dX4_gains_29 : decode cX4_gains 29 = .ok (.bipush 119, 2) := dk_16 119 (dk_at dksX4_gains_1 7 rfl rfl)
theorem dX4_gains_31 : decode cX4_gains 31 = .ok (.iload_n 2, 1) := dk_28 (dk_at dksX4_gains_1 9 rfl rfl)
theorem dX4_gains_32 : decode cX4_gains 32 = .ok (.iadd, 1) := dk_96 (dk_at dksX4_gains_1 10 rfl rfl)
theorem dX4_gains_33 : decode cX4_gains 33 = .ok (.iconst 1, 1) := dk_4 (dk_at dksX4_gains_1 11 rfl rfl)
theorem dX4_gains_34 : decode cX4_gains 34 = .ok (.iastore, 1) := dk_79 (dk_at dksX4_gains_1 12 rfl rfl)
theorem dX4_gains_35 : decode cX4_gains 35 = .ok (.iconst 0, 1) := dk_3 (dk_at dksX4_gains_1 13 rfl rfl)
theorem dX4_gains_36 : decode cX4_gains 36 = .ok (.istore 5, 2) := dk_54 5 (dk_at dksX4_gains_1 14 rfl rfl)
theorem dX4_gains_38 : decode cX4_gains 38 = .ok (.iconst 0, 1) := dk_3 (dk_at dksX4_gains_1 16 rfl rfl)
theorem dX4_gains_39 : decode cX4_gains 39 = .ok (.istore 6, 2) := dk_54 6 (dk_at dksX4_gains_1 17 rfl rfl)
theorem dX4_gains_41 : decode cX4_gains 41 = .ok (.iload 6, 2) := dk_21 6 (dk_at dksX4_gains_1 19 rfl rfl)
theorem dX4_gains_43 : decode cX4_gains 43 = .ok (.bipush 12, 2) := dk_16 12 (dk_at dksX4_gains_1 21 rfl rfl)
theorem dX4_gains_45 : decode cX4_gains 45 = .ok (.if_icmp .ge 33, 3) := dk_162 0 33 (dk_at dksX4_gains_2 0 rfl rfl)
theorem dX4_gains_48 : decode cX4_gains 48 = .ok (.aload_n 0, 1) := dk_42 (dk_at dksX4_gains_2 3 rfl rfl)
theorem dX4_gains_49 : decode cX4_gains 49 = .ok (.bipush 64, 2) := dk_16 64 (dk_at dksX4_gains_2 4 rfl rfl)
theorem dX4_gains_51 : decode cX4_gains 51 = .ok (.invokevirtual 323, 3) := dk_182 1 67 (dk_at dksX4_gains_2 6 rfl rfl)
theorem dX4_gains_54 : decode cX4_gains 54 = .ok (.iload 5, 2) := dk_21 5 (dk_at dksX4_gains_2 9 rfl rfl)
theorem dX4_gains_56 : decode cX4_gains 56 = .ok (.aload_n 0, 1) := dk_42 (dk_at dksX4_gains_2 11 rfl rfl)
theorem dX4_gains_57 : decode cX4_gains 57 = .ok (.getfield 66, 3) := dk_180 0 66 (dk_at dksX4_gains_2 12 rfl rfl)
theorem dX4_gains_60 : decode cX4_gains 60 = .ok (.iload_n 1, 1) := dk_27 (dk_at dksX4_gains_2 15 rfl rfl)
theorem dX4_gains_61 : decode cX4_gains 61 = .ok (.iaload, 1) := dk_46 (dk_at dksX4_gains_2 16 rfl rfl)
theorem dX4_gains_62 : decode cX4_gains 62 = .ok (.aload_n 0, 1) := dk_42 (dk_at dksX4_gains_2 17 rfl rfl)
theorem dX4_gains_63 : decode cX4_gains 63 = .ok (.getfield 66, 3) := dk_180 0 66 (dk_at dksX4_gains_2 18 rfl rfl)
theorem dX4_gains_66 : decode cX4_gains 66 = .ok (.iload_n 2, 1) := dk_28 (dk_at dksX4_gains_2 21 rfl rfl)
theorem dX4_gains_67 : decode cX4_gains 67 = .ok (.iaload, 1) := dk_46 (dk_at dksX4_gains_2 22 rfl rfl)
theorem dX4_gains_68 : decode cX4_gains 68 = .ok (.isub, 1) := dk_100 (dk_at dksX4_gains_2 23 rfl rfl)
theorem dX4_gains_69 : decode cX4_gains 69 = .ok (.iadd, 1) := dk_96 (dk_at dksX4_gains_3 0 rfl rfl)
theorem dX4_gains_70 : decode cX4_gains 70 = .ok (.istore 5, 2) := dk_54 5 (dk_at dksX4_gains_3 1 rfl rfl)
theorem dX4_gains_72 : decode cX4_gains 72 = .ok (.iinc 6 1, 3) := dk_132 6 1 (dk_at dksX4_gains_3 3 rfl rfl)
theorem dX4_gains_75 : decode cX4_gains 75 = .ok (.goto (-34), 3) := dk_167 255 222 (dk_at dksX4_gains_3 6 rfl rfl)
theorem dX4_gains_78 : decode cX4_gains 78 = .ok (.iload 5, 2) := dk_21 5 (dk_at dksX4_gains_3 9 rfl rfl)
theorem dX4_gains_80 : decode cX4_gains 80 = .ok (.iconst 2, 1) := dk_5 (dk_at dksX4_gains_3 11 rfl rfl)
theorem dX4_gains_81 : decode cX4_gains 81 = .ok (.idiv, 1) := dk_108 (dk_at dksX4_gains_3 12 rfl rfl)
theorem dX4_gains_82 : decode cX4_gains 82 = .ok (.iload_n 3, 1) := dk_29 (dk_at dksX4_gains_3 13 rfl rfl)
theorem dX4_gains_83 : decode cX4_gains 83 = .ok (.isub, 1) := dk_100 (dk_at dksX4_gains_3 14 rfl rfl)
theorem dX4_gains_84 : decode cX4_gains 84 = .ok (.ireturn, 1) := dk_172 (dk_at dksX4_gains_3 15 rfl rfl)
abbrev cX4_years : ByteArray := prog_12_method_114_code
def yX4_years : MethodName := ⟨RX4, "years", "(III)I"⟩
def dkwX4_years_6 : List UInt8 := [172]
abbrev dktX4_years_6 : List UInt8 := dkwX4_years_6 ++ []
def dkwX4_years_5 : List UInt8 := [160, 0, 14, 42, 16, 64, 16, 10, 182, 1, 83, 167, 0, 13, 42, 180, 1, 13, 21, 5, 184, 1, 137, 100]
abbrev dktX4_years_5 : List UInt8 := dkwX4_years_5 ++ dktX4_years_6
def dkwX4_years_4 : List UInt8 := [180, 1, 44, 128, 54, 5, 132, 6, 1, 167, 255, 198, 29, 154, 0, 8, 21, 4, 167, 0, 29, 29, 4]
abbrev dktX4_years_4 : List UInt8 := dkwX4_years_4 ++ dktX4_years_5
def dkwX4_years_3 : List UInt8 := [162, 0, 21, 21, 4, 42, 180, 0, 66, 21, 7, 46, 96, 54, 4, 132, 7, 1, 167, 255, 232, 21, 5, 42]
abbrev dktX4_years_3 : List UInt8 := dkwX4_years_3 ++ dktX4_years_4
def dkwX4_years_2 : List UInt8 := [162, 0, 58, 42, 182, 1, 169, 42, 16, 64, 182, 1, 67, 3, 54, 7, 21, 7, 42, 180, 1, 13]
abbrev dktX4_years_2 : List UInt8 := dkwX4_years_2 ++ dktX4_years_3
def dkwX4_years_1 : List UInt8 := [3, 172, 42, 182, 1, 125, 42, 27, 181, 1, 162, 3, 54, 4, 3, 54, 5, 3, 54, 6, 21, 6, 28]
abbrev dktX4_years_1 : List UInt8 := dkwX4_years_1 ++ dktX4_years_2
def dkwX4_years_0 : List UInt8 := [42, 3, 181, 0, 114, 42, 29, 5, 182, 1, 98, 153, 0, 13, 42, 28, 3, 5, 182, 1, 122, 154, 0, 5]
abbrev dktX4_years_0 : List UInt8 := dkwX4_years_0 ++ dktX4_years_1
theorem dksX4_years_0 : cX4_years.data.toList.drop 0 = dktX4_years_0 := by decide +kernel
theorem dksX4_years_1 : cX4_years.data.toList.drop 24 = dktX4_years_1 := dk_seg dksX4_years_0 24 rfl rfl
theorem dksX4_years_2 : cX4_years.data.toList.drop 47 = dktX4_years_2 := dk_seg dksX4_years_1 23 rfl rfl
theorem dksX4_years_3 : cX4_years.data.toList.drop 69 = dktX4_years_3 := dk_seg dksX4_years_2 22 rfl rfl
theorem dksX4_years_4 : cX4_years.data.toList.drop 93 = dktX4_years_4 := dk_seg dksX4_years_3 24 rfl rfl
theorem dksX4_years_5 : cX4_years.data.toList.drop 116 = dktX4_years_5 := dk_seg dksX4_years_4 23 rfl rfl
theorem dksX4_years_6 : cX4_years.data.toList.drop 140 = dktX4_years_6 := dk_seg dksX4_years_5 24 rfl rfl
theorem dX4_years_0 : decode cX4_years 0 = .ok (.aload_n 0, 1) := dk_42 (dk_at dksX4_years_0 0 rfl rfl)
theorem dX4_years_1 : decode cX4_years 1 = .ok (.iconst 0, 1) := dk_3 (dk_at dksX4_years_0 1 rfl rfl)
theorem dX4_years_2 : decode cX4_years 2 = .ok (.putfield 114, 3) := dk_181 0 114 (dk_at dksX4_years_0 2 rfl rfl)
theorem dX4_years_5 : decode cX4_years 5 = .ok (.aload_n 0, 1) := dk_42 (dk_at dksX4_years_0 5 rfl rfl)
theorem dX4_years_6 : decode cX4_years 6 = .ok (.iload_n 3, 1) := dk_29 (dk_at dksX4_years_0 6 rfl rfl)
theorem dX4_years_7 : decode cX4_years 7 = .ok (.iconst 2, 1) := dk_5 (dk_at dksX4_years_0 7 rfl rfl)
theorem dX4_years_8 : decode cX4_years 8 = .ok (.invokevirtual 354, 3) := dk_182 1 98 (dk_at dksX4_years_0 8 rfl rfl)
theorem dX4_years_11 : decode cX4_years 11 = .ok (.ifCond .eq 13, 3) := dk_153 0 13 (dk_at dksX4_years_0 11 rfl rfl)
theorem dX4_years_14 : decode cX4_years 14 = .ok (.aload_n 0, 1) := dk_42 (dk_at dksX4_years_0 14 rfl rfl)
theorem dX4_years_15 : decode cX4_years 15 = .ok (.iload_n 2, 1) := dk_28 (dk_at dksX4_years_0 15 rfl rfl)
theorem dX4_years_16 : decode cX4_years 16 = .ok (.iconst 0, 1) := dk_3 (dk_at dksX4_years_0 16 rfl rfl)
theorem dX4_years_17 : decode cX4_years 17 = .ok (.iconst 2, 1) := dk_5 (dk_at dksX4_years_0 17 rfl rfl)
theorem dX4_years_18 : decode cX4_years 18 = .ok (.invokevirtual 378, 3) := dk_182 1 122 (dk_at dksX4_years_0 18 rfl rfl)
theorem dX4_years_21 : decode cX4_years 21 = .ok (.ifCond .ne 5, 3) := dk_154 0 5 (dk_at dksX4_years_0 21 rfl rfl)
theorem dX4_years_24 : decode cX4_years 24 = .ok (.iconst 0, 1) := dk_3 (dk_at dksX4_years_1 0 rfl rfl)
theorem dX4_years_25 : decode cX4_years 25 = .ok (.ireturn, 1) := dk_172 (dk_at dksX4_years_1 1 rfl rfl)
theorem dX4_years_26 : decode cX4_years 26 = .ok (.aload_n 0, 1) := dk_42 (dk_at dksX4_years_1 2 rfl rfl)
theorem dX4_years_27 : decode cX4_years 27 = .ok (.invokevirtual 381, 3) := dk_182 1 125 (dk_at dksX4_years_1 3 rfl rfl)
theorem dX4_years_30 : decode cX4_years 30 = .ok (.aload_n 0, 1) := dk_42 (dk_at dksX4_years_1 6 rfl rfl)
theorem dX4_years_31 : decode cX4_years 31 = .ok (.iload_n 1, 1) := dk_27 (dk_at dksX4_years_1 7 rfl rfl)
theorem dX4_years_32 : decode cX4_years 32 = .ok (.putfield 418, 3) := dk_181 1 162 (dk_at dksX4_years_1 8 rfl rfl)
theorem dX4_years_35 : decode cX4_years 35 = .ok (.iconst 0, 1) := dk_3 (dk_at dksX4_years_1 11 rfl rfl)
theorem dX4_years_36 : decode cX4_years 36 = .ok (.istore 4, 2) := dk_54 4 (dk_at dksX4_years_1 12 rfl rfl)
theorem dX4_years_38 : decode cX4_years 38 = .ok (.iconst 0, 1) := dk_3 (dk_at dksX4_years_1 14 rfl rfl)
theorem dX4_years_39 : decode cX4_years 39 = .ok (.istore 5, 2) := dk_54 5 (dk_at dksX4_years_1 15 rfl rfl)
theorem dX4_years_41 : decode cX4_years 41 = .ok (.iconst 0, 1) := dk_3 (dk_at dksX4_years_1 17 rfl rfl)
theorem dX4_years_42 : decode cX4_years 42 = .ok (.istore 6, 2) := dk_54 6 (dk_at dksX4_years_1 18 rfl rfl)
theorem dX4_years_44 : decode cX4_years 44 = .ok (.iload 6, 2) := dk_21 6 (dk_at dksX4_years_1 20 rfl rfl)
theorem dX4_years_46 : decode cX4_years 46 = .ok (.iload_n 2, 1) := dk_28 (dk_at dksX4_years_1 22 rfl rfl)
theorem dX4_years_47 : decode cX4_years 47 = .ok (.if_icmp .ge 58, 3) := dk_162 0 58 (dk_at dksX4_years_2 0 rfl rfl)
theorem dX4_years_50 : decode cX4_years 50 = .ok (.aload_n 0, 1) := dk_42 (dk_at dksX4_years_2 3 rfl rfl)
theorem dX4_years_51 : decode cX4_years 51 = .ok (.invokevirtual 425, 3) := dk_182 1 169 (dk_at dksX4_years_2 4 rfl rfl)
theorem dX4_years_54 : decode cX4_years 54 = .ok (.aload_n 0, 1) := dk_42 (dk_at dksX4_years_2 7 rfl rfl)
theorem dX4_years_55 : decode cX4_years 55 = .ok (.bipush 64, 2) := dk_16 64 (dk_at dksX4_years_2 8 rfl rfl)
theorem dX4_years_57 : decode cX4_years 57 = .ok (.invokevirtual 323, 3) := dk_182 1 67 (dk_at dksX4_years_2 10 rfl rfl)
theorem dX4_years_60 : decode cX4_years 60 = .ok (.iconst 0, 1) := dk_3 (dk_at dksX4_years_2 13 rfl rfl)
theorem dX4_years_61 : decode cX4_years 61 = .ok (.istore 7, 2) := dk_54 7 (dk_at dksX4_years_2 14 rfl rfl)
theorem dX4_years_63 : decode cX4_years 63 = .ok (.iload 7, 2) := dk_21 7 (dk_at dksX4_years_2 16 rfl rfl)
theorem dX4_years_65 : decode cX4_years 65 = .ok (.aload_n 0, 1) := dk_42 (dk_at dksX4_years_2 18 rfl rfl)
theorem dX4_years_66 : decode cX4_years 66 = .ok (.getfield 269, 3) := dk_180 1 13 (dk_at dksX4_years_2 19 rfl rfl)
theorem dX4_years_69 : decode cX4_years 69 = .ok (.if_icmp .ge 21, 3) := dk_162 0 21 (dk_at dksX4_years_3 0 rfl rfl)
theorem dX4_years_72 : decode cX4_years 72 = .ok (.iload 4, 2) := dk_21 4 (dk_at dksX4_years_3 3 rfl rfl)
theorem dX4_years_74 : decode cX4_years 74 = .ok (.aload_n 0, 1) := dk_42 (dk_at dksX4_years_3 5 rfl rfl)
theorem dX4_years_75 : decode cX4_years 75 = .ok (.getfield 66, 3) := dk_180 0 66 (dk_at dksX4_years_3 6 rfl rfl)
theorem dX4_years_78 : decode cX4_years 78 = .ok (.iload 7, 2) := dk_21 7 (dk_at dksX4_years_3 9 rfl rfl)
theorem dX4_years_80 : decode cX4_years 80 = .ok (.iaload, 1) := dk_46 (dk_at dksX4_years_3 11 rfl rfl)
theorem dX4_years_81 : decode cX4_years 81 = .ok (.iadd, 1) := dk_96 (dk_at dksX4_years_3 12 rfl rfl)
theorem dX4_years_82 : decode cX4_years 82 = .ok (.istore 4, 2) := dk_54 4 (dk_at dksX4_years_3 13 rfl rfl)
theorem dX4_years_84 : decode cX4_years 84 = .ok (.iinc 7 1, 3) := dk_132 7 1 (dk_at dksX4_years_3 15 rfl rfl)
theorem dX4_years_87 : decode cX4_years 87 = .ok (.goto (-24), 3) := dk_167 255 232 (dk_at dksX4_years_3 18 rfl rfl)
theorem dX4_years_90 : decode cX4_years 90 = .ok (.iload 5, 2) := dk_21 5 (dk_at dksX4_years_3 21 rfl rfl)
theorem dX4_years_92 : decode cX4_years 92 = .ok (.aload_n 0, 1) := dk_42 (dk_at dksX4_years_3 23 rfl rfl)
theorem dX4_years_93 : decode cX4_years 93 = .ok (.getfield 300, 3) := dk_180 1 44 (dk_at dksX4_years_4 0 rfl rfl)
theorem dX4_years_96 : decode cX4_years 96 = .ok (.ior, 1) := dk_128 (dk_at dksX4_years_4 3 rfl rfl)
theorem dX4_years_97 : decode cX4_years 97 = .ok (.istore 5, 2) := dk_54 5 (dk_at dksX4_years_4 4 rfl rfl)
theorem dX4_years_99 : decode cX4_years 99 = .ok (.iinc 6 1, 3) := dk_132 6 1 (dk_at dksX4_years_4 6 rfl rfl)
theorem dX4_years_102 : decode cX4_years 102 = .ok (.goto (-58), 3) := dk_167 255 198 (dk_at dksX4_years_4 9 rfl rfl)
theorem dX4_years_105 : decode cX4_years 105 = .ok (.iload_n 3, 1) := dk_29 (dk_at dksX4_years_4 12 rfl rfl)
theorem dX4_years_106 : decode cX4_years 106 = .ok (.ifCond .ne 8, 3) := dk_154 0 8 (dk_at dksX4_years_4 13 rfl rfl)
theorem dX4_years_109 : decode cX4_years 109 = .ok (.iload 4, 2) := dk_21 4 (dk_at dksX4_years_4 16 rfl rfl)
theorem dX4_years_111 : decode cX4_years 111 = .ok (.goto 29, 3) := dk_167 0 29 (dk_at dksX4_years_4 18 rfl rfl)
theorem dX4_years_114 : decode cX4_years 114 = .ok (.iload_n 3, 1) := dk_29 (dk_at dksX4_years_4 21 rfl rfl)
theorem dX4_years_115 : decode cX4_years 115 = .ok (.iconst 1, 1) := dk_4 (dk_at dksX4_years_4 22 rfl rfl)
theorem dX4_years_116 : decode cX4_years 116 = .ok (.if_icmp .ne 14, 3) := dk_160 0 14 (dk_at dksX4_years_5 0 rfl rfl)
theorem dX4_years_119 : decode cX4_years 119 = .ok (.aload_n 0, 1) := dk_42 (dk_at dksX4_years_5 3 rfl rfl)
theorem dX4_years_120 : decode cX4_years 120 = .ok (.bipush 64, 2) := dk_16 64 (dk_at dksX4_years_5 4 rfl rfl)
theorem dX4_years_122 : decode cX4_years 122 = .ok (.bipush 10, 2) := dk_16 10 (dk_at dksX4_years_5 6 rfl rfl)
theorem dX4_years_124 : decode cX4_years 124 = .ok (.invokevirtual 339, 3) := dk_182 1 83 (dk_at dksX4_years_5 8 rfl rfl)
theorem dX4_years_127 : decode cX4_years 127 = .ok (.goto 13, 3) := dk_167 0 13 (dk_at dksX4_years_5 11 rfl rfl)
theorem dX4_years_130 : decode cX4_years 130 = .ok (.aload_n 0, 1) := dk_42 (dk_at dksX4_years_5 14 rfl rfl)
theorem dX4_years_131 : decode cX4_years 131 = .ok (.getfield 269, 3) := dk_180 1 13 (dk_at dksX4_years_5 15 rfl rfl)
theorem dX4_years_134 : decode cX4_years 134 = .ok (.iload 5, 2) := dk_21 5 (dk_at dksX4_years_5 18 rfl rfl)
theorem dX4_years_136 : decode cX4_years 136 = .ok (.invokestatic 393, 3) := dk_184 1 137 (dk_at dksX4_years_5 20 rfl rfl)
theorem dX4_years_139 : decode cX4_years 139 = .ok (.isub, 1) := dk_100 (dk_at dksX4_years_5 23 rfl rfl)
theorem dX4_years_140 : decode cX4_years 140 = .ok (.ireturn, 1) := dk_172 (dk_at dksX4_years_6 0 rfl rfl)
abbrev cX4_happens : ByteArray := prog_12_method_113_code
def yX4_happens : MethodName := ⟨RX4, "happens", "()V"⟩
def dkwX4_happens_4 : List UInt8 := [164, 0, 7, 29, 167, 0, 4, 2, 182, 1, 113, 177]
abbrev dktX4_happens_4 : List UInt8 := dkwX4_happens_4 ++ []
def dkwX4_happens_3 : List UInt8 := [182, 1, 119, 27, 5, 159, 0, 4, 177, 42, 42, 180, 1, 13, 182, 1, 166, 62, 42, 16, 64, 28, 29, 28]
abbrev dktX4_happens_3 : List UInt8 := dkwX4_happens_3 ++ dktX4_happens_4
def dkwX4_happens_2 : List UInt8 := [16, 119, 28, 96, 46, 100, 79, 27, 4, 160, 0, 18, 42, 16, 64, 28, 42, 16, 30, 182, 1, 166, 4, 96]
abbrev dktX4_happens_2 : List UInt8 := dkwX4_happens_2 ++ dktX4_happens_3
def dkwX4_happens_1 : List UInt8 := [180, 1, 13, 182, 1, 166, 61, 27, 154, 0, 23, 42, 180, 0, 51, 16, 119, 28, 96, 4, 42, 180, 0, 51]
abbrev dktX4_happens_1 : List UInt8 := dkwX4_happens_1 ++ dktX4_happens_2
def dkwX4_happens_0 : List UInt8 := [42, 16, 6, 182, 1, 166, 60, 27, 5, 163, 0, 10, 42, 180, 1, 13, 154, 0, 4, 177, 42, 42]
abbrev dktX4_happens_0 : List UInt8 := dkwX4_happens_0 ++ dktX4_happens_1
theorem dksX4_happens_0 : cX4_happens.data.toList.drop 0 = dktX4_happens_0 := by decide +kernel
theorem dksX4_happens_1 : cX4_happens.data.toList.drop 22 = dktX4_happens_1 := dk_seg dksX4_happens_0 22 rfl rfl
theorem dksX4_happens_2 : cX4_happens.data.toList.drop 46 = dktX4_happens_2 := dk_seg dksX4_happens_1 24 rfl rfl
theorem dksX4_happens_3 : cX4_happens.data.toList.drop 70 = dktX4_happens_3 := dk_seg dksX4_happens_2 24 rfl rfl
theorem dksX4_happens_4 : cX4_happens.data.toList.drop 94 = dktX4_happens_4 := dk_seg dksX4_happens_3 24 rfl rfl
theorem dX4_happens_0 : decode cX4_happens 0 = .ok (.aload_n 0, 1) := dk_42 (dk_at dksX4_happens_0 0 rfl rfl)
theorem dX4_happens_1 : decode cX4_happens 1 = .ok (.bipush 6, 2) := dk_16 6 (dk_at dksX4_happens_0 1 rfl rfl)
theorem dX4_happens_3 : decode cX4_happens 3 = .ok (.invokevirtual 422, 3) := dk_182 1 166 (dk_at dksX4_happens_0 3 rfl rfl)
theorem dX4_happens_6 : decode cX4_happens 6 = .ok (.istore_n 1, 1) := dk_60 (dk_at dksX4_happens_0 6 rfl rfl)
theorem dX4_happens_7 : decode cX4_happens 7 = .ok (.iload_n 1, 1) := dk_27 (dk_at dksX4_happens_0 7 rfl rfl)
theorem dX4_happens_8 : decode cX4_happens 8 = .ok (.iconst 2, 1) := dk_5 (dk_at dksX4_happens_0 8 rfl rfl)
theorem dX4_happens_9 : decode cX4_happens 9 = .ok (.if_icmp .gt 10, 3) := dk_163 0 10 (dk_at dksX4_happens_0 9 rfl rfl)
theorem dX4_happens_12 : decode cX4_happens 12 = .ok (.aload_n 0, 1) := dk_42 (dk_at dksX4_happens_0 12 rfl rfl)
theorem dX4_happens_13 : decode cX4_happens 13 = .ok (.getfield 269, 3) := dk_180 1 13 (dk_at dksX4_happens_0 13 rfl rfl)
theorem dX4_happens_16 : decode cX4_happens 16 = .ok (.ifCond .ne 4, 3) := dk_154 0 4 (dk_at dksX4_happens_0 16 rfl rfl)
theorem dX4_happens_19 : decode cX4_happens 19 = .ok (.return_, 1) := dk_177 (dk_at dksX4_happens_0 19 rfl rfl)
theorem dX4_happens_20 : decode cX4_happens 20 = .ok (.aload_n 0, 1) := dk_42 (dk_at dksX4_happens_0 20 rfl rfl)
theorem dX4_happens_21 : decode cX4_happens 21 = .ok (.aload_n 0, 1) := dk_42 (dk_at dksX4_happens_0 21 rfl rfl)
theorem dX4_happens_22 : decode cX4_happens 22 = .ok (.getfield 269, 3) := dk_180 1 13 (dk_at dksX4_happens_1 0 rfl rfl)
theorem dX4_happens_25 : decode cX4_happens 25 = .ok (.invokevirtual 422, 3) := dk_182 1 166 (dk_at dksX4_happens_1 3 rfl rfl)
theorem dX4_happens_28 : decode cX4_happens 28 = .ok (.istore_n 2, 1) := dk_61 (dk_at dksX4_happens_1 6 rfl rfl)
theorem dX4_happens_29 : decode cX4_happens 29 = .ok (.iload_n 1, 1) := dk_27 (dk_at dksX4_happens_1 7 rfl rfl)
theorem dX4_happens_30 : decode cX4_happens 30 = .ok (.ifCond .ne 23, 3) := dk_154 0 23 (dk_at dksX4_happens_1 8 rfl rfl)
theorem dX4_happens_33 : decode cX4_happens 33 = .ok (.aload_n 0, 1) := dk_42 (dk_at dksX4_happens_1 11 rfl rfl)
theorem dX4_happens_34 : decode cX4_happens 34 = .ok (.getfield 51, 3) := dk_180 0 51 (dk_at dksX4_happens_1 12 rfl rfl)
theorem dX4_happens_37 : decode cX4_happens 37 = .ok (.bipush 119, 2) := dk_16 119 (dk_at dksX4_happens_1 15 rfl rfl)
theorem dX4_happens_39 : decode cX4_happens 39 = .ok (.iload_n 2, 1) := dk_28 (dk_at dksX4_happens_1 17 rfl rfl)
theorem dX4_happens_40 : decode cX4_happens 40 = .ok (.iadd, 1) := dk_96 (dk_at dksX4_happens_1 18 rfl rfl)
theorem dX4_happens_41 : decode cX4_happens 41 = .ok (.iconst 1, 1) := dk_4 (dk_at dksX4_happens_1 19 rfl rfl)
theorem dX4_happens_42 : decode cX4_happens 42 = .ok (.aload_n 0, 1) := dk_42 (dk_at dksX4_happens_1 20 rfl rfl)
theorem dX4_happens_43 : decode cX4_happens 43 = .ok (.getfield 51, 3) := dk_180 0 51 (dk_at dksX4_happens_1 21 rfl rfl)
theorem dX4_happens_46 : decode cX4_happens 46 = .ok (.bipush 119, 2) := dk_16 119 (dk_at dksX4_happens_2 0 rfl rfl)
theorem dX4_happens_48 : decode cX4_happens 48 = .ok (.iload_n 2, 1) := dk_28 (dk_at dksX4_happens_2 2 rfl rfl)
theorem dX4_happens_49 : decode cX4_happens 49 = .ok (.iadd, 1) := dk_96 (dk_at dksX4_happens_2 3 rfl rfl)
theorem dX4_happens_50 : decode cX4_happens 50 = .ok (.iaload, 1) := dk_46 (dk_at dksX4_happens_2 4 rfl rfl)
theorem dX4_happens_51 : decode cX4_happens 51 = .ok (.isub, 1) := dk_100 (dk_at dksX4_happens_2 5 rfl rfl)
theorem dX4_happens_52 : decode cX4_happens 52 = .ok (.iastore, 1) := dk_79 (dk_at dksX4_happens_2 6 rfl rfl)
theorem dX4_happens_53 : decode cX4_happens 53 = .ok (.iload_n 1, 1) := dk_27 (dk_at dksX4_happens_2 7 rfl rfl)
theorem dX4_happens_54 : decode cX4_happens 54 = .ok (.iconst 1, 1) := dk_4 (dk_at dksX4_happens_2 8 rfl rfl)
theorem dX4_happens_55 : decode cX4_happens 55 = .ok (.if_icmp .ne 18, 3) := dk_160 0 18 (dk_at dksX4_happens_2 9 rfl rfl)
theorem dX4_happens_58 : decode cX4_happens 58 = .ok (.aload_n 0, 1) := dk_42 (dk_at dksX4_happens_2 12 rfl rfl)
theorem dX4_happens_59 : decode cX4_happens 59 = .ok (.bipush 64, 2) := dk_16 64 (dk_at dksX4_happens_2 13 rfl rfl)
theorem dX4_happens_61 : decode cX4_happens 61 = .ok (.iload_n 2, 1) := dk_28 (dk_at dksX4_happens_2 15 rfl rfl)
theorem dX4_happens_62 : decode cX4_happens 62 = .ok (.aload_n 0, 1) := dk_42 (dk_at dksX4_happens_2 16 rfl rfl)
theorem dX4_happens_63 : decode cX4_happens 63 = .ok (.bipush 30, 2) := dk_16 30 (dk_at dksX4_happens_2 17 rfl rfl)
theorem dX4_happens_65 : decode cX4_happens 65 = .ok (.invokevirtual 422, 3) := dk_182 1 166 (dk_at dksX4_happens_2 19 rfl rfl)
theorem dX4_happens_68 : decode cX4_happens 68 = .ok (.iconst 1, 1) := dk_4 (dk_at dksX4_happens_2 22 rfl rfl)
theorem dX4_happens_69 : decode cX4_happens 69 = .ok (.iadd, 1) := dk_96 (dk_at dksX4_happens_2 23 rfl rfl)
theorem dX4_happens_70 : decode cX4_happens 70 = .ok (.invokevirtual 375, 3) := dk_182 1 119 (dk_at dksX4_happens_3 0 rfl rfl)
theorem dX4_happens_73 : decode cX4_happens 73 = .ok (.iload_n 1, 1) := dk_27 (dk_at dksX4_happens_3 3 rfl rfl)
theorem dX4_happens_74 : decode cX4_happens 74 = .ok (.iconst 2, 1) := dk_5 (dk_at dksX4_happens_3 4 rfl rfl)
theorem dX4_happens_75 : decode cX4_happens 75 = .ok (.if_icmp .eq 4, 3) := dk_159 0 4 (dk_at dksX4_happens_3 5 rfl rfl)
theorem dX4_happens_78 : decode cX4_happens 78 = .ok (.return_, 1) := dk_177 (dk_at dksX4_happens_3 8 rfl rfl)
theorem dX4_happens_79 : decode cX4_happens 79 = .ok (.aload_n 0, 1) := dk_42 (dk_at dksX4_happens_3 9 rfl rfl)
theorem dX4_happens_80 : decode cX4_happens 80 = .ok (.aload_n 0, 1) := dk_42 (dk_at dksX4_happens_3 10 rfl rfl)
theorem dX4_happens_81 : decode cX4_happens 81 = .ok (.getfield 269, 3) := dk_180 1 13 (dk_at dksX4_happens_3 11 rfl rfl)
theorem dX4_happens_84 : decode cX4_happens 84 = .ok (.invokevirtual 422, 3) := dk_182 1 166 (dk_at dksX4_happens_3 14 rfl rfl)
theorem dX4_happens_87 : decode cX4_happens 87 = .ok (.istore_n 3, 1) := dk_62 (dk_at dksX4_happens_3 17 rfl rfl)
theorem dX4_happens_88 : decode cX4_happens 88 = .ok (.aload_n 0, 1) := dk_42 (dk_at dksX4_happens_3 18 rfl rfl)
theorem dX4_happens_89 : decode cX4_happens 89 = .ok (.bipush 64, 2) := dk_16 64 (dk_at dksX4_happens_3 19 rfl rfl)
theorem dX4_happens_91 : decode cX4_happens 91 = .ok (.iload_n 2, 1) := dk_28 (dk_at dksX4_happens_3 21 rfl rfl)
theorem dX4_happens_92 : decode cX4_happens 92 = .ok (.iload_n 3, 1) := dk_29 (dk_at dksX4_happens_3 22 rfl rfl)
theorem dX4_happens_93 : decode cX4_happens 93 = .ok (.iload_n 2, 1) := dk_28 (dk_at dksX4_happens_3 23 rfl rfl)
theorem dX4_happens_94 : decode cX4_happens 94 = .ok (.if_icmp .le 7, 3) := dk_164 0 7 (dk_at dksX4_happens_4 0 rfl rfl)
theorem dX4_happens_97 : decode cX4_happens 97 = .ok (.iload_n 3, 1) := dk_29 (dk_at dksX4_happens_4 3 rfl rfl)
theorem dX4_happens_98 : decode cX4_happens 98 = .ok (.goto 4, 3) := dk_167 0 4 (dk_at dksX4_happens_4 4 rfl rfl)
theorem dX4_happens_101 : decode cX4_happens 101 = .ok (.iconst (-1), 1) := dk_2 (dk_at dksX4_happens_4 7 rfl rfl)
theorem dX4_happens_102 : decode cX4_happens 102 = .ok (.invokevirtual 369, 3) := dk_182 1 113 (dk_at dksX4_happens_4 8 rfl rfl)
theorem dX4_happens_105 : decode cX4_happens 105 = .ok (.return_, 1) := dk_177 (dk_at dksX4_happens_4 11 rfl rfl)
abbrev cX4_draw : ByteArray := prog_12_method_112_code
def yX4_draw : MethodName := ⟨RX4, "draw", "(I)I"⟩
def dkwX4_draw_1 : List UInt8 := [17, 127, 255, 126, 27, 112, 172]
abbrev dktX4_draw_1 : List UInt8 := dkwX4_draw_1 ++ []
def dkwX4_draw_0 : List UInt8 := [42, 42, 180, 1, 162, 19, 1, 165, 104, 17, 48, 57, 96, 181, 1, 162, 42, 180, 1, 162, 16, 16, 122]
abbrev dktX4_draw_0 : List UInt8 := dkwX4_draw_0 ++ dktX4_draw_1
theorem dksX4_draw_0 : cX4_draw.data.toList.drop 0 = dktX4_draw_0 := by decide +kernel
theorem dksX4_draw_1 : cX4_draw.data.toList.drop 23 = dktX4_draw_1 := dk_seg dksX4_draw_0 23 rfl rfl
theorem dX4_draw_0 : decode cX4_draw 0 = .ok (.aload_n 0, 1) := dk_42 (dk_at dksX4_draw_0 0 rfl rfl)
theorem dX4_draw_1 : decode cX4_draw 1 = .ok (.aload_n 0, 1) := dk_42 (dk_at dksX4_draw_0 1 rfl rfl)
theorem dX4_draw_2 : decode cX4_draw 2 = .ok (.getfield 418, 3) := dk_180 1 162 (dk_at dksX4_draw_0 2 rfl rfl)
theorem dX4_draw_5 : decode cX4_draw 5 = .ok (.ldc_w 421, 3) := dk_19 1 165 (dk_at dksX4_draw_0 5 rfl rfl)
theorem dX4_draw_8 : decode cX4_draw 8 = .ok (.imul, 1) := dk_104 (dk_at dksX4_draw_0 8 rfl rfl)
theorem dX4_draw_9 : decode cX4_draw 9 = .ok (.sipush 12345, 3) := dk_17 48 57 (dk_at dksX4_draw_0 9 rfl rfl)
theorem dX4_draw_12 : decode cX4_draw 12 = .ok (.iadd, 1) := dk_96 (dk_at dksX4_draw_0 12 rfl rfl)
theorem dX4_draw_13 : decode cX4_draw 13 = .ok (.putfield 418, 3) := dk_181 1 162 (dk_at dksX4_draw_0 13 rfl rfl)
theorem dX4_draw_16 : decode cX4_draw 16 = .ok (.aload_n 0, 1) := dk_42 (dk_at dksX4_draw_0 16 rfl rfl)
theorem dX4_draw_17 : decode cX4_draw 17 = .ok (.getfield 418, 3) := dk_180 1 162 (dk_at dksX4_draw_0 17 rfl rfl)
theorem dX4_draw_20 : decode cX4_draw 20 = .ok (.bipush 16, 2) := dk_16 16 (dk_at dksX4_draw_0 20 rfl rfl)
theorem dX4_draw_22 : decode cX4_draw 22 = .ok (.ishr, 1) := dk_122 (dk_at dksX4_draw_0 22 rfl rfl)
theorem dX4_draw_23 : decode cX4_draw 23 = .ok (.sipush 32767, 3) := dk_17 127 255 (dk_at dksX4_draw_1 0 rfl rfl)
theorem dX4_draw_26 : decode cX4_draw 26 = .ok (.iand, 1) := dk_126 (dk_at dksX4_draw_1 3 rfl rfl)
theorem dX4_draw_27 : decode cX4_draw 27 = .ok (.iload_n 1, 1) := dk_27 (dk_at dksX4_draw_1 4 rfl rfl)
theorem dX4_draw_28 : decode cX4_draw 28 = .ok (.irem, 1) := dk_112 (dk_at dksX4_draw_1 5 rfl rfl)
theorem dX4_draw_29 : decode cX4_draw 29 = .ok (.ireturn, 1) := dk_172 (dk_at dksX4_draw_1 6 rfl rfl)
abbrev cX4_image : ByteArray := prog_12_method_115_code
def yX4_image : MethodName := ⟨RX4, "image", "()V"⟩
def dkwX4_image_3 : List UInt8 := [180, 0, 111, 182, 1, 16, 177]
abbrev dktX4_image_3 : List UInt8 := dkwX4_image_3 ++ []
def dkwX4_image_2 : List UInt8 := [132, 1, 1, 167, 255, 235, 42, 42, 180, 0, 54, 42, 180, 0, 108, 182, 1, 16, 42, 42, 180, 0, 96, 42]
abbrev dktX4_image_2 : List UInt8 := dkwX4_image_2 ++ dktX4_image_3
def dkwX4_image_1 : List UInt8 := [181, 1, 175, 3, 60, 27, 16, 64, 162, 0, 21, 42, 180, 0, 105, 27, 42, 180, 0, 51, 27, 46, 79]
abbrev dktX4_image_1 : List UInt8 := dkwX4_image_1 ++ dktX4_image_2
def dkwX4_image_0 : List UInt8 := [42, 3, 181, 0, 114, 42, 4, 181, 1, 26, 42, 42, 180, 1, 20, 181, 1, 172, 42, 42, 180, 1, 23]
abbrev dktX4_image_0 : List UInt8 := dkwX4_image_0 ++ dktX4_image_1
theorem dksX4_image_0 : cX4_image.data.toList.drop 0 = dktX4_image_0 := by decide +kernel
theorem dksX4_image_1 : cX4_image.data.toList.drop 23 = dktX4_image_1 := dk_seg dksX4_image_0 23 rfl rfl
theorem dksX4_image_2 : cX4_image.data.toList.drop 46 = dktX4_image_2 := dk_seg dksX4_image_1 23 rfl rfl
theorem dksX4_image_3 : cX4_image.data.toList.drop 70 = dktX4_image_3 := dk_seg dksX4_image_2 24 rfl rfl
theorem dX4_image_0 : decode cX4_image 0 = .ok (.aload_n 0, 1) := dk_42 (dk_at dksX4_image_0 0 rfl rfl)
theorem dX4_image_1 : decode cX4_image 1 = .ok (.iconst 0, 1) := dk_3 (dk_at dksX4_image_0 1 rfl rfl)
theorem dX4_image_2 : decode cX4_image 2 = .ok (.putfield 114, 3) := dk_181 0 114 (dk_at dksX4_image_0 2 rfl rfl)
theorem dX4_image_5 : decode cX4_image 5 = .ok (.aload_n 0, 1) := dk_42 (dk_at dksX4_image_0 5 rfl rfl)
theorem dX4_image_6 : decode cX4_image 6 = .ok (.iconst 1, 1) := dk_4 (dk_at dksX4_image_0 6 rfl rfl)
theorem dX4_image_7 : decode cX4_image 7 = .ok (.putfield 282, 3) := dk_181 1 26 (dk_at dksX4_image_0 7 rfl rfl)
theorem dX4_image_10 : decode cX4_image 10 = .ok (.aload_n 0, 1) := dk_42 (dk_at dksX4_image_0 10 rfl rfl)
theorem dX4_image_11 : decode cX4_image 11 = .ok (.aload_n 0, 1) := dk_42 (dk_at dksX4_image_0 11 rfl rfl)
theorem dX4_image_12 : decode cX4_image 12 = .ok (.getfield 276, 3) := dk_180 1 20 (dk_at dksX4_image_0 12 rfl rfl)
theorem dX4_image_15 : decode cX4_image 15 = .ok (.putfield 428, 3) := dk_181 1 172 (dk_at dksX4_image_0 15 rfl rfl)
theorem dX4_image_18 : decode cX4_image 18 = .ok (.aload_n 0, 1) := dk_42 (dk_at dksX4_image_0 18 rfl rfl)
theorem dX4_image_19 : decode cX4_image 19 = .ok (.aload_n 0, 1) := dk_42 (dk_at dksX4_image_0 19 rfl rfl)
theorem dX4_image_20 : decode cX4_image 20 = .ok (.getfield 279, 3) := dk_180 1 23 (dk_at dksX4_image_0 20 rfl rfl)
theorem dX4_image_23 : decode cX4_image 23 = .ok (.putfield 431, 3) := dk_181 1 175 (dk_at dksX4_image_1 0 rfl rfl)
theorem dX4_image_26 : decode cX4_image 26 = .ok (.iconst 0, 1) := dk_3 (dk_at dksX4_image_1 3 rfl rfl)
theorem dX4_image_27 : decode cX4_image 27 = .ok (.istore_n 1, 1) := dk_60 (dk_at dksX4_image_1 4 rfl rfl)
theorem dX4_image_28 : decode cX4_image 28 = .ok (.iload_n 1, 1) := dk_27 (dk_at dksX4_image_1 5 rfl rfl)
theorem dX4_image_29 : decode cX4_image 29 = .ok (.bipush 64, 2) := dk_16 64 (dk_at dksX4_image_1 6 rfl rfl)
theorem dX4_image_31 : decode cX4_image 31 = .ok (.if_icmp .ge 21, 3) := dk_162 0 21 (dk_at dksX4_image_1 8 rfl rfl)
theorem dX4_image_34 : decode cX4_image 34 = .ok (.aload_n 0, 1) := dk_42 (dk_at dksX4_image_1 11 rfl rfl)
theorem dX4_image_35 : decode cX4_image 35 = .ok (.getfield 105, 3) := dk_180 0 105 (dk_at dksX4_image_1 12 rfl rfl)
theorem dX4_image_38 : decode cX4_image 38 = .ok (.iload_n 1, 1) := dk_27 (dk_at dksX4_image_1 15 rfl rfl)
theorem dX4_image_39 : decode cX4_image 39 = .ok (.aload_n 0, 1) := dk_42 (dk_at dksX4_image_1 16 rfl rfl)
theorem dX4_image_40 : decode cX4_image 40 = .ok (.getfield 51, 3) := dk_180 0 51 (dk_at dksX4_image_1 17 rfl rfl)
theorem dX4_image_43 : decode cX4_image 43 = .ok (.iload_n 1, 1) := dk_27 (dk_at dksX4_image_1 20 rfl rfl)
theorem dX4_image_44 : decode cX4_image 44 = .ok (.iaload, 1) := dk_46 (dk_at dksX4_image_1 21 rfl rfl)
theorem dX4_image_45 : decode cX4_image 45 = .ok (.iastore, 1) := dk_79 (dk_at dksX4_image_1 22 rfl rfl)
theorem dX4_image_46 : decode cX4_image 46 = .ok (.iinc 1 1, 3) := dk_132 1 1 (dk_at dksX4_image_2 0 rfl rfl)
theorem dX4_image_49 : decode cX4_image 49 = .ok (.goto (-21), 3) := dk_167 255 235 (dk_at dksX4_image_2 3 rfl rfl)
theorem dX4_image_52 : decode cX4_image 52 = .ok (.aload_n 0, 1) := dk_42 (dk_at dksX4_image_2 6 rfl rfl)
theorem dX4_image_53 : decode cX4_image 53 = .ok (.aload_n 0, 1) := dk_42 (dk_at dksX4_image_2 7 rfl rfl)
theorem dX4_image_54 : decode cX4_image 54 = .ok (.getfield 54, 3) := dk_180 0 54 (dk_at dksX4_image_2 8 rfl rfl)
theorem dX4_image_57 : decode cX4_image 57 = .ok (.aload_n 0, 1) := dk_42 (dk_at dksX4_image_2 11 rfl rfl)
theorem dX4_image_58 : decode cX4_image 58 = .ok (.getfield 108, 3) := dk_180 0 108 (dk_at dksX4_image_2 12 rfl rfl)
theorem dX4_image_61 : decode cX4_image 61 = .ok (.invokevirtual 272, 3) := dk_182 1 16 (dk_at dksX4_image_2 15 rfl rfl)
theorem dX4_image_64 : decode cX4_image 64 = .ok (.aload_n 0, 1) := dk_42 (dk_at dksX4_image_2 18 rfl rfl)
theorem dX4_image_65 : decode cX4_image 65 = .ok (.aload_n 0, 1) := dk_42 (dk_at dksX4_image_2 19 rfl rfl)
theorem dX4_image_66 : decode cX4_image 66 = .ok (.getfield 96, 3) := dk_180 0 96 (dk_at dksX4_image_2 20 rfl rfl)
theorem dX4_image_69 : decode cX4_image 69 = .ok (.aload_n 0, 1) := dk_42 (dk_at dksX4_image_2 23 rfl rfl)
theorem dX4_image_70 : decode cX4_image 70 = .ok (.getfield 111, 3) := dk_180 0 111 (dk_at dksX4_image_3 0 rfl rfl)
theorem dX4_image_73 : decode cX4_image 73 = .ok (.invokevirtual 272, 3) := dk_182 1 16 (dk_at dksX4_image_3 3 rfl rfl)
theorem dX4_image_76 : decode cX4_image 76 = .ok (.return_, 1) := dk_177 (dk_at dksX4_image_3 6 rfl rfl)
abbrev cX4_restore : ByteArray := prog_12_method_116_code
def yX4_restore : MethodName := ⟨RX4, "restore", "()Z"⟩
def dkwX4_restore_3 : List UInt8 := [180, 0, 111, 42, 180, 0, 96, 182, 1, 16, 4, 172]
abbrev dktX4_restore_3 : List UInt8 := dkwX4_restore_3 ++ []
def dkwX4_restore_2 : List UInt8 := [46, 79, 132, 1, 1, 167, 255, 235, 42, 42, 180, 0, 108, 42, 180, 0, 54, 182, 1, 16, 42, 42]
abbrev dktX4_restore_2 : List UInt8 := dkwX4_restore_2 ++ dktX4_restore_3
def dkwX4_restore_1 : List UInt8 := [180, 1, 175, 181, 1, 23, 3, 60, 27, 16, 64, 162, 0, 21, 42, 180, 0, 51, 27, 42, 180, 0, 105, 27]
abbrev dktX4_restore_1 : List UInt8 := dkwX4_restore_1 ++ dktX4_restore_2
def dkwX4_restore_0 : List UInt8 := [42, 3, 181, 0, 114, 42, 180, 1, 26, 154, 0, 5, 3, 172, 42, 42, 180, 1, 172, 181, 1, 20, 42, 42]
abbrev dktX4_restore_0 : List UInt8 := dkwX4_restore_0 ++ dktX4_restore_1
theorem dksX4_restore_0 : cX4_restore.data.toList.drop 0 = dktX4_restore_0 := by decide +kernel
theorem dksX4_restore_1 : cX4_restore.data.toList.drop 24 = dktX4_restore_1 := dk_seg dksX4_restore_0 24 rfl rfl
theorem dksX4_restore_2 : cX4_restore.data.toList.drop 48 = dktX4_restore_2 := dk_seg dksX4_restore_1 24 rfl rfl
theorem dksX4_restore_3 : cX4_restore.data.toList.drop 70 = dktX4_restore_3 := dk_seg dksX4_restore_2 22 rfl rfl
theorem dX4_restore_0 : decode cX4_restore 0 = .ok (.aload_n 0, 1) := dk_42 (dk_at dksX4_restore_0 0 rfl rfl)
theorem dX4_restore_1 : decode cX4_restore 1 = .ok (.iconst 0, 1) := dk_3 (dk_at dksX4_restore_0 1 rfl rfl)
theorem dX4_restore_2 : decode cX4_restore 2 = .ok (.putfield 114, 3) := dk_181 0 114 (dk_at dksX4_restore_0 2 rfl rfl)
theorem dX4_restore_5 : decode cX4_restore 5 = .ok (.aload_n 0, 1) := dk_42 (dk_at dksX4_restore_0 5 rfl rfl)
theorem dX4_restore_6 : decode cX4_restore 6 = .ok (.getfield 282, 3) := dk_180 1 26 (dk_at dksX4_restore_0 6 rfl rfl)
theorem dX4_restore_9 : decode cX4_restore 9 = .ok (.ifCond .ne 5, 3) := dk_154 0 5 (dk_at dksX4_restore_0 9 rfl rfl)
theorem dX4_restore_12 : decode cX4_restore 12 = .ok (.iconst 0, 1) := dk_3 (dk_at dksX4_restore_0 12 rfl rfl)
theorem dX4_restore_13 : decode cX4_restore 13 = .ok (.ireturn, 1) := dk_172 (dk_at dksX4_restore_0 13 rfl rfl)
theorem dX4_restore_14 : decode cX4_restore 14 = .ok (.aload_n 0, 1) := dk_42 (dk_at dksX4_restore_0 14 rfl rfl)
theorem dX4_restore_15 : decode cX4_restore 15 = .ok (.aload_n 0, 1) := dk_42 (dk_at dksX4_restore_0 15 rfl rfl)
theorem dX4_restore_16 : decode cX4_restore 16 = .ok (.getfield 428, 3) := dk_180 1 172 (dk_at dksX4_restore_0 16 rfl rfl)
theorem dX4_restore_19 : decode cX4_restore 19 = .ok (.putfield 276, 3) := dk_181 1 20 (dk_at dksX4_restore_0 19 rfl rfl)
theorem dX4_restore_22 : decode cX4_restore 22 = .ok (.aload_n 0, 1) := dk_42 (dk_at dksX4_restore_0 22 rfl rfl)
theorem dX4_restore_23 : decode cX4_restore 23 = .ok (.aload_n 0, 1) := dk_42 (dk_at dksX4_restore_0 23 rfl rfl)
theorem dX4_restore_24 : decode cX4_restore 24 = .ok (.getfield 431, 3) := dk_180 1 175 (dk_at dksX4_restore_1 0 rfl rfl)
theorem dX4_restore_27 : decode cX4_restore 27 = .ok (.putfield 279, 3) := dk_181 1 23 (dk_at dksX4_restore_1 3 rfl rfl)
theorem dX4_restore_30 : decode cX4_restore 30 = .ok (.iconst 0, 1) := dk_3 (dk_at dksX4_restore_1 6 rfl rfl)
theorem dX4_restore_31 : decode cX4_restore 31 = .ok (.istore_n 1, 1) := dk_60 (dk_at dksX4_restore_1 7 rfl rfl)
theorem dX4_restore_32 : decode cX4_restore 32 = .ok (.iload_n 1, 1) := dk_27 (dk_at dksX4_restore_1 8 rfl rfl)
theorem dX4_restore_33 : decode cX4_restore 33 = .ok (.bipush 64, 2) := dk_16 64 (dk_at dksX4_restore_1 9 rfl rfl)
theorem dX4_restore_35 : decode cX4_restore 35 = .ok (.if_icmp .ge 21, 3) := dk_162 0 21 (dk_at dksX4_restore_1 11 rfl rfl)
theorem dX4_restore_38 : decode cX4_restore 38 = .ok (.aload_n 0, 1) := dk_42 (dk_at dksX4_restore_1 14 rfl rfl)
theorem dX4_restore_39 : decode cX4_restore 39 = .ok (.getfield 51, 3) := dk_180 0 51 (dk_at dksX4_restore_1 15 rfl rfl)
theorem dX4_restore_42 : decode cX4_restore 42 = .ok (.iload_n 1, 1) := dk_27 (dk_at dksX4_restore_1 18 rfl rfl)
theorem dX4_restore_43 : decode cX4_restore 43 = .ok (.aload_n 0, 1) := dk_42 (dk_at dksX4_restore_1 19 rfl rfl)
theorem dX4_restore_44 : decode cX4_restore 44 = .ok (.getfield 105, 3) := dk_180 0 105 (dk_at dksX4_restore_1 20 rfl rfl)
theorem dX4_restore_47 : decode cX4_restore 47 = .ok (.iload_n 1, 1) := dk_27 (dk_at dksX4_restore_1 23 rfl rfl)
theorem dX4_restore_48 : decode cX4_restore 48 = .ok (.iaload, 1) := dk_46 (dk_at dksX4_restore_2 0 rfl rfl)
theorem dX4_restore_49 : decode cX4_restore 49 = .ok (.iastore, 1) := dk_79 (dk_at dksX4_restore_2 1 rfl rfl)
theorem dX4_restore_50 : decode cX4_restore 50 = .ok (.iinc 1 1, 3) := dk_132 1 1 (dk_at dksX4_restore_2 2 rfl rfl)
theorem dX4_restore_53 : decode cX4_restore 53 = .ok (.goto (-21), 3) := dk_167 255 235 (dk_at dksX4_restore_2 5 rfl rfl)
theorem dX4_restore_56 : decode cX4_restore 56 = .ok (.aload_n 0, 1) := dk_42 (dk_at dksX4_restore_2 8 rfl rfl)
theorem dX4_restore_57 : decode cX4_restore 57 = .ok (.aload_n 0, 1) := dk_42 (dk_at dksX4_restore_2 9 rfl rfl)
theorem dX4_restore_58 : decode cX4_restore 58 = .ok (.getfield 108, 3) := dk_180 0 108 (dk_at dksX4_restore_2 10 rfl rfl)
theorem dX4_restore_61 : decode cX4_restore 61 = .ok (.aload_n 0, 1) := dk_42 (dk_at dksX4_restore_2 13 rfl rfl)
theorem dX4_restore_62 : decode cX4_restore 62 = .ok (.getfield 54, 3) := dk_180 0 54 (dk_at dksX4_restore_2 14 rfl rfl)
theorem dX4_restore_65 : decode cX4_restore 65 = .ok (.invokevirtual 272, 3) := dk_182 1 16 (dk_at dksX4_restore_2 17 rfl rfl)
theorem dX4_restore_68 : decode cX4_restore 68 = .ok (.aload_n 0, 1) := dk_42 (dk_at dksX4_restore_2 20 rfl rfl)
theorem dX4_restore_69 : decode cX4_restore 69 = .ok (.aload_n 0, 1) := dk_42 (dk_at dksX4_restore_2 21 rfl rfl)
theorem dX4_restore_70 : decode cX4_restore 70 = .ok (.getfield 111, 3) := dk_180 0 111 (dk_at dksX4_restore_3 0 rfl rfl)
theorem dX4_restore_73 : decode cX4_restore 73 = .ok (.aload_n 0, 1) := dk_42 (dk_at dksX4_restore_3 3 rfl rfl)
theorem dX4_restore_74 : decode cX4_restore 74 = .ok (.getfield 96, 3) := dk_180 0 96 (dk_at dksX4_restore_3 4 rfl rfl)
theorem dX4_restore_77 : decode cX4_restore 77 = .ok (.invokevirtual 272, 3) := dk_182 1 16 (dk_at dksX4_restore_3 7 rfl rfl)
theorem dX4_restore_80 : decode cX4_restore 80 = .ok (.iconst 1, 1) := dk_4 (dk_at dksX4_restore_3 10 rfl rfl)
theorem dX4_restore_81 : decode cX4_restore 81 = .ok (.ireturn, 1) := dk_172 (dk_at dksX4_restore_3 11 rfl rfl)
theorem q121 : (Jvm.Cond.initialized "DripCupsModel") ∈ lw_all := lw_g (lw_at lw_m1 7 rfl) rfl
theorem q404 : (Jvm.Cond.selects "DripCupsModel" ({ cls := "java/lang/Object", name := "getClass", desc := "()Ljava/lang/Class;" } : Jvm.MethodName) ({ cls := "java/lang/Object", name := "getClass", desc := "()Ljava/lang/Class;" } : Jvm.MethodName)) ∈ lw_all := lw_g (lw_at lw_m2 50 rfl) rfl
theorem q1582 : (Jvm.Cond.instantiable "DripCupsModel" (60 : Nat)) ∈ lw_all := lw_g (lw_at lw_m7 28 rfl) rfl
theorem q1584 : (Jvm.Cond.instanceMethod ({ cls := "DripCupsModel", name := "<init>", desc := "()V" } : Jvm.MethodName)) ∈ lw_all := lw_g (lw_at lw_m7 30 rfl) rfl
theorem q1585 : (Jvm.Cond.code ({ cls := "DripCupsModel", name := "<init>", desc := "()V" } : Jvm.MethodName) prog_12_method_1_code (1 : Nat) (Option.none : Option Jvm.ClassFile.FieldType)) ∈ lw_all := lw_g (lw_at lw_m7 31 rfl) rfl
theorem q1586 : (Jvm.Cond.methodLink "DripCupsModel" (1 : Nat) ({ cls := "java/lang/Object", name := "<init>", desc := "()V" } : Jvm.MethodName)) ∈ lw_all := lw_g (lw_at lw_m7 32 rfl) rfl
theorem q1587 : (Jvm.Cond.fieldLink "DripCupsModel" (114 : Nat) "DripCupsModel" "thrown" "I") ∈ lw_all := lw_g (lw_at lw_m7 33 rfl) rfl
theorem q1588 : (Jvm.Cond.fieldLink "DripCupsModel" (269 : Nat) "DripCupsModel" "cups" "I") ∈ lw_all := lw_g (lw_at lw_m7 34 rfl) rfl
theorem q1589 : (Jvm.Cond.fieldLink "DripCupsModel" (9 : Nat) "DripCupsModel" "leaksAt" "I") ∈ lw_all := lw_g (lw_at lw_m7 35 rfl) rfl
theorem q1590 : (Jvm.Cond.fieldLink "DripCupsModel" (13 : Nat) "DripCupsModel" "frostAt" "I") ∈ lw_all := lw_g (lw_at lw_m7 36 rfl) rfl
theorem q1591 : (Jvm.Cond.fieldLink "DripCupsModel" (16 : Nat) "DripCupsModel" "spring" "[I") ∈ lw_all := lw_g (lw_at lw_m7 37 rfl) rfl
theorem q1592 : (Jvm.Cond.fieldLink "DripCupsModel" (20 : Nat) "DripCupsModel" "code" "[I") ∈ lw_all := lw_g (lw_at lw_m7 38 rfl) rfl
theorem q1593 : (Jvm.Cond.fieldLink "DripCupsModel" (23 : Nat) "DripCupsModel" "tape" "[I") ∈ lw_all := lw_g (lw_at lw_m7 39 rfl) rfl
theorem q1594 : (Jvm.Cond.fieldLink "DripCupsModel" (117 : Nat) "DripCupsModel" "taped" "I") ∈ lw_all := lw_g (lw_at lw_m7 40 rfl) rfl
theorem q1595 : (Jvm.Cond.fieldLink "DripCupsModel" (170 : Nat) "DripCupsModel" "faultKind" "I") ∈ lw_all := lw_g (lw_at lw_m7 41 rfl) rfl
theorem q1596 : (Jvm.Cond.fieldLink "DripCupsModel" (26 : Nat) "DripCupsModel" "faultPlace" "I") ∈ lw_all := lw_g (lw_at lw_m7 42 rfl) rfl
theorem q1597 : (Jvm.Cond.fieldLink "DripCupsModel" (29 : Nat) "DripCupsModel" "refused" "[I") ∈ lw_all := lw_g (lw_at lw_m7 43 rfl) rfl
theorem q1598 : (Jvm.Cond.fieldLink "DripCupsModel" (124 : Nat) "DripCupsModel" "long1" "I") ∈ lw_all := lw_g (lw_at lw_m7 44 rfl) rfl
theorem q1599 : (Jvm.Cond.fieldLink "DripCupsModel" (127 : Nat) "DripCupsModel" "next0" "I") ∈ lw_all := lw_g (lw_at lw_m7 45 rfl) rfl
theorem q1600 : (Jvm.Cond.fieldLink "DripCupsModel" (147 : Nat) "DripCupsModel" "sort" "I") ∈ lw_all := lw_g (lw_at lw_m7 46 rfl) rfl
theorem q1601 : (Jvm.Cond.fieldLink "DripCupsModel" (134 : Nat) "DripCupsModel" "place" "I") ∈ lw_all := lw_g (lw_at lw_m7 47 rfl) rfl
theorem q1602 : (Jvm.Cond.fieldLink "DripCupsModel" (157 : Nat) "DripCupsModel" "long0" "I") ∈ lw_all := lw_g (lw_at lw_m7 48 rfl) rfl
theorem q1603 : (Jvm.Cond.fieldLink "DripCupsModel" (141 : Nat) "DripCupsModel" "value" "I") ∈ lw_all := lw_g (lw_at lw_m7 49 rfl) rfl
theorem q1604 : (Jvm.Cond.fieldLink "DripCupsModel" (144 : Nat) "DripCupsModel" "sign" "I") ∈ lw_all := lw_g (lw_at lw_m7 50 rfl) rfl
theorem q1605 : (Jvm.Cond.fieldLink "DripCupsModel" (137 : Nat) "DripCupsModel" "word" "J") ∈ lw_all := lw_g (lw_at lw_m7 51 rfl) rfl
theorem q1606 : (Jvm.Cond.fieldLink "DripCupsModel" (183 : Nat) "DripCupsModel" "newCups" "I") ∈ lw_all := lw_g (lw_at lw_m7 52 rfl) rfl
theorem q1607 : (Jvm.Cond.fieldLink "DripCupsModel" (250 : Nat) "DripCupsModel" "newLeaksAt" "I") ∈ lw_all := lw_g (lw_at lw_m7 53 rfl) rfl
theorem q1608 : (Jvm.Cond.fieldLink "DripCupsModel" (256 : Nat) "DripCupsModel" "newFrostAt" "I") ∈ lw_all := lw_g (lw_at lw_m7 54 rfl) rfl
theorem q1609 : (Jvm.Cond.fieldLink "DripCupsModel" (186 : Nat) "DripCupsModel" "top" "I") ∈ lw_all := lw_g (lw_at lw_m7 55 rfl) rfl
theorem q1610 : (Jvm.Cond.fieldLink "DripCupsModel" (189 : Nat) "DripCupsModel" "waiting" "I") ∈ lw_all := lw_g (lw_at lw_m7 56 rfl) rfl
theorem q1611 : (Jvm.Cond.fieldLink "DripCupsModel" (205 : Nat) "DripCupsModel" "depth" "I") ∈ lw_all := lw_g (lw_at lw_m7 57 rfl) rfl
theorem q1612 : (Jvm.Cond.fieldLink "DripCupsModel" (32 : Nat) "DripCupsModel" "newSpring" "[I") ∈ lw_all := lw_g (lw_at lw_m7 58 rfl) rfl
theorem q1613 : (Jvm.Cond.fieldLink "DripCupsModel" (35 : Nat) "DripCupsModel" "newRow" "[I") ∈ lw_all := lw_g (lw_at lw_m7 59 rfl) rfl
theorem q1614 : (Jvm.Cond.fieldLink "DripCupsModel" (38 : Nat) "DripCupsModel" "readCode" "[I") ∈ lw_all := lw_g (lw_at lw_m7 60 rfl) rfl
theorem q1615 : (Jvm.Cond.fieldLink "DripCupsModel" (41 : Nat) "DripCupsModel" "waits" "[I") ∈ lw_all := lw_g (lw_at lw_m7 61 rfl) rfl
theorem q1616 : (Jvm.Cond.fieldLink "DripCupsModel" (44 : Nat) "DripCupsModel" "tested" "[Z") ∈ lw_all := lw_g (lw_at lw_m7 62 rfl) rfl
theorem q1617 : (Jvm.Cond.fieldLink "DripCupsModel" (48 : Nat) "DripCupsModel" "isPiped" "[Z") ∈ lw_all := lw_g (lw_at lw_m7 63 rfl) rfl
theorem q1618 : (Jvm.Cond.fieldLink "DripCupsModel" (51 : Nat) "DripCupsModel" "rows" "[I") ∈ lw_all := lw_g (lw_at lw_m7 64 rfl) rfl
theorem q1619 : (Jvm.Cond.fieldLink "DripCupsModel" (54 : Nat) "DripCupsModel" "ahead" "[I") ∈ lw_all := lw_g (lw_at lw_m7 65 rfl) rfl
theorem q1620 : (Jvm.Cond.fieldLink "DripCupsModel" (276 : Nat) "DripCupsModel" "acts" "I") ∈ lw_all := lw_g (lw_at lw_m7 66 rfl) rfl
theorem q1621 : (Jvm.Cond.fieldLink "DripCupsModel" (57 : Nat) "DripCupsModel" "told" "[I") ∈ lw_all := lw_g (lw_at lw_m7 67 rfl) rfl
theorem q1622 : (Jvm.Cond.fieldLink "DripCupsModel" (60 : Nat) "DripCupsModel" "pile" "[I") ∈ lw_all := lw_g (lw_at lw_m7 68 rfl) rfl
theorem q1623 : (Jvm.Cond.fieldLink "DripCupsModel" (63 : Nat) "DripCupsModel" "comes" "[I") ∈ lw_all := lw_g (lw_at lw_m7 69 rfl) rfl
theorem q1624 : (Jvm.Cond.fieldLink "DripCupsModel" (66 : Nat) "DripCupsModel" "times" "[I") ∈ lw_all := lw_g (lw_at lw_m7 70 rfl) rfl
theorem q1625 : (Jvm.Cond.fieldLink "DripCupsModel" (300 : Nat) "DripCupsModel" "tipped" "I") ∈ lw_all := lw_g (lw_at lw_m7 71 rfl) rfl
theorem q1626 : (Jvm.Cond.fieldLink "DripCupsModel" (293 : Nat) "DripCupsModel" "lost" "I") ∈ lw_all := lw_g (lw_at lw_m7 72 rfl) rfl
theorem q1627 : (Jvm.Cond.fieldLink "DripCupsModel" (69 : Nat) "DripCupsModel" "otherFrost" "I") ∈ lw_all := lw_g (lw_at lw_m7 73 rfl) rfl
theorem q1628 : (Jvm.Cond.fieldLink "DripCupsModel" (72 : Nat) "DripCupsModel" "deepOf" "[I") ∈ lw_all := lw_g (lw_at lw_m7 74 rfl) rfl
theorem q1629 : (Jvm.Cond.fieldLink "DripCupsModel" (75 : Nat) "DripCupsModel" "often" "[I") ∈ lw_all := lw_g (lw_at lw_m7 75 rfl) rfl
theorem q1630 : (Jvm.Cond.fieldLink "DripCupsModel" (78 : Nat) "DripCupsModel" "inflow" "[I") ∈ lw_all := lw_g (lw_at lw_m7 76 rfl) rfl
theorem q1631 : (Jvm.Cond.fieldLink "DripCupsModel" (81 : Nat) "DripCupsModel" "tipsOf" "[I") ∈ lw_all := lw_g (lw_at lw_m7 77 rfl) rfl
theorem q1632 : (Jvm.Cond.fieldLink "DripCupsModel" (84 : Nat) "DripCupsModel" "toFirst" "[I") ∈ lw_all := lw_g (lw_at lw_m7 78 rfl) rfl
theorem q1633 : (Jvm.Cond.fieldLink "DripCupsModel" (87 : Nat) "DripCupsModel" "toSecond" "[I") ∈ lw_all := lw_g (lw_at lw_m7 79 rfl) rfl
theorem q1634 : (Jvm.Cond.fieldLink "DripCupsModel" (90 : Nat) "DripCupsModel" "wereOf" "[I") ∈ lw_all := lw_g (lw_at lw_m7 80 rfl) rfl
theorem q1635 : (Jvm.Cond.fieldLink "DripCupsModel" (93 : Nat) "DripCupsModel" "waysTo" "[I") ∈ lw_all := lw_g (lw_at lw_m7 81 rfl) rfl
theorem q1636 : (Jvm.Cond.fieldLink "DripCupsModel" (279 : Nat) "DripCupsModel" "heardMany" "I") ∈ lw_all := lw_g (lw_at lw_m7 82 rfl) rfl
theorem q1637 : (Jvm.Cond.fieldLink "DripCupsModel" (96 : Nat) "DripCupsModel" "heard" "[I") ∈ lw_all := lw_g (lw_at lw_m7 83 rfl) rfl
theorem q1638 : (Jvm.Cond.fieldLink "DripCupsModel" (99 : Nat) "DripCupsModel" "tippedBy" "[I") ∈ lw_all := lw_g (lw_at lw_m7 84 rfl) rfl
theorem q1639 : (Jvm.Cond.fieldLink "DripCupsModel" (102 : Nat) "DripCupsModel" "kinds" "[I") ∈ lw_all := lw_g (lw_at lw_m7 85 rfl) rfl
theorem q1640 : (Jvm.Cond.fieldLink "DripCupsModel" (418 : Nat) "DripCupsModel" "its0" "I") ∈ lw_all := lw_g (lw_at lw_m7 86 rfl) rfl
theorem q1641 : (Jvm.Cond.fieldLink "DripCupsModel" (282 : Nat) "DripCupsModel" "hasImage" "Z") ∈ lw_all := lw_g (lw_at lw_m7 87 rfl) rfl
theorem q1642 : (Jvm.Cond.fieldLink "DripCupsModel" (428 : Nat) "DripCupsModel" "imageActs" "I") ∈ lw_all := lw_g (lw_at lw_m7 88 rfl) rfl
theorem q1643 : (Jvm.Cond.fieldLink "DripCupsModel" (431 : Nat) "DripCupsModel" "imageHeard" "I") ∈ lw_all := lw_g (lw_at lw_m7 89 rfl) rfl
theorem q1644 : (Jvm.Cond.fieldLink "DripCupsModel" (105 : Nat) "DripCupsModel" "imageRow" "[I") ∈ lw_all := lw_g (lw_at lw_m7 90 rfl) rfl
theorem q1645 : (Jvm.Cond.fieldLink "DripCupsModel" (108 : Nat) "DripCupsModel" "imageAhead" "[I") ∈ lw_all := lw_g (lw_at lw_m7 91 rfl) rfl
theorem q1646 : (Jvm.Cond.fieldLink "DripCupsModel" (111 : Nat) "DripCupsModel" "imageHears" "[I") ∈ lw_all := lw_g (lw_at lw_m7 92 rfl) rfl
theorem q1647 : (Jvm.Cond.lays "DripCupsModel" "DripCupsModel" "thrown" "I") ∈ lw_all := lw_g (lw_at lw_m7 93 rfl) rfl
theorem q1648 : (Jvm.Cond.soleField "DripCupsModel" "thrown") ∈ lw_all := lw_g (lw_at lw_m7 94 rfl) rfl
theorem q1649 : (Jvm.Cond.lays "DripCupsModel" "DripCupsModel" "cups" "I") ∈ lw_all := lw_g (lw_at lw_m7 95 rfl) rfl
theorem q1650 : (Jvm.Cond.soleField "DripCupsModel" "cups") ∈ lw_all := lw_g (lw_at lw_m7 96 rfl) rfl
theorem q1651 : (Jvm.Cond.lays "DripCupsModel" "DripCupsModel" "leaksAt" "I") ∈ lw_all := lw_g (lw_at lw_m7 97 rfl) rfl
theorem q1652 : (Jvm.Cond.soleField "DripCupsModel" "leaksAt") ∈ lw_all := lw_g (lw_at lw_m7 98 rfl) rfl
theorem q1653 : (Jvm.Cond.lays "DripCupsModel" "DripCupsModel" "frostAt" "I") ∈ lw_all := lw_g (lw_at lw_m7 99 rfl) rfl
theorem q1654 : (Jvm.Cond.soleField "DripCupsModel" "frostAt") ∈ lw_all := lw_g (lw_at lw_m7 100 rfl) rfl
theorem q1655 : (Jvm.Cond.laysFinal "DripCupsModel" "DripCupsModel" "spring" "[I") ∈ lw_all := lw_g (lw_at lw_m7 101 rfl) rfl
theorem q1656 : (Jvm.Cond.soleField "DripCupsModel" "spring") ∈ lw_all := lw_g (lw_at lw_m7 102 rfl) rfl
theorem q1657 : (Jvm.Cond.laysFinal "DripCupsModel" "DripCupsModel" "code" "[I") ∈ lw_all := lw_g (lw_at lw_m7 103 rfl) rfl
theorem q1658 : (Jvm.Cond.soleField "DripCupsModel" "code") ∈ lw_all := lw_g (lw_at lw_m7 104 rfl) rfl
theorem q1659 : (Jvm.Cond.laysFinal "DripCupsModel" "DripCupsModel" "tape" "[I") ∈ lw_all := lw_g (lw_at lw_m7 105 rfl) rfl
theorem q1660 : (Jvm.Cond.soleField "DripCupsModel" "tape") ∈ lw_all := lw_g (lw_at lw_m7 106 rfl) rfl
theorem q1661 : (Jvm.Cond.lays "DripCupsModel" "DripCupsModel" "taped" "I") ∈ lw_all := lw_g (lw_at lw_m7 107 rfl) rfl
theorem q1662 : (Jvm.Cond.soleField "DripCupsModel" "taped") ∈ lw_all := lw_g (lw_at lw_m7 108 rfl) rfl
theorem q1663 : (Jvm.Cond.lays "DripCupsModel" "DripCupsModel" "faultKind" "I") ∈ lw_all := lw_g (lw_at lw_m7 109 rfl) rfl
theorem q1664 : (Jvm.Cond.soleField "DripCupsModel" "faultKind") ∈ lw_all := lw_g (lw_at lw_m7 110 rfl) rfl
theorem q1665 : (Jvm.Cond.lays "DripCupsModel" "DripCupsModel" "faultPlace" "I") ∈ lw_all := lw_g (lw_at lw_m7 111 rfl) rfl
theorem q1666 : (Jvm.Cond.soleField "DripCupsModel" "faultPlace") ∈ lw_all := lw_g (lw_at lw_m7 112 rfl) rfl
theorem q1667 : (Jvm.Cond.laysFinal "DripCupsModel" "DripCupsModel" "refused" "[I") ∈ lw_all := lw_g (lw_at lw_m7 113 rfl) rfl
theorem q1668 : (Jvm.Cond.soleField "DripCupsModel" "refused") ∈ lw_all := lw_g (lw_at lw_m7 114 rfl) rfl
theorem q1669 : (Jvm.Cond.lays "DripCupsModel" "DripCupsModel" "long1" "I") ∈ lw_all := lw_g (lw_at lw_m7 115 rfl) rfl
theorem q1670 : (Jvm.Cond.soleField "DripCupsModel" "long1") ∈ lw_all := lw_g (lw_at lw_m7 116 rfl) rfl
theorem q1671 : (Jvm.Cond.lays "DripCupsModel" "DripCupsModel" "next0" "I") ∈ lw_all := lw_g (lw_at lw_m7 117 rfl) rfl
theorem q1672 : (Jvm.Cond.soleField "DripCupsModel" "next0") ∈ lw_all := lw_g (lw_at lw_m7 118 rfl) rfl
theorem q1673 : (Jvm.Cond.lays "DripCupsModel" "DripCupsModel" "sort" "I") ∈ lw_all := lw_g (lw_at lw_m7 119 rfl) rfl
theorem q1674 : (Jvm.Cond.soleField "DripCupsModel" "sort") ∈ lw_all := lw_g (lw_at lw_m7 120 rfl) rfl
theorem q1675 : (Jvm.Cond.lays "DripCupsModel" "DripCupsModel" "place" "I") ∈ lw_all := lw_g (lw_at lw_m7 121 rfl) rfl
theorem q1676 : (Jvm.Cond.soleField "DripCupsModel" "place") ∈ lw_all := lw_g (lw_at lw_m7 122 rfl) rfl
theorem q1677 : (Jvm.Cond.lays "DripCupsModel" "DripCupsModel" "long0" "I") ∈ lw_all := lw_g (lw_at lw_m7 123 rfl) rfl
theorem q1678 : (Jvm.Cond.soleField "DripCupsModel" "long0") ∈ lw_all := lw_g (lw_at lw_m7 124 rfl) rfl
theorem q1679 : (Jvm.Cond.lays "DripCupsModel" "DripCupsModel" "value" "I") ∈ lw_all := lw_g (lw_at lw_m7 125 rfl) rfl
theorem q1680 : (Jvm.Cond.soleField "DripCupsModel" "value") ∈ lw_all := lw_g (lw_at lw_m7 126 rfl) rfl
theorem q1681 : (Jvm.Cond.lays "DripCupsModel" "DripCupsModel" "sign" "I") ∈ lw_all := lw_g (lw_at lw_m7 127 rfl) rfl
theorem q1682 : (Jvm.Cond.soleField "DripCupsModel" "sign") ∈ lw_all := lw_g (lw_at lw_m7 128 rfl) rfl
theorem q1683 : (Jvm.Cond.lays "DripCupsModel" "DripCupsModel" "word" "J") ∈ lw_all := lw_g (lw_at lw_m7 129 rfl) rfl
theorem q1684 : (Jvm.Cond.soleField "DripCupsModel" "word") ∈ lw_all := lw_g (lw_at lw_m7 130 rfl) rfl
theorem q1685 : (Jvm.Cond.lays "DripCupsModel" "DripCupsModel" "newCups" "I") ∈ lw_all := lw_g (lw_at lw_m7 131 rfl) rfl
theorem q1686 : (Jvm.Cond.soleField "DripCupsModel" "newCups") ∈ lw_all := lw_g (lw_at lw_m7 132 rfl) rfl
theorem q1687 : (Jvm.Cond.lays "DripCupsModel" "DripCupsModel" "newLeaksAt" "I") ∈ lw_all := lw_g (lw_at lw_m7 133 rfl) rfl
theorem q1688 : (Jvm.Cond.soleField "DripCupsModel" "newLeaksAt") ∈ lw_all := lw_g (lw_at lw_m7 134 rfl) rfl
theorem q1689 : (Jvm.Cond.lays "DripCupsModel" "DripCupsModel" "newFrostAt" "I") ∈ lw_all := lw_g (lw_at lw_m7 135 rfl) rfl
theorem q1690 : (Jvm.Cond.soleField "DripCupsModel" "newFrostAt") ∈ lw_all := lw_g (lw_at lw_m7 136 rfl) rfl
theorem q1691 : (Jvm.Cond.lays "DripCupsModel" "DripCupsModel" "top" "I") ∈ lw_all := lw_g (lw_at lw_m7 137 rfl) rfl
theorem q1692 : (Jvm.Cond.soleField "DripCupsModel" "top") ∈ lw_all := lw_g (lw_at lw_m7 138 rfl) rfl
theorem q1693 : (Jvm.Cond.lays "DripCupsModel" "DripCupsModel" "waiting" "I") ∈ lw_all := lw_g (lw_at lw_m7 139 rfl) rfl
theorem q1694 : (Jvm.Cond.soleField "DripCupsModel" "waiting") ∈ lw_all := lw_g (lw_at lw_m7 140 rfl) rfl
theorem q1695 : (Jvm.Cond.lays "DripCupsModel" "DripCupsModel" "depth" "I") ∈ lw_all := lw_g (lw_at lw_m7 141 rfl) rfl
theorem q1696 : (Jvm.Cond.soleField "DripCupsModel" "depth") ∈ lw_all := lw_g (lw_at lw_m7 142 rfl) rfl
theorem q1697 : (Jvm.Cond.laysFinal "DripCupsModel" "DripCupsModel" "newSpring" "[I") ∈ lw_all := lw_g (lw_at lw_m7 143 rfl) rfl
theorem q1698 : (Jvm.Cond.soleField "DripCupsModel" "newSpring") ∈ lw_all := lw_g (lw_at lw_m7 144 rfl) rfl
theorem q1699 : (Jvm.Cond.laysFinal "DripCupsModel" "DripCupsModel" "newRow" "[I") ∈ lw_all := lw_g (lw_at lw_m7 145 rfl) rfl
theorem q1700 : (Jvm.Cond.soleField "DripCupsModel" "newRow") ∈ lw_all := lw_g (lw_at lw_m7 146 rfl) rfl
theorem q1701 : (Jvm.Cond.laysFinal "DripCupsModel" "DripCupsModel" "readCode" "[I") ∈ lw_all := lw_g (lw_at lw_m7 147 rfl) rfl
theorem q1702 : (Jvm.Cond.soleField "DripCupsModel" "readCode") ∈ lw_all := lw_g (lw_at lw_m7 148 rfl) rfl
theorem q1703 : (Jvm.Cond.laysFinal "DripCupsModel" "DripCupsModel" "waits" "[I") ∈ lw_all := lw_g (lw_at lw_m7 149 rfl) rfl
theorem q1704 : (Jvm.Cond.soleField "DripCupsModel" "waits") ∈ lw_all := lw_g (lw_at lw_m7 150 rfl) rfl
theorem q1705 : (Jvm.Cond.laysFinal "DripCupsModel" "DripCupsModel" "tested" "[Z") ∈ lw_all := lw_g (lw_at lw_m7 151 rfl) rfl
theorem q1706 : (Jvm.Cond.soleField "DripCupsModel" "tested") ∈ lw_all := lw_g (lw_at lw_m7 152 rfl) rfl
theorem q1707 : (Jvm.Cond.laysFinal "DripCupsModel" "DripCupsModel" "isPiped" "[Z") ∈ lw_all := lw_g (lw_at lw_m7 153 rfl) rfl
theorem q1708 : (Jvm.Cond.soleField "DripCupsModel" "isPiped") ∈ lw_all := lw_g (lw_at lw_m7 154 rfl) rfl
theorem q1709 : (Jvm.Cond.laysFinal "DripCupsModel" "DripCupsModel" "rows" "[I") ∈ lw_all := lw_g (lw_at lw_m7 155 rfl) rfl
theorem q1710 : (Jvm.Cond.soleField "DripCupsModel" "rows") ∈ lw_all := lw_g (lw_at lw_m7 156 rfl) rfl
theorem q1711 : (Jvm.Cond.laysFinal "DripCupsModel" "DripCupsModel" "ahead" "[I") ∈ lw_all := lw_g (lw_at lw_m7 157 rfl) rfl
theorem q1712 : (Jvm.Cond.soleField "DripCupsModel" "ahead") ∈ lw_all := lw_g (lw_at lw_m7 158 rfl) rfl
theorem q1713 : (Jvm.Cond.lays "DripCupsModel" "DripCupsModel" "acts" "I") ∈ lw_all := lw_g (lw_at lw_m7 159 rfl) rfl
theorem q1714 : (Jvm.Cond.soleField "DripCupsModel" "acts") ∈ lw_all := lw_g (lw_at lw_m7 160 rfl) rfl
theorem q1715 : (Jvm.Cond.laysFinal "DripCupsModel" "DripCupsModel" "told" "[I") ∈ lw_all := lw_g (lw_at lw_m7 161 rfl) rfl
theorem q1716 : (Jvm.Cond.soleField "DripCupsModel" "told") ∈ lw_all := lw_g (lw_at lw_m7 162 rfl) rfl
theorem q1717 : (Jvm.Cond.laysFinal "DripCupsModel" "DripCupsModel" "pile" "[I") ∈ lw_all := lw_g (lw_at lw_m7 163 rfl) rfl
theorem q1718 : (Jvm.Cond.soleField "DripCupsModel" "pile") ∈ lw_all := lw_g (lw_at lw_m7 164 rfl) rfl
theorem q1719 : (Jvm.Cond.laysFinal "DripCupsModel" "DripCupsModel" "comes" "[I") ∈ lw_all := lw_g (lw_at lw_m7 165 rfl) rfl
theorem q1720 : (Jvm.Cond.soleField "DripCupsModel" "comes") ∈ lw_all := lw_g (lw_at lw_m7 166 rfl) rfl
theorem q1721 : (Jvm.Cond.laysFinal "DripCupsModel" "DripCupsModel" "times" "[I") ∈ lw_all := lw_g (lw_at lw_m7 167 rfl) rfl
theorem q1722 : (Jvm.Cond.soleField "DripCupsModel" "times") ∈ lw_all := lw_g (lw_at lw_m7 168 rfl) rfl
theorem q1723 : (Jvm.Cond.lays "DripCupsModel" "DripCupsModel" "tipped" "I") ∈ lw_all := lw_g (lw_at lw_m7 169 rfl) rfl
theorem q1724 : (Jvm.Cond.soleField "DripCupsModel" "tipped") ∈ lw_all := lw_g (lw_at lw_m7 170 rfl) rfl
theorem q1725 : (Jvm.Cond.lays "DripCupsModel" "DripCupsModel" "lost" "I") ∈ lw_all := lw_g (lw_at lw_m7 171 rfl) rfl
theorem q1726 : (Jvm.Cond.soleField "DripCupsModel" "lost") ∈ lw_all := lw_g (lw_at lw_m7 172 rfl) rfl
theorem q1727 : (Jvm.Cond.lays "DripCupsModel" "DripCupsModel" "otherFrost" "I") ∈ lw_all := lw_g (lw_at lw_m7 173 rfl) rfl
theorem q1728 : (Jvm.Cond.soleField "DripCupsModel" "otherFrost") ∈ lw_all := lw_g (lw_at lw_m7 174 rfl) rfl
theorem q1729 : (Jvm.Cond.laysFinal "DripCupsModel" "DripCupsModel" "deepOf" "[I") ∈ lw_all := lw_g (lw_at lw_m7 175 rfl) rfl
theorem q1730 : (Jvm.Cond.soleField "DripCupsModel" "deepOf") ∈ lw_all := lw_g (lw_at lw_m7 176 rfl) rfl
theorem q1731 : (Jvm.Cond.laysFinal "DripCupsModel" "DripCupsModel" "often" "[I") ∈ lw_all := lw_g (lw_at lw_m7 177 rfl) rfl
theorem q1732 : (Jvm.Cond.soleField "DripCupsModel" "often") ∈ lw_all := lw_g (lw_at lw_m7 178 rfl) rfl
theorem q1733 : (Jvm.Cond.laysFinal "DripCupsModel" "DripCupsModel" "inflow" "[I") ∈ lw_all := lw_g (lw_at lw_m7 179 rfl) rfl
theorem q1734 : (Jvm.Cond.soleField "DripCupsModel" "inflow") ∈ lw_all := lw_g (lw_at lw_m7 180 rfl) rfl
theorem q1735 : (Jvm.Cond.laysFinal "DripCupsModel" "DripCupsModel" "tipsOf" "[I") ∈ lw_all := lw_g (lw_at lw_m7 181 rfl) rfl
theorem q1736 : (Jvm.Cond.soleField "DripCupsModel" "tipsOf") ∈ lw_all := lw_g (lw_at lw_m7 182 rfl) rfl
theorem q1737 : (Jvm.Cond.laysFinal "DripCupsModel" "DripCupsModel" "toFirst" "[I") ∈ lw_all := lw_g (lw_at lw_m7 183 rfl) rfl
theorem q1738 : (Jvm.Cond.soleField "DripCupsModel" "toFirst") ∈ lw_all := lw_g (lw_at lw_m7 184 rfl) rfl
theorem q1739 : (Jvm.Cond.laysFinal "DripCupsModel" "DripCupsModel" "toSecond" "[I") ∈ lw_all := lw_g (lw_at lw_m7 185 rfl) rfl
theorem q1740 : (Jvm.Cond.soleField "DripCupsModel" "toSecond") ∈ lw_all := lw_g (lw_at lw_m7 186 rfl) rfl
theorem q1741 : (Jvm.Cond.laysFinal "DripCupsModel" "DripCupsModel" "wereOf" "[I") ∈ lw_all := lw_g (lw_at lw_m7 187 rfl) rfl
theorem q1742 : (Jvm.Cond.soleField "DripCupsModel" "wereOf") ∈ lw_all := lw_g (lw_at lw_m7 188 rfl) rfl
theorem q1743 : (Jvm.Cond.laysFinal "DripCupsModel" "DripCupsModel" "waysTo" "[I") ∈ lw_all := lw_g (lw_at lw_m7 189 rfl) rfl
theorem q1744 : (Jvm.Cond.soleField "DripCupsModel" "waysTo") ∈ lw_all := lw_g (lw_at lw_m7 190 rfl) rfl
theorem q1745 : (Jvm.Cond.lays "DripCupsModel" "DripCupsModel" "heardMany" "I") ∈ lw_all := lw_g (lw_at lw_m7 191 rfl) rfl
theorem q1746 : (Jvm.Cond.soleField "DripCupsModel" "heardMany") ∈ lw_all := lw_g (lw_at lw_m7 192 rfl) rfl
theorem q1747 : (Jvm.Cond.laysFinal "DripCupsModel" "DripCupsModel" "heard" "[I") ∈ lw_all := lw_g (lw_at lw_m7 193 rfl) rfl
theorem q1748 : (Jvm.Cond.soleField "DripCupsModel" "heard") ∈ lw_all := lw_g (lw_at lw_m7 194 rfl) rfl
theorem q1749 : (Jvm.Cond.laysFinal "DripCupsModel" "DripCupsModel" "tippedBy" "[I") ∈ lw_all := lw_g (lw_at lw_m7 195 rfl) rfl
theorem q1750 : (Jvm.Cond.soleField "DripCupsModel" "tippedBy") ∈ lw_all := lw_g (lw_at lw_m7 196 rfl) rfl
theorem q1751 : (Jvm.Cond.laysFinal "DripCupsModel" "DripCupsModel" "kinds" "[I") ∈ lw_all := lw_g (lw_at lw_m7 197 rfl) rfl
theorem q1752 : (Jvm.Cond.soleField "DripCupsModel" "kinds") ∈ lw_all := lw_g (lw_at lw_m7 198 rfl) rfl
theorem q1753 : (Jvm.Cond.lays "DripCupsModel" "DripCupsModel" "its0" "I") ∈ lw_all := lw_g (lw_at lw_m7 199 rfl) rfl
theorem q1754 : (Jvm.Cond.soleField "DripCupsModel" "its0") ∈ lw_all := lw_g (lw_at lw_m7 200 rfl) rfl
theorem q1755 : (Jvm.Cond.lays "DripCupsModel" "DripCupsModel" "hasImage" "Z") ∈ lw_all := lw_g (lw_at lw_m7 201 rfl) rfl
theorem q1756 : (Jvm.Cond.soleField "DripCupsModel" "hasImage") ∈ lw_all := lw_g (lw_at lw_m7 202 rfl) rfl
theorem q1757 : (Jvm.Cond.lays "DripCupsModel" "DripCupsModel" "imageActs" "I") ∈ lw_all := lw_g (lw_at lw_m7 203 rfl) rfl
theorem q1758 : (Jvm.Cond.soleField "DripCupsModel" "imageActs") ∈ lw_all := lw_g (lw_at lw_m7 204 rfl) rfl
theorem q1759 : (Jvm.Cond.lays "DripCupsModel" "DripCupsModel" "imageHeard" "I") ∈ lw_all := lw_g (lw_at lw_m7 205 rfl) rfl
theorem q1760 : (Jvm.Cond.soleField "DripCupsModel" "imageHeard") ∈ lw_all := lw_g (lw_at lw_m7 206 rfl) rfl
theorem q1761 : (Jvm.Cond.laysFinal "DripCupsModel" "DripCupsModel" "imageRow" "[I") ∈ lw_all := lw_g (lw_at lw_m7 207 rfl) rfl
theorem q1762 : (Jvm.Cond.soleField "DripCupsModel" "imageRow") ∈ lw_all := lw_g (lw_at lw_m7 208 rfl) rfl
theorem q1763 : (Jvm.Cond.laysFinal "DripCupsModel" "DripCupsModel" "imageAhead" "[I") ∈ lw_all := lw_g (lw_at lw_m7 209 rfl) rfl
theorem q1764 : (Jvm.Cond.soleField "DripCupsModel" "imageAhead") ∈ lw_all := lw_g (lw_at lw_m7 210 rfl) rfl
theorem q1765 : (Jvm.Cond.laysFinal "DripCupsModel" "DripCupsModel" "imageHears" "[I") ∈ lw_all := lw_g (lw_at lw_m7 211 rfl) rfl
theorem q1766 : (Jvm.Cond.soleField "DripCupsModel" "imageHears") ∈ lw_all := lw_g (lw_at lw_m7 212 rfl) rfl
theorem q1767 : (Jvm.Cond.superclass "DripCupsModel" "java/lang/Object") ∈ lw_all := lw_g (lw_at lw_m7 213 rfl) rfl
theorem q1770 : (Jvm.Cond.instanceMethod ({ cls := "DripCupsModel", name := "thrown", desc := "()I" } : Jvm.MethodName)) ∈ lw_all := lw_g (lw_at lw_m7 216 rfl) rfl
theorem q1771 : (Jvm.Cond.selects "DripCupsModel" ({ cls := "DripCupsModel", name := "thrown", desc := "()I" } : Jvm.MethodName) ({ cls := "DripCupsModel", name := "thrown", desc := "()I" } : Jvm.MethodName)) ∈ lw_all := lw_g (lw_at lw_m7 217 rfl) rfl
theorem q1772 : (Jvm.Cond.code ({ cls := "DripCupsModel", name := "thrown", desc := "()I" } : Jvm.MethodName) prog_12_method_2_code (1 : Nat) (Option.some Jvm.ClassFile.FieldType.int)) ∈ lw_all := lw_g (lw_at lw_m7 218 rfl) rfl
theorem q1774 : (Jvm.Cond.instanceMethod ({ cls := "DripCupsModel", name := "feed", desc := "(IIIII)I" } : Jvm.MethodName)) ∈ lw_all := lw_g (lw_at lw_m7 220 rfl) rfl
theorem q1775 : (Jvm.Cond.selects "DripCupsModel" ({ cls := "DripCupsModel", name := "feed", desc := "(IIIII)I" } : Jvm.MethodName) ({ cls := "DripCupsModel", name := "feed", desc := "(IIIII)I" } : Jvm.MethodName)) ∈ lw_all := lw_g (lw_at lw_m7 221 rfl) rfl
theorem q1776 : (Jvm.Cond.code ({ cls := "DripCupsModel", name := "feed", desc := "(IIIII)I" } : Jvm.MethodName) prog_12_method_10_code (6 : Nat) (Option.some Jvm.ClassFile.FieldType.int)) ∈ lw_all := lw_g (lw_at lw_m7 222 rfl) rfl
theorem q1777 : (Jvm.Cond.methodLink "DripCupsModel" (120 : Nat) ({ cls := "DripCupsModel", name := "lays", desc := "(I)V" } : Jvm.MethodName)) ∈ lw_all := lw_g (lw_at lw_m7 223 rfl) rfl
theorem q1778 : (Jvm.Cond.privateMethod ({ cls := "DripCupsModel", name := "lays", desc := "(I)V" } : Jvm.MethodName)) ∈ lw_tbl := lw_at lw_m7 224 rfl
theorem q1779 : (Jvm.Cond.instanceMethod ({ cls := "DripCupsModel", name := "lays", desc := "(I)V" } : Jvm.MethodName)) ∈ lw_all := lw_g (lw_at lw_m7 225 rfl) rfl
theorem q1780 : (Jvm.Cond.code ({ cls := "DripCupsModel", name := "lays", desc := "(I)V" } : Jvm.MethodName) prog_12_method_11_code (3 : Nat) (Option.none : Option Jvm.ClassFile.FieldType)) ∈ lw_all := lw_g (lw_at lw_m7 226 rfl) rfl
theorem q1782 : (Jvm.Cond.instanceMethod ({ cls := "DripCupsModel", name := "cave", desc := "(I)I" } : Jvm.MethodName)) ∈ lw_all := lw_g (lw_at lw_m7 228 rfl) rfl
theorem q1783 : (Jvm.Cond.selects "DripCupsModel" ({ cls := "DripCupsModel", name := "cave", desc := "(I)I" } : Jvm.MethodName) ({ cls := "DripCupsModel", name := "cave", desc := "(I)I" } : Jvm.MethodName)) ∈ lw_all := lw_g (lw_at lw_m7 229 rfl) rfl
theorem q1784 : (Jvm.Cond.code ({ cls := "DripCupsModel", name := "cave", desc := "(I)I" } : Jvm.MethodName) prog_12_method_40_code (3 : Nat) (Option.some Jvm.ClassFile.FieldType.int)) ∈ lw_all := lw_g (lw_at lw_m7 230 rfl) rfl
theorem q1785 : (Jvm.Cond.methodLink "DripCupsModel" (262 : Nat) ({ cls := "DripCupsModel", name := "right", desc := "(ZI)Z" } : Jvm.MethodName)) ∈ lw_all := lw_g (lw_at lw_m7 231 rfl) rfl
theorem q1786 : (Jvm.Cond.privateMethod ({ cls := "DripCupsModel", name := "right", desc := "(ZI)Z" } : Jvm.MethodName)) ∈ lw_tbl := lw_at lw_m7 232 rfl
theorem q1787 : (Jvm.Cond.instanceMethod ({ cls := "DripCupsModel", name := "right", desc := "(ZI)Z" } : Jvm.MethodName)) ∈ lw_all := lw_g (lw_at lw_m7 233 rfl) rfl
theorem q1788 : (Jvm.Cond.code ({ cls := "DripCupsModel", name := "right", desc := "(ZI)Z" } : Jvm.MethodName) prog_12_method_3_code (3 : Nat) (Option.some Jvm.ClassFile.FieldType.boolean)) ∈ lw_all := lw_g (lw_at lw_m7 234 rfl) rfl
theorem q1789 : (Jvm.Cond.methodLink "DripCupsModel" (177 : Nat) ({ cls := "DripCupsModel", name := "goes", desc := "()V" } : Jvm.MethodName)) ∈ lw_all := lw_g (lw_at lw_m7 235 rfl) rfl
theorem q1790 : (Jvm.Cond.privateMethod ({ cls := "DripCupsModel", name := "goes", desc := "()V" } : Jvm.MethodName)) ∈ lw_tbl := lw_at lw_m7 236 rfl
theorem q1791 : (Jvm.Cond.instanceMethod ({ cls := "DripCupsModel", name := "goes", desc := "()V" } : Jvm.MethodName)) ∈ lw_all := lw_g (lw_at lw_m7 237 rfl) rfl
theorem q1792 : (Jvm.Cond.code ({ cls := "DripCupsModel", name := "goes", desc := "()V" } : Jvm.MethodName) prog_12_method_15_code (2 : Nat) (Option.none : Option Jvm.ClassFile.FieldType)) ∈ lw_all := lw_g (lw_at lw_m7 238 rfl) rfl
theorem q1793 : (Jvm.Cond.methodLink "DripCupsModel" (130 : Nat) ({ cls := "DripCupsModel", name := "byteAt", desc := "(I)I" } : Jvm.MethodName)) ∈ lw_all := lw_g (lw_at lw_m7 239 rfl) rfl
theorem q1794 : (Jvm.Cond.privateMethod ({ cls := "DripCupsModel", name := "byteAt", desc := "(I)I" } : Jvm.MethodName)) ∈ lw_tbl := lw_at lw_m8 0 rfl
theorem q1795 : (Jvm.Cond.instanceMethod ({ cls := "DripCupsModel", name := "byteAt", desc := "(I)I" } : Jvm.MethodName)) ∈ lw_all := lw_g (lw_at lw_m8 1 rfl) rfl
theorem q1796 : (Jvm.Cond.code ({ cls := "DripCupsModel", name := "byteAt", desc := "(I)I" } : Jvm.MethodName) prog_12_method_12_code (2 : Nat) (Option.some Jvm.ClassFile.FieldType.int)) ∈ lw_all := lw_g (lw_at lw_m8 2 rfl) rfl
theorem q1797 : (Jvm.Cond.methodLink "DripCupsModel" (150 : Nat) ({ cls := "DripCupsModel", name := "isLetter", desc := "(I)Z" } : Jvm.MethodName)) ∈ lw_all := lw_g (lw_at lw_m8 3 rfl) rfl
theorem q1798 : (Jvm.Cond.static ({ cls := "DripCupsModel", name := "isLetter", desc := "(I)Z" } : Jvm.MethodName)) ∈ lw_all := lw_g (lw_at lw_m8 4 rfl) rfl
theorem q1799 : (Jvm.Cond.code ({ cls := "DripCupsModel", name := "isLetter", desc := "(I)Z" } : Jvm.MethodName) prog_12_method_13_code (1 : Nat) (Option.some Jvm.ClassFile.FieldType.boolean)) ∈ lw_all := lw_g (lw_at lw_m8 5 rfl) rfl
theorem q1800 : (Jvm.Cond.methodLink "DripCupsModel" (154 : Nat) ({ cls := "DripCupsModel", name := "isDigit", desc := "(I)Z" } : Jvm.MethodName)) ∈ lw_all := lw_g (lw_at lw_m8 6 rfl) rfl
theorem q1801 : (Jvm.Cond.static ({ cls := "DripCupsModel", name := "isDigit", desc := "(I)Z" } : Jvm.MethodName)) ∈ lw_all := lw_g (lw_at lw_m8 7 rfl) rfl
theorem q1802 : (Jvm.Cond.code ({ cls := "DripCupsModel", name := "isDigit", desc := "(I)Z" } : Jvm.MethodName) prog_12_method_14_code (1 : Nat) (Option.some Jvm.ClassFile.FieldType.boolean)) ∈ lw_all := lw_g (lw_at lw_m8 8 rfl) rfl
theorem q1803 : (Jvm.Cond.methodLink "DripCupsModel" (173 : Nat) ({ cls := "DripCupsModel", name := "isGood", desc := "()Z" } : Jvm.MethodName)) ∈ lw_all := lw_g (lw_at lw_m8 9 rfl) rfl
theorem q1804 : (Jvm.Cond.privateMethod ({ cls := "DripCupsModel", name := "isGood", desc := "()Z" } : Jvm.MethodName)) ∈ lw_tbl := lw_at lw_m8 10 rfl
theorem q1805 : (Jvm.Cond.instanceMethod ({ cls := "DripCupsModel", name := "isGood", desc := "()Z" } : Jvm.MethodName)) ∈ lw_all := lw_g (lw_at lw_m8 11 rfl) rfl
theorem q1806 : (Jvm.Cond.code ({ cls := "DripCupsModel", name := "isGood", desc := "()Z" } : Jvm.MethodName) prog_12_method_20_code (1 : Nat) (Option.some Jvm.ClassFile.FieldType.boolean)) ∈ lw_all := lw_g (lw_at lw_m8 12 rfl) rfl
theorem q1807 : (Jvm.Cond.methodLink "DripCupsModel" (266 : Nat) ({ cls := "DripCupsModel", name := "line", desc := "()V" } : Jvm.MethodName)) ∈ lw_all := lw_g (lw_at lw_m8 13 rfl) rfl
theorem q1808 : (Jvm.Cond.privateMethod ({ cls := "DripCupsModel", name := "line", desc := "()V" } : Jvm.MethodName)) ∈ lw_tbl := lw_at lw_m8 14 rfl
theorem q1809 : (Jvm.Cond.instanceMethod ({ cls := "DripCupsModel", name := "line", desc := "()V" } : Jvm.MethodName)) ∈ lw_all := lw_g (lw_at lw_m8 15 rfl) rfl
theorem q1810 : (Jvm.Cond.code ({ cls := "DripCupsModel", name := "line", desc := "()V" } : Jvm.MethodName) prog_12_method_39_code (2 : Nat) (Option.none : Option Jvm.ClassFile.FieldType)) ∈ lw_all := lw_g (lw_at lw_m8 16 rfl) rfl
theorem q1811 : (Jvm.Cond.methodLink "DripCupsModel" (201 : Nat) ({ cls := "DripCupsModel", name := "knownWord", desc := "()I" } : Jvm.MethodName)) ∈ lw_all := lw_g (lw_at lw_m8 17 rfl) rfl
theorem q1812 : (Jvm.Cond.privateMethod ({ cls := "DripCupsModel", name := "knownWord", desc := "()I" } : Jvm.MethodName)) ∈ lw_tbl := lw_at lw_m8 18 rfl
theorem q1813 : (Jvm.Cond.instanceMethod ({ cls := "DripCupsModel", name := "knownWord", desc := "()I" } : Jvm.MethodName)) ∈ lw_all := lw_g (lw_at lw_m8 19 rfl) rfl
theorem q1814 : (Jvm.Cond.code ({ cls := "DripCupsModel", name := "knownWord", desc := "()I" } : Jvm.MethodName) prog_12_method_18_code (2 : Nat) (Option.some Jvm.ClassFile.FieldType.int)) ∈ lw_all := lw_g (lw_at lw_m8 20 rfl) rfl
theorem q1815 : (Jvm.Cond.methodLink "DripCupsModel" (166 : Nat) ({ cls := "DripCupsModel", name := "letters", desc := "(I)J" } : Jvm.MethodName)) ∈ lw_all := lw_g (lw_at lw_m8 21 rfl) rfl
theorem q1816 : (Jvm.Cond.static ({ cls := "DripCupsModel", name := "letters", desc := "(I)J" } : Jvm.MethodName)) ∈ lw_all := lw_g (lw_at lw_m8 22 rfl) rfl
theorem q1817 : (Jvm.Cond.code ({ cls := "DripCupsModel", name := "letters", desc := "(I)J" } : Jvm.MethodName) prog_12_method_17_code (1 : Nat) (Option.some Jvm.ClassFile.FieldType.long)) ∈ lw_all := lw_g (lw_at lw_m8 23 rfl) rfl
theorem q1818 : (Jvm.Cond.methodLink "DripCupsModel" (162 : Nat) ({ cls := "DripCupsModel", name := "spelled", desc := "(IIIIII)J" } : Jvm.MethodName)) ∈ lw_all := lw_g (lw_at lw_m8 24 rfl) rfl
theorem q1819 : (Jvm.Cond.static ({ cls := "DripCupsModel", name := "spelled", desc := "(IIIIII)J" } : Jvm.MethodName)) ∈ lw_all := lw_g (lw_at lw_m8 25 rfl) rfl
theorem q1820 : (Jvm.Cond.code ({ cls := "DripCupsModel", name := "spelled", desc := "(IIIIII)J" } : Jvm.MethodName) prog_12_method_16_code (8 : Nat) (Option.some Jvm.ClassFile.FieldType.long)) ∈ lw_all := lw_g (lw_at lw_m8 26 rfl) rfl
theorem q1821 : (Jvm.Cond.constantLong "DripCupsModel" (160 : Nat) (96 : Int64)) ∈ lw_all := lw_g (lw_at lw_m8 27 rfl) rfl
theorem q1822 : (Jvm.Cond.methodLink "DripCupsModel" (240 : Nat) ({ cls := "DripCupsModel", name := "begins", desc := "(ZZ)Z" } : Jvm.MethodName)) ∈ lw_all := lw_g (lw_at lw_m8 28 rfl) rfl
theorem q1823 : (Jvm.Cond.privateMethod ({ cls := "DripCupsModel", name := "begins", desc := "(ZZ)Z" } : Jvm.MethodName)) ∈ lw_tbl := lw_at lw_m8 29 rfl
theorem q1824 : (Jvm.Cond.instanceMethod ({ cls := "DripCupsModel", name := "begins", desc := "(ZZ)Z" } : Jvm.MethodName)) ∈ lw_all := lw_g (lw_at lw_m8 30 rfl) rfl
theorem q1825 : (Jvm.Cond.code ({ cls := "DripCupsModel", name := "begins", desc := "(ZZ)Z" } : Jvm.MethodName) prog_12_method_36_code (3 : Nat) (Option.some Jvm.ClassFile.FieldType.boolean)) ∈ lw_all := lw_g (lw_at lw_m8 31 rfl) rfl
theorem q1826 : (Jvm.Cond.methodLink "DripCupsModel" (180 : Nat) ({ cls := "DripCupsModel", name := "wrong", desc := "(I)V" } : Jvm.MethodName)) ∈ lw_all := lw_g (lw_at lw_m8 32 rfl) rfl
theorem q1827 : (Jvm.Cond.privateMethod ({ cls := "DripCupsModel", name := "wrong", desc := "(I)V" } : Jvm.MethodName)) ∈ lw_tbl := lw_at lw_m8 33 rfl
theorem q1828 : (Jvm.Cond.instanceMethod ({ cls := "DripCupsModel", name := "wrong", desc := "(I)V" } : Jvm.MethodName)) ∈ lw_all := lw_g (lw_at lw_m8 34 rfl) rfl
theorem q1829 : (Jvm.Cond.code ({ cls := "DripCupsModel", name := "wrong", desc := "(I)V" } : Jvm.MethodName) prog_12_method_19_code (2 : Nat) (Option.none : Option Jvm.ClassFile.FieldType)) ∈ lw_all := lw_g (lw_at lw_m8 35 rfl) rfl
theorem q1830 : (Jvm.Cond.methodLink "DripCupsModel" (244 : Nat) ({ cls := "DripCupsModel", name := "readsCup", desc := "()V" } : Jvm.MethodName)) ∈ lw_all := lw_g (lw_at lw_m8 36 rfl) rfl
theorem q1831 : (Jvm.Cond.privateMethod ({ cls := "DripCupsModel", name := "readsCup", desc := "()V" } : Jvm.MethodName)) ∈ lw_tbl := lw_at lw_m8 37 rfl
theorem q1832 : (Jvm.Cond.instanceMethod ({ cls := "DripCupsModel", name := "readsCup", desc := "()V" } : Jvm.MethodName)) ∈ lw_all := lw_g (lw_at lw_m8 38 rfl) rfl
theorem q1833 : (Jvm.Cond.code ({ cls := "DripCupsModel", name := "readsCup", desc := "()V" } : Jvm.MethodName) prog_12_method_37_code (2 : Nat) (Option.none : Option Jvm.ClassFile.FieldType)) ∈ lw_all := lw_g (lw_at lw_m8 39 rfl) rfl
theorem q1834 : (Jvm.Cond.methodLink "DripCupsModel" (233 : Nat) ({ cls := "DripCupsModel", name := "number", desc := "(II)I" } : Jvm.MethodName)) ∈ lw_all := lw_g (lw_at lw_m8 40 rfl) rfl
theorem q1835 : (Jvm.Cond.privateMethod ({ cls := "DripCupsModel", name := "number", desc := "(II)I" } : Jvm.MethodName)) ∈ lw_tbl := lw_at lw_m8 41 rfl
theorem q1836 : (Jvm.Cond.instanceMethod ({ cls := "DripCupsModel", name := "number", desc := "(II)I" } : Jvm.MethodName)) ∈ lw_all := lw_g (lw_at lw_m8 42 rfl) rfl
theorem q1837 : (Jvm.Cond.code ({ cls := "DripCupsModel", name := "number", desc := "(II)I" } : Jvm.MethodName) prog_12_method_23_code (4 : Nat) (Option.some Jvm.ClassFile.FieldType.int)) ∈ lw_all := lw_g (lw_at lw_m8 43 rfl) rfl
theorem q1838 : (Jvm.Cond.methodLink "DripCupsModel" (247 : Nat) ({ cls := "DripCupsModel", name := "readsPipe", desc := "()V" } : Jvm.MethodName)) ∈ lw_all := lw_g (lw_at lw_m8 44 rfl) rfl
theorem q1839 : (Jvm.Cond.privateMethod ({ cls := "DripCupsModel", name := "readsPipe", desc := "()V" } : Jvm.MethodName)) ∈ lw_tbl := lw_at lw_m8 45 rfl
theorem q1840 : (Jvm.Cond.instanceMethod ({ cls := "DripCupsModel", name := "readsPipe", desc := "()V" } : Jvm.MethodName)) ∈ lw_all := lw_g (lw_at lw_m8 46 rfl) rfl
theorem q1841 : (Jvm.Cond.code ({ cls := "DripCupsModel", name := "readsPipe", desc := "()V" } : Jvm.MethodName) prog_12_method_38_code (2 : Nat) (Option.none : Option Jvm.ClassFile.FieldType)) ∈ lw_all := lw_g (lw_at lw_m8 47 rfl) rfl
theorem q1842 : (Jvm.Cond.methodLink "DripCupsModel" (237 : Nat) ({ cls := "DripCupsModel", name := "isCupHere", desc := "()Z" } : Jvm.MethodName)) ∈ lw_all := lw_g (lw_at lw_m8 48 rfl) rfl
theorem q1843 : (Jvm.Cond.privateMethod ({ cls := "DripCupsModel", name := "isCupHere", desc := "()Z" } : Jvm.MethodName)) ∈ lw_tbl := lw_at lw_m8 49 rfl
theorem q1844 : (Jvm.Cond.instanceMethod ({ cls := "DripCupsModel", name := "isCupHere", desc := "()Z" } : Jvm.MethodName)) ∈ lw_all := lw_g (lw_at lw_m8 50 rfl) rfl
theorem q1845 : (Jvm.Cond.code ({ cls := "DripCupsModel", name := "isCupHere", desc := "()Z" } : Jvm.MethodName) prog_12_method_24_code (1 : Nat) (Option.some Jvm.ClassFile.FieldType.boolean)) ∈ lw_all := lw_g (lw_at lw_m8 51 rfl) rfl
theorem q1846 : (Jvm.Cond.methodLink "DripCupsModel" (253 : Nat) ({ cls := "DripCupsModel", name := "expression", desc := "()V" } : Jvm.MethodName)) ∈ lw_all := lw_g (lw_at lw_m8 52 rfl) rfl
theorem q1847 : (Jvm.Cond.privateMethod ({ cls := "DripCupsModel", name := "expression", desc := "()V" } : Jvm.MethodName)) ∈ lw_tbl := lw_at lw_m8 53 rfl
theorem q1848 : (Jvm.Cond.instanceMethod ({ cls := "DripCupsModel", name := "expression", desc := "()V" } : Jvm.MethodName)) ∈ lw_all := lw_g (lw_at lw_m8 54 rfl) rfl
theorem q1849 : (Jvm.Cond.code ({ cls := "DripCupsModel", name := "expression", desc := "()V" } : Jvm.MethodName) prog_12_method_35_code (3 : Nat) (Option.none : Option Jvm.ClassFile.FieldType)) ∈ lw_all := lw_g (lw_at lw_m8 55 rfl) rfl
theorem q1850 : (Jvm.Cond.methodLink "DripCupsModel" (214 : Nat) ({ cls := "DripCupsModel", name := "deeper", desc := "()V" } : Jvm.MethodName)) ∈ lw_all := lw_g (lw_at lw_m8 56 rfl) rfl
theorem q1851 : (Jvm.Cond.privateMethod ({ cls := "DripCupsModel", name := "deeper", desc := "()V" } : Jvm.MethodName)) ∈ lw_tbl := lw_at lw_m8 57 rfl
theorem q1852 : (Jvm.Cond.instanceMethod ({ cls := "DripCupsModel", name := "deeper", desc := "()V" } : Jvm.MethodName)) ∈ lw_all := lw_g (lw_at lw_m8 58 rfl) rfl
theorem q1853 : (Jvm.Cond.code ({ cls := "DripCupsModel", name := "deeper", desc := "()V" } : Jvm.MethodName) prog_12_method_31_code (1 : Nat) (Option.none : Option Jvm.ClassFile.FieldType)) ∈ lw_all := lw_g (lw_at lw_m8 59 rfl) rfl
theorem q1854 : (Jvm.Cond.methodLink "DripCupsModel" (208 : Nat) ({ cls := "DripCupsModel", name := "isSign", desc := "(I)Z" } : Jvm.MethodName)) ∈ lw_all := lw_g (lw_at lw_m8 60 rfl) rfl
theorem q1855 : (Jvm.Cond.privateMethod ({ cls := "DripCupsModel", name := "isSign", desc := "(I)Z" } : Jvm.MethodName)) ∈ lw_tbl := lw_at lw_m8 61 rfl
theorem q1856 : (Jvm.Cond.instanceMethod ({ cls := "DripCupsModel", name := "isSign", desc := "(I)Z" } : Jvm.MethodName)) ∈ lw_all := lw_g (lw_at lw_m8 62 rfl) rfl
theorem q1857 : (Jvm.Cond.code ({ cls := "DripCupsModel", name := "isSign", desc := "(I)Z" } : Jvm.MethodName) prog_12_method_21_code (2 : Nat) (Option.some Jvm.ClassFile.FieldType.boolean)) ∈ lw_all := lw_g (lw_at lw_m8 63 rfl) rfl
theorem q1858 : (Jvm.Cond.methodLink "DripCupsModel" (223 : Nat) ({ cls := "DripCupsModel", name := "operand", desc := "(Z)V" } : Jvm.MethodName)) ∈ lw_all := lw_g (lw_at lw_m8 64 rfl) rfl
theorem q1859 : (Jvm.Cond.privateMethod ({ cls := "DripCupsModel", name := "operand", desc := "(Z)V" } : Jvm.MethodName)) ∈ lw_tbl := lw_at lw_m8 65 rfl
theorem q1860 : (Jvm.Cond.instanceMethod ({ cls := "DripCupsModel", name := "operand", desc := "(Z)V" } : Jvm.MethodName)) ∈ lw_all := lw_g (lw_at lw_m8 66 rfl) rfl
theorem q1861 : (Jvm.Cond.code ({ cls := "DripCupsModel", name := "operand", desc := "(Z)V" } : Jvm.MethodName) prog_12_method_32_code (5 : Nat) (Option.none : Option Jvm.ClassFile.FieldType)) ∈ lw_all := lw_g (lw_at lw_m8 67 rfl) rfl
theorem q1862 : (Jvm.Cond.methodLink "DripCupsModel" (211 : Nat) ({ cls := "DripCupsModel", name := "waitsFor", desc := "(I)V" } : Jvm.MethodName)) ∈ lw_all := lw_g (lw_at lw_m8 68 rfl) rfl
theorem q1863 : (Jvm.Cond.privateMethod ({ cls := "DripCupsModel", name := "waitsFor", desc := "(I)V" } : Jvm.MethodName)) ∈ lw_tbl := lw_at lw_m8 69 rfl
theorem q1864 : (Jvm.Cond.instanceMethod ({ cls := "DripCupsModel", name := "waitsFor", desc := "(I)V" } : Jvm.MethodName)) ∈ lw_all := lw_g (lw_at lw_m8 70 rfl) rfl
theorem q1865 : (Jvm.Cond.code ({ cls := "DripCupsModel", name := "waitsFor", desc := "(I)V" } : Jvm.MethodName) prog_12_method_29_code (2 : Nat) (Option.none : Option Jvm.ClassFile.FieldType)) ∈ lw_all := lw_g (lw_at lw_m8 71 rfl) rfl
theorem q1866 : (Jvm.Cond.methodLink "DripCupsModel" (217 : Nat) ({ cls := "DripCupsModel", name := "part", desc := "()V" } : Jvm.MethodName)) ∈ lw_all := lw_g (lw_at lw_m8 72 rfl) rfl
theorem q1867 : (Jvm.Cond.privateMethod ({ cls := "DripCupsModel", name := "part", desc := "()V" } : Jvm.MethodName)) ∈ lw_tbl := lw_at lw_m8 73 rfl
theorem q1868 : (Jvm.Cond.instanceMethod ({ cls := "DripCupsModel", name := "part", desc := "()V" } : Jvm.MethodName)) ∈ lw_all := lw_g (lw_at lw_m8 74 rfl) rfl
theorem q1869 : (Jvm.Cond.code ({ cls := "DripCupsModel", name := "part", desc := "()V" } : Jvm.MethodName) prog_12_method_30_code (2 : Nat) (Option.none : Option Jvm.ClassFile.FieldType)) ∈ lw_all := lw_g (lw_at lw_m8 75 rfl) rfl
theorem q1870 : (Jvm.Cond.methodLink "DripCupsModel" (198 : Nat) ({ cls := "DripCupsModel", name := "puts", desc := "(I)V" } : Jvm.MethodName)) ∈ lw_all := lw_g (lw_at lw_m8 76 rfl) rfl
theorem q1871 : (Jvm.Cond.privateMethod ({ cls := "DripCupsModel", name := "puts", desc := "(I)V" } : Jvm.MethodName)) ∈ lw_tbl := lw_at lw_m8 77 rfl
theorem q1872 : (Jvm.Cond.instanceMethod ({ cls := "DripCupsModel", name := "puts", desc := "(I)V" } : Jvm.MethodName)) ∈ lw_all := lw_g (lw_at lw_m8 78 rfl) rfl
theorem q1873 : (Jvm.Cond.code ({ cls := "DripCupsModel", name := "puts", desc := "(I)V" } : Jvm.MethodName) prog_12_method_25_code (2 : Nat) (Option.none : Option Jvm.ClassFile.FieldType)) ∈ lw_all := lw_g (lw_at lw_m8 79 rfl) rfl
theorem q1874 : (Jvm.Cond.methodLink "DripCupsModel" (220 : Nat) ({ cls := "DripCupsModel", name := "drops", desc := "(I)V" } : Jvm.MethodName)) ∈ lw_all := lw_g (lw_at lw_m8 80 rfl) rfl
theorem q1875 : (Jvm.Cond.privateMethod ({ cls := "DripCupsModel", name := "drops", desc := "(I)V" } : Jvm.MethodName)) ∈ lw_tbl := lw_at lw_m8 81 rfl
theorem q1876 : (Jvm.Cond.instanceMethod ({ cls := "DripCupsModel", name := "drops", desc := "(I)V" } : Jvm.MethodName)) ∈ lw_all := lw_g (lw_at lw_m8 82 rfl) rfl
theorem q1877 : (Jvm.Cond.code ({ cls := "DripCupsModel", name := "drops", desc := "(I)V" } : Jvm.MethodName) prog_12_method_28_code (2 : Nat) (Option.none : Option Jvm.ClassFile.FieldType)) ∈ lw_all := lw_g (lw_at lw_m8 83 rfl) rfl
theorem q1878 : (Jvm.Cond.methodLink "DripCupsModel" (192 : Nat) ({ cls := "DripCupsModel", name := "isOpen", desc := "(I)Z" } : Jvm.MethodName)) ∈ lw_all := lw_g (lw_at lw_m8 84 rfl) rfl
theorem q1879 : (Jvm.Cond.static ({ cls := "DripCupsModel", name := "isOpen", desc := "(I)Z" } : Jvm.MethodName)) ∈ lw_all := lw_g (lw_at lw_m8 85 rfl) rfl
theorem q1880 : (Jvm.Cond.code ({ cls := "DripCupsModel", name := "isOpen", desc := "(I)Z" } : Jvm.MethodName) prog_12_method_26_code (1 : Nat) (Option.some Jvm.ClassFile.FieldType.boolean)) ∈ lw_all := lw_g (lw_at lw_m8 86 rfl) rfl
theorem q1881 : (Jvm.Cond.methodLink "DripCupsModel" (195 : Nat) ({ cls := "DripCupsModel", name := "strength", desc := "(I)I" } : Jvm.MethodName)) ∈ lw_all := lw_g (lw_at lw_m8 87 rfl) rfl
theorem q1882 : (Jvm.Cond.static ({ cls := "DripCupsModel", name := "strength", desc := "(I)I" } : Jvm.MethodName)) ∈ lw_all := lw_g (lw_at lw_m8 88 rfl) rfl
theorem q1883 : (Jvm.Cond.code ({ cls := "DripCupsModel", name := "strength", desc := "(I)I" } : Jvm.MethodName) prog_12_method_27_code (1 : Nat) (Option.some Jvm.ClassFile.FieldType.int)) ∈ lw_all := lw_g (lw_at lw_m8 89 rfl) rfl
theorem q1884 : (Jvm.Cond.methodLink "DripCupsModel" (227 : Nat) ({ cls := "DripCupsModel", name := "isOpened", desc := "()Z" } : Jvm.MethodName)) ∈ lw_all := lw_g (lw_at lw_m8 90 rfl) rfl
theorem q1885 : (Jvm.Cond.privateMethod ({ cls := "DripCupsModel", name := "isOpened", desc := "()Z" } : Jvm.MethodName)) ∈ lw_tbl := lw_at lw_m8 91 rfl
theorem q1886 : (Jvm.Cond.instanceMethod ({ cls := "DripCupsModel", name := "isOpened", desc := "()Z" } : Jvm.MethodName)) ∈ lw_all := lw_g (lw_at lw_m8 92 rfl) rfl
theorem q1887 : (Jvm.Cond.code ({ cls := "DripCupsModel", name := "isOpened", desc := "()Z" } : Jvm.MethodName) prog_12_method_33_code (2 : Nat) (Option.some Jvm.ClassFile.FieldType.boolean)) ∈ lw_all := lw_g (lw_at lw_m8 93 rfl) rfl
theorem q1888 : (Jvm.Cond.methodLink "DripCupsModel" (230 : Nat) ({ cls := "DripCupsModel", name := "closes", desc := "()V" } : Jvm.MethodName)) ∈ lw_all := lw_g (lw_at lw_m8 94 rfl) rfl
theorem q1889 : (Jvm.Cond.privateMethod ({ cls := "DripCupsModel", name := "closes", desc := "()V" } : Jvm.MethodName)) ∈ lw_tbl := lw_at lw_m8 95 rfl
theorem q1890 : (Jvm.Cond.instanceMethod ({ cls := "DripCupsModel", name := "closes", desc := "()V" } : Jvm.MethodName)) ∈ lw_all := lw_g (lw_at lw_m8 96 rfl) rfl
theorem q1891 : (Jvm.Cond.code ({ cls := "DripCupsModel", name := "closes", desc := "()V" } : Jvm.MethodName) prog_12_method_34_code (1 : Nat) (Option.none : Option Jvm.ClassFile.FieldType)) ∈ lw_all := lw_g (lw_at lw_m8 97 rfl) rfl
theorem q1892 : (Jvm.Cond.methodLink "DripCupsModel" (259 : Nat) ({ cls := "DripCupsModel", name := "need", desc := "(Z)V" } : Jvm.MethodName)) ∈ lw_all := lw_g (lw_at lw_m8 98 rfl) rfl
theorem q1893 : (Jvm.Cond.privateMethod ({ cls := "DripCupsModel", name := "need", desc := "(Z)V" } : Jvm.MethodName)) ∈ lw_tbl := lw_at lw_m8 99 rfl
theorem q1894 : (Jvm.Cond.instanceMethod ({ cls := "DripCupsModel", name := "need", desc := "(Z)V" } : Jvm.MethodName)) ∈ lw_all := lw_g (lw_at lw_m8 100 rfl) rfl
theorem q1895 : (Jvm.Cond.code ({ cls := "DripCupsModel", name := "need", desc := "(Z)V" } : Jvm.MethodName) prog_12_method_22_code (2 : Nat) (Option.none : Option Jvm.ClassFile.FieldType)) ∈ lw_all := lw_g (lw_at lw_m8 101 rfl) rfl
theorem q1896 : (Jvm.Cond.methodLink "DripCupsModel" (272 : Nat) ({ cls := "DripCupsModel", name := "copies", desc := "([I[I)V" } : Jvm.MethodName)) ∈ lw_all := lw_g (lw_at lw_m8 102 rfl) rfl
theorem q1897 : (Jvm.Cond.privateMethod ({ cls := "DripCupsModel", name := "copies", desc := "([I[I)V" } : Jvm.MethodName)) ∈ lw_tbl := lw_at lw_m8 103 rfl
theorem q1898 : (Jvm.Cond.instanceMethod ({ cls := "DripCupsModel", name := "copies", desc := "([I[I)V" } : Jvm.MethodName)) ∈ lw_all := lw_g (lw_at lw_m8 104 rfl) rfl
theorem q1899 : (Jvm.Cond.code ({ cls := "DripCupsModel", name := "copies", desc := "([I[I)V" } : Jvm.MethodName) prog_12_method_8_code (4 : Nat) (Option.none : Option Jvm.ClassFile.FieldType)) ∈ lw_all := lw_g (lw_at lw_m8 105 rfl) rfl
theorem q1901 : (Jvm.Cond.instanceMethod ({ cls := "DripCupsModel", name := "fault", desc := "()I" } : Jvm.MethodName)) ∈ lw_all := lw_g (lw_at lw_m8 107 rfl) rfl
theorem q1902 : (Jvm.Cond.selects "DripCupsModel" ({ cls := "DripCupsModel", name := "fault", desc := "()I" } : Jvm.MethodName) ({ cls := "DripCupsModel", name := "fault", desc := "()I" } : Jvm.MethodName)) ∈ lw_all := lw_g (lw_at lw_m8 108 rfl) rfl
theorem q1903 : (Jvm.Cond.code ({ cls := "DripCupsModel", name := "fault", desc := "()I" } : Jvm.MethodName) prog_12_method_41_code (1 : Nat) (Option.some Jvm.ClassFile.FieldType.int)) ∈ lw_all := lw_g (lw_at lw_m8 109 rfl) rfl
theorem q1905 : (Jvm.Cond.instanceMethod ({ cls := "DripCupsModel", name := "undo", desc := "()I" } : Jvm.MethodName)) ∈ lw_all := lw_g (lw_at lw_m8 111 rfl) rfl
theorem q1906 : (Jvm.Cond.selects "DripCupsModel" ({ cls := "DripCupsModel", name := "undo", desc := "()I" } : Jvm.MethodName) ({ cls := "DripCupsModel", name := "undo", desc := "()I" } : Jvm.MethodName)) ∈ lw_all := lw_g (lw_at lw_m8 112 rfl) rfl
theorem q1907 : (Jvm.Cond.code ({ cls := "DripCupsModel", name := "undo", desc := "()I" } : Jvm.MethodName) prog_12_method_44_code (2 : Nat) (Option.some Jvm.ClassFile.FieldType.int)) ∈ lw_all := lw_g (lw_at lw_m8 113 rfl) rfl
theorem q1909 : (Jvm.Cond.instanceMethod ({ cls := "DripCupsModel", name := "count", desc := "(I)I" } : Jvm.MethodName)) ∈ lw_all := lw_g (lw_at lw_m8 115 rfl) rfl
theorem q1910 : (Jvm.Cond.selects "DripCupsModel" ({ cls := "DripCupsModel", name := "count", desc := "(I)I" } : Jvm.MethodName) ({ cls := "DripCupsModel", name := "count", desc := "(I)I" } : Jvm.MethodName)) ∈ lw_all := lw_g (lw_at lw_m8 116 rfl) rfl
theorem q1911 : (Jvm.Cond.code ({ cls := "DripCupsModel", name := "count", desc := "(I)I" } : Jvm.MethodName) prog_12_method_61_code (2 : Nat) (Option.some Jvm.ClassFile.FieldType.int)) ∈ lw_all := lw_g (lw_at lw_m8 117 rfl) rfl
theorem q1912 : (Jvm.Cond.methodLink "DripCupsModel" (332 : Nat) ({ cls := "DripCupsModel", name := "within", desc := "(III)Z" } : Jvm.MethodName)) ∈ lw_all := lw_g (lw_at lw_m8 118 rfl) rfl
theorem q1913 : (Jvm.Cond.static ({ cls := "DripCupsModel", name := "within", desc := "(III)Z" } : Jvm.MethodName)) ∈ lw_all := lw_g (lw_at lw_m8 119 rfl) rfl
theorem q1914 : (Jvm.Cond.code ({ cls := "DripCupsModel", name := "within", desc := "(III)Z" } : Jvm.MethodName) prog_12_method_4_code (3 : Nat) (Option.some Jvm.ClassFile.FieldType.boolean)) ∈ lw_all := lw_g (lw_at lw_m8 120 rfl) rfl
theorem q1915 : (Jvm.Cond.methodLink "DripCupsModel" (336 : Nat) ({ cls := "DripCupsModel", name := "plugged", desc := "()I" } : Jvm.MethodName)) ∈ lw_all := lw_g (lw_at lw_m8 121 rfl) rfl
theorem q1916 : (Jvm.Cond.privateMethod ({ cls := "DripCupsModel", name := "plugged", desc := "()I" } : Jvm.MethodName)) ∈ lw_tbl := lw_at lw_m8 122 rfl
theorem q1917 : (Jvm.Cond.instanceMethod ({ cls := "DripCupsModel", name := "plugged", desc := "()I" } : Jvm.MethodName)) ∈ lw_all := lw_g (lw_at lw_m8 123 rfl) rfl
theorem q1918 : (Jvm.Cond.code ({ cls := "DripCupsModel", name := "plugged", desc := "()I" } : Jvm.MethodName) prog_12_method_60_code (3 : Nat) (Option.some Jvm.ClassFile.FieldType.int)) ∈ lw_all := lw_g (lw_at lw_m8 124 rfl) rfl
theorem q1919 : (Jvm.Cond.methodLink "DripCupsModel" (339 : Nat) ({ cls := "DripCupsModel", name := "sumOf", desc := "(II)I" } : Jvm.MethodName)) ∈ lw_all := lw_g (lw_at lw_m8 125 rfl) rfl
theorem q1920 : (Jvm.Cond.privateMethod ({ cls := "DripCupsModel", name := "sumOf", desc := "(II)I" } : Jvm.MethodName)) ∈ lw_tbl := lw_at lw_m8 126 rfl
theorem q1921 : (Jvm.Cond.instanceMethod ({ cls := "DripCupsModel", name := "sumOf", desc := "(II)I" } : Jvm.MethodName)) ∈ lw_all := lw_g (lw_at lw_m8 127 rfl) rfl
theorem q1922 : (Jvm.Cond.code ({ cls := "DripCupsModel", name := "sumOf", desc := "(II)I" } : Jvm.MethodName) prog_12_method_58_code (5 : Nat) (Option.some Jvm.ClassFile.FieldType.int)) ∈ lw_all := lw_g (lw_at lw_m8 128 rfl) rfl
theorem q1923 : (Jvm.Cond.constant "DripCupsModel" (296 : Nat) (1000000000 : Int32)) ∈ lw_all := lw_g (lw_at lw_m8 129 rfl) rfl
theorem q1924 : (Jvm.Cond.methodLink "DripCupsModel" (297 : Nat) ({ cls := "DripCupsModel", name := "lesser", desc := "(II)I" } : Jvm.MethodName)) ∈ lw_all := lw_g (lw_at lw_m8 130 rfl) rfl
theorem q1925 : (Jvm.Cond.static ({ cls := "DripCupsModel", name := "lesser", desc := "(II)I" } : Jvm.MethodName)) ∈ lw_all := lw_g (lw_at lw_m8 131 rfl) rfl
theorem q1926 : (Jvm.Cond.code ({ cls := "DripCupsModel", name := "lesser", desc := "(II)I" } : Jvm.MethodName) prog_12_method_6_code (2 : Nat) (Option.some Jvm.ClassFile.FieldType.int)) ∈ lw_all := lw_g (lw_at lw_m8 132 rfl) rfl
theorem q1927 : (Jvm.Cond.methodLink "DripCupsModel" (342 : Nat) ({ cls := "DripCupsModel", name := "roots", desc := "()I" } : Jvm.MethodName)) ∈ lw_all := lw_g (lw_at lw_m8 133 rfl) rfl
theorem q1928 : (Jvm.Cond.privateMethod ({ cls := "DripCupsModel", name := "roots", desc := "()I" } : Jvm.MethodName)) ∈ lw_tbl := lw_at lw_m8 134 rfl
theorem q1929 : (Jvm.Cond.instanceMethod ({ cls := "DripCupsModel", name := "roots", desc := "()I" } : Jvm.MethodName)) ∈ lw_all := lw_g (lw_at lw_m8 135 rfl) rfl
theorem q1930 : (Jvm.Cond.code ({ cls := "DripCupsModel", name := "roots", desc := "()I" } : Jvm.MethodName) prog_12_method_55_code (3 : Nat) (Option.some Jvm.ClassFile.FieldType.int)) ∈ lw_all := lw_g (lw_at lw_m8 136 rfl) rfl
theorem q1931 : (Jvm.Cond.methodLink "DripCupsModel" (326 : Nat) ({ cls := "DripCupsModel", name := "giversOf", desc := "(I)I" } : Jvm.MethodName)) ∈ lw_all := lw_g (lw_at lw_m8 137 rfl) rfl
theorem q1932 : (Jvm.Cond.privateMethod ({ cls := "DripCupsModel", name := "giversOf", desc := "(I)I" } : Jvm.MethodName)) ∈ lw_tbl := lw_at lw_m8 138 rfl
theorem q1933 : (Jvm.Cond.instanceMethod ({ cls := "DripCupsModel", name := "giversOf", desc := "(I)I" } : Jvm.MethodName)) ∈ lw_all := lw_g (lw_at lw_m8 139 rfl) rfl
theorem q1934 : (Jvm.Cond.code ({ cls := "DripCupsModel", name := "giversOf", desc := "(I)I" } : Jvm.MethodName) prog_12_method_57_code (4 : Nat) (Option.some Jvm.ClassFile.FieldType.int)) ∈ lw_all := lw_g (lw_at lw_m8 140 rfl) rfl
theorem q1935 : (Jvm.Cond.methodLink "DripCupsModel" (329 : Nat) ({ cls := "DripCupsModel", name := "goesInto", desc := "(II)Z" } : Jvm.MethodName)) ∈ lw_all := lw_g (lw_at lw_m8 141 rfl) rfl
theorem q1936 : (Jvm.Cond.privateMethod ({ cls := "DripCupsModel", name := "goesInto", desc := "(II)Z" } : Jvm.MethodName)) ∈ lw_tbl := lw_at lw_m8 142 rfl
theorem q1937 : (Jvm.Cond.instanceMethod ({ cls := "DripCupsModel", name := "goesInto", desc := "(II)Z" } : Jvm.MethodName)) ∈ lw_all := lw_g (lw_at lw_m8 143 rfl) rfl
theorem q1938 : (Jvm.Cond.code ({ cls := "DripCupsModel", name := "goesInto", desc := "(II)Z" } : Jvm.MethodName) prog_12_method_56_code (3 : Nat) (Option.some Jvm.ClassFile.FieldType.boolean)) ∈ lw_all := lw_g (lw_at lw_m8 144 rfl) rfl
theorem q1939 : (Jvm.Cond.methodLink "DripCupsModel" (345 : Nat) ({ cls := "DripCupsModel", name := "alike", desc := "()I" } : Jvm.MethodName)) ∈ lw_all := lw_g (lw_at lw_m8 145 rfl) rfl
theorem q1940 : (Jvm.Cond.privateMethod ({ cls := "DripCupsModel", name := "alike", desc := "()I" } : Jvm.MethodName)) ∈ lw_tbl := lw_at lw_m8 146 rfl
theorem q1941 : (Jvm.Cond.instanceMethod ({ cls := "DripCupsModel", name := "alike", desc := "()I" } : Jvm.MethodName)) ∈ lw_all := lw_g (lw_at lw_m8 147 rfl) rfl
theorem q1942 : (Jvm.Cond.code ({ cls := "DripCupsModel", name := "alike", desc := "()I" } : Jvm.MethodName) prog_12_method_59_code (4 : Nat) (Option.some Jvm.ClassFile.FieldType.int)) ∈ lw_all := lw_g (lw_at lw_m8 148 rfl) rfl
theorem q1944 : (Jvm.Cond.instanceMethod ({ cls := "DripCupsModel", name := "cup", desc := "(II)I" } : Jvm.MethodName)) ∈ lw_all := lw_g (lw_at lw_m8 150 rfl) rfl
theorem q1945 : (Jvm.Cond.selects "DripCupsModel" ({ cls := "DripCupsModel", name := "cup", desc := "(II)I" } : Jvm.MethodName) ({ cls := "DripCupsModel", name := "cup", desc := "(II)I" } : Jvm.MethodName)) ∈ lw_all := lw_g (lw_at lw_m8 151 rfl) rfl
theorem q1946 : (Jvm.Cond.code ({ cls := "DripCupsModel", name := "cup", desc := "(II)I" } : Jvm.MethodName) prog_12_method_68_code (3 : Nat) (Option.some Jvm.ClassFile.FieldType.int)) ∈ lw_all := lw_g (lw_at lw_m8 152 rfl) rfl
theorem q1947 : (Jvm.Cond.methodLink "DripCupsModel" (351 : Nat) ({ cls := "DripCupsModel", name := "isCup", desc := "(I)Z" } : Jvm.MethodName)) ∈ lw_all := lw_g (lw_at lw_m8 153 rfl) rfl
theorem q1948 : (Jvm.Cond.privateMethod ({ cls := "DripCupsModel", name := "isCup", desc := "(I)Z" } : Jvm.MethodName)) ∈ lw_tbl := lw_at lw_m8 154 rfl
theorem q1949 : (Jvm.Cond.instanceMethod ({ cls := "DripCupsModel", name := "isCup", desc := "(I)Z" } : Jvm.MethodName)) ∈ lw_all := lw_g (lw_at lw_m8 155 rfl) rfl
theorem q1950 : (Jvm.Cond.code ({ cls := "DripCupsModel", name := "isCup", desc := "(I)Z" } : Jvm.MethodName) prog_12_method_62_code (2 : Nat) (Option.some Jvm.ClassFile.FieldType.boolean)) ∈ lw_all := lw_g (lw_at lw_m8 156 rfl) rfl
theorem q1951 : (Jvm.Cond.methodLink "DripCupsModel" (354 : Nat) ({ cls := "DripCupsModel", name := "isWhat", desc := "(II)Z" } : Jvm.MethodName)) ∈ lw_all := lw_g (lw_at lw_m8 157 rfl) rfl
theorem q1952 : (Jvm.Cond.privateMethod ({ cls := "DripCupsModel", name := "isWhat", desc := "(II)Z" } : Jvm.MethodName)) ∈ lw_tbl := lw_at lw_m8 158 rfl
theorem q1953 : (Jvm.Cond.instanceMethod ({ cls := "DripCupsModel", name := "isWhat", desc := "(II)Z" } : Jvm.MethodName)) ∈ lw_all := lw_g (lw_at lw_m8 159 rfl) rfl
theorem q1954 : (Jvm.Cond.code ({ cls := "DripCupsModel", name := "isWhat", desc := "(II)Z" } : Jvm.MethodName) prog_12_method_63_code (3 : Nat) (Option.some Jvm.ClassFile.FieldType.boolean)) ∈ lw_all := lw_g (lw_at lw_m8 160 rfl) rfl
theorem q1955 : (Jvm.Cond.methodLink "DripCupsModel" (357 : Nat) ({ cls := "DripCupsModel", name := "into", desc := "(II)I" } : Jvm.MethodName)) ∈ lw_all := lw_g (lw_at lw_m8 161 rfl) rfl
theorem q1956 : (Jvm.Cond.privateMethod ({ cls := "DripCupsModel", name := "into", desc := "(II)I" } : Jvm.MethodName)) ∈ lw_tbl := lw_at lw_m8 162 rfl
theorem q1957 : (Jvm.Cond.instanceMethod ({ cls := "DripCupsModel", name := "into", desc := "(II)I" } : Jvm.MethodName)) ∈ lw_all := lw_g (lw_at lw_m8 163 rfl) rfl
theorem q1958 : (Jvm.Cond.code ({ cls := "DripCupsModel", name := "into", desc := "(II)I" } : Jvm.MethodName) prog_12_method_67_code (3 : Nat) (Option.some Jvm.ClassFile.FieldType.int)) ∈ lw_all := lw_g (lw_at lw_m8 164 rfl) rfl
theorem q1959 : (Jvm.Cond.methodLink "DripCupsModel" (360 : Nat) ({ cls := "DripCupsModel", name := "deep", desc := "(I)I" } : Jvm.MethodName)) ∈ lw_all := lw_g (lw_at lw_m8 165 rfl) rfl
theorem q1960 : (Jvm.Cond.privateMethod ({ cls := "DripCupsModel", name := "deep", desc := "(I)I" } : Jvm.MethodName)) ∈ lw_tbl := lw_at lw_m8 166 rfl
theorem q1961 : (Jvm.Cond.instanceMethod ({ cls := "DripCupsModel", name := "deep", desc := "(I)I" } : Jvm.MethodName)) ∈ lw_all := lw_g (lw_at lw_m8 167 rfl) rfl
theorem q1962 : (Jvm.Cond.code ({ cls := "DripCupsModel", name := "deep", desc := "(I)I" } : Jvm.MethodName) prog_12_method_66_code (4 : Nat) (Option.some Jvm.ClassFile.FieldType.int)) ∈ lw_all := lw_g (lw_at lw_m8 168 rfl) rfl
theorem q1963 : (Jvm.Cond.methodLink "DripCupsModel" (348 : Nat) ({ cls := "DripCupsModel", name := "greater", desc := "(II)I" } : Jvm.MethodName)) ∈ lw_all := lw_g (lw_at lw_m8 169 rfl) rfl
theorem q1964 : (Jvm.Cond.static ({ cls := "DripCupsModel", name := "greater", desc := "(II)I" } : Jvm.MethodName)) ∈ lw_all := lw_g (lw_at lw_m8 170 rfl) rfl
theorem q1965 : (Jvm.Cond.code ({ cls := "DripCupsModel", name := "greater", desc := "(II)I" } : Jvm.MethodName) prog_12_method_7_code (2 : Nat) (Option.some Jvm.ClassFile.FieldType.int)) ∈ lw_all := lw_g (lw_at lw_m8 171 rfl) rfl
theorem q1967 : (Jvm.Cond.instanceMethod ({ cls := "DripCupsModel", name := "hours", desc := "(I)I" } : Jvm.MethodName)) ∈ lw_all := lw_g (lw_at lw_m8 173 rfl) rfl
theorem q1968 : (Jvm.Cond.selects "DripCupsModel" ({ cls := "DripCupsModel", name := "hours", desc := "(I)I" } : Jvm.MethodName) ({ cls := "DripCupsModel", name := "hours", desc := "(I)I" } : Jvm.MethodName)) ∈ lw_all := lw_g (lw_at lw_m8 174 rfl) rfl
theorem q1969 : (Jvm.Cond.code ({ cls := "DripCupsModel", name := "hours", desc := "(I)I" } : Jvm.MethodName) prog_12_method_69_code (3 : Nat) (Option.some Jvm.ClassFile.FieldType.int)) ∈ lw_all := lw_g (lw_at lw_m8 175 rfl) rfl
theorem q1970 : (Jvm.Cond.methodLink "DripCupsModel" (363 : Nat) ({ cls := "DripCupsModel", name := "refuses", desc := "(I)I" } : Jvm.MethodName)) ∈ lw_all := lw_g (lw_at lw_m8 176 rfl) rfl
theorem q1971 : (Jvm.Cond.privateMethod ({ cls := "DripCupsModel", name := "refuses", desc := "(I)I" } : Jvm.MethodName)) ∈ lw_tbl := lw_at lw_m8 177 rfl
theorem q1972 : (Jvm.Cond.instanceMethod ({ cls := "DripCupsModel", name := "refuses", desc := "(I)I" } : Jvm.MethodName)) ∈ lw_all := lw_g (lw_at lw_m8 178 rfl) rfl
theorem q1973 : (Jvm.Cond.code ({ cls := "DripCupsModel", name := "refuses", desc := "(I)I" } : Jvm.MethodName) prog_12_method_43_code (2 : Nat) (Option.some Jvm.ClassFile.FieldType.int)) ∈ lw_all := lw_g (lw_at lw_m8 179 rfl) rfl
theorem q1974 : (Jvm.Cond.methodLink "DripCupsModel" (366 : Nat) ({ cls := "DripCupsModel", name := "keeps", desc := "()V" } : Jvm.MethodName)) ∈ lw_all := lw_g (lw_at lw_m8 180 rfl) rfl
theorem q1975 : (Jvm.Cond.privateMethod ({ cls := "DripCupsModel", name := "keeps", desc := "()V" } : Jvm.MethodName)) ∈ lw_tbl := lw_at lw_m8 181 rfl
theorem q1976 : (Jvm.Cond.instanceMethod ({ cls := "DripCupsModel", name := "keeps", desc := "()V" } : Jvm.MethodName)) ∈ lw_all := lw_g (lw_at lw_m8 182 rfl) rfl
theorem q1977 : (Jvm.Cond.code ({ cls := "DripCupsModel", name := "keeps", desc := "()V" } : Jvm.MethodName) prog_12_method_42_code (2 : Nat) (Option.none : Option Jvm.ClassFile.FieldType)) ∈ lw_all := lw_g (lw_at lw_m8 183 rfl) rfl
theorem q1978 : (Jvm.Cond.methodLink "DripCupsModel" (323 : Nat) ({ cls := "DripCupsModel", name := "hourGoes", desc := "(I)V" } : Jvm.MethodName)) ∈ lw_all := lw_g (lw_at lw_m8 184 rfl) rfl
theorem q1979 : (Jvm.Cond.privateMethod ({ cls := "DripCupsModel", name := "hourGoes", desc := "(I)V" } : Jvm.MethodName)) ∈ lw_tbl := lw_at lw_m8 185 rfl
theorem q1980 : (Jvm.Cond.instanceMethod ({ cls := "DripCupsModel", name := "hourGoes", desc := "(I)V" } : Jvm.MethodName)) ∈ lw_all := lw_g (lw_at lw_m8 186 rfl) rfl
theorem q1981 : (Jvm.Cond.code ({ cls := "DripCupsModel", name := "hourGoes", desc := "(I)V" } : Jvm.MethodName) prog_12_method_53_code (4 : Nat) (Option.none : Option Jvm.ClassFile.FieldType)) ∈ lw_all := lw_g (lw_at lw_m8 187 rfl) rfl
theorem q1982 : (Jvm.Cond.methodLink "DripCupsModel" (310 : Nat) ({ cls := "DripCupsModel", name := "begins0", desc := "()V" } : Jvm.MethodName)) ∈ lw_all := lw_g (lw_at lw_m8 188 rfl) rfl
theorem q1983 : (Jvm.Cond.privateMethod ({ cls := "DripCupsModel", name := "begins0", desc := "()V" } : Jvm.MethodName)) ∈ lw_tbl := lw_at lw_m8 189 rfl
theorem q1984 : (Jvm.Cond.instanceMethod ({ cls := "DripCupsModel", name := "begins0", desc := "()V" } : Jvm.MethodName)) ∈ lw_all := lw_g (lw_at lw_m8 190 rfl) rfl
theorem q1985 : (Jvm.Cond.code ({ cls := "DripCupsModel", name := "begins0", desc := "()V" } : Jvm.MethodName) prog_12_method_52_code (2 : Nat) (Option.none : Option Jvm.ClassFile.FieldType)) ∈ lw_all := lw_g (lw_at lw_m8 191 rfl) rfl
theorem q1986 : (Jvm.Cond.methodLink "DripCupsModel" (313 : Nat) ({ cls := "DripCupsModel", name := "runs", desc := "(II)Z" } : Jvm.MethodName)) ∈ lw_all := lw_g (lw_at lw_m8 192 rfl) rfl
theorem q1987 : (Jvm.Cond.privateMethod ({ cls := "DripCupsModel", name := "runs", desc := "(II)Z" } : Jvm.MethodName)) ∈ lw_tbl := lw_at lw_m8 193 rfl
theorem q1988 : (Jvm.Cond.instanceMethod ({ cls := "DripCupsModel", name := "runs", desc := "(II)Z" } : Jvm.MethodName)) ∈ lw_all := lw_g (lw_at lw_m8 194 rfl) rfl
theorem q1989 : (Jvm.Cond.code ({ cls := "DripCupsModel", name := "runs", desc := "(II)Z" } : Jvm.MethodName) prog_12_method_51_code (3 : Nat) (Option.some Jvm.ClassFile.FieldType.boolean)) ∈ lw_all := lw_g (lw_at lw_m8 195 rfl) rfl
theorem q1990 : (Jvm.Cond.methodLink "DripCupsModel" (307 : Nat) ({ cls := "DripCupsModel", name := "asks", desc := "(III)I" } : Jvm.MethodName)) ∈ lw_all := lw_g (lw_at lw_m8 196 rfl) rfl
theorem q1991 : (Jvm.Cond.privateMethod ({ cls := "DripCupsModel", name := "asks", desc := "(III)I" } : Jvm.MethodName)) ∈ lw_tbl := lw_at lw_m8 197 rfl
theorem q1992 : (Jvm.Cond.instanceMethod ({ cls := "DripCupsModel", name := "asks", desc := "(III)I" } : Jvm.MethodName)) ∈ lw_all := lw_g (lw_at lw_m8 198 rfl) rfl
theorem q1993 : (Jvm.Cond.code ({ cls := "DripCupsModel", name := "asks", desc := "(III)I" } : Jvm.MethodName) prog_12_method_48_code (4 : Nat) (Option.some Jvm.ClassFile.FieldType.int)) ∈ lw_all := lw_g (lw_at lw_m8 199 rfl) rfl
theorem q1994 : (Jvm.Cond.methodLink "DripCupsModel" (290 : Nat) ({ cls := "DripCupsModel", name := "reckons", desc := "(I)I" } : Jvm.MethodName)) ∈ lw_all := lw_g (lw_at lw_m8 200 rfl) rfl
theorem q1995 : (Jvm.Cond.privateMethod ({ cls := "DripCupsModel", name := "reckons", desc := "(I)I" } : Jvm.MethodName)) ∈ lw_tbl := lw_at lw_m8 201 rfl
theorem q1996 : (Jvm.Cond.instanceMethod ({ cls := "DripCupsModel", name := "reckons", desc := "(I)I" } : Jvm.MethodName)) ∈ lw_all := lw_g (lw_at lw_m8 202 rfl) rfl
theorem q1997 : (Jvm.Cond.code ({ cls := "DripCupsModel", name := "reckons", desc := "(I)I" } : Jvm.MethodName) prog_12_method_47_code (5 : Nat) (Option.some Jvm.ClassFile.FieldType.int)) ∈ lw_all := lw_g (lw_at lw_m8 203 rfl) rfl
theorem q1998 : (Jvm.Cond.methodLink "DripCupsModel" (286 : Nat) ({ cls := "DripCupsModel", name := "works", desc := "(III)I" } : Jvm.MethodName)) ∈ lw_all := lw_g (lw_at lw_m8 204 rfl) rfl
theorem q1999 : (Jvm.Cond.static ({ cls := "DripCupsModel", name := "works", desc := "(III)I" } : Jvm.MethodName)) ∈ lw_all := lw_g (lw_at lw_m8 205 rfl) rfl
theorem q2000 : (Jvm.Cond.code ({ cls := "DripCupsModel", name := "works", desc := "(III)I" } : Jvm.MethodName) prog_12_method_46_code (3 : Nat) (Option.some Jvm.ClassFile.FieldType.int)) ∈ lw_all := lw_g (lw_at lw_m8 206 rfl) rfl
theorem q2001 : (Jvm.Cond.methodLink "DripCupsModel" (317 : Nat) ({ cls := "DripCupsModel", name := "gets", desc := "(III)V" } : Jvm.MethodName)) ∈ lw_all := lw_g (lw_at lw_m8 207 rfl) rfl
theorem q2002 : (Jvm.Cond.privateMethod ({ cls := "DripCupsModel", name := "gets", desc := "(III)V" } : Jvm.MethodName)) ∈ lw_tbl := lw_at lw_m8 208 rfl
theorem q2003 : (Jvm.Cond.instanceMethod ({ cls := "DripCupsModel", name := "gets", desc := "(III)V" } : Jvm.MethodName)) ∈ lw_all := lw_g (lw_at lw_m8 209 rfl) rfl
theorem q2004 : (Jvm.Cond.code ({ cls := "DripCupsModel", name := "gets", desc := "(III)V" } : Jvm.MethodName) prog_12_method_50_code (6 : Nat) (Option.none : Option Jvm.ClassFile.FieldType)) ∈ lw_all := lw_g (lw_at lw_m8 210 rfl) rfl
theorem q2005 : (Jvm.Cond.methodLink "DripCupsModel" (303 : Nat) ({ cls := "DripCupsModel", name := "falls", desc := "(III)V" } : Jvm.MethodName)) ∈ lw_all := lw_g (lw_at lw_m8 211 rfl) rfl
theorem q2006 : (Jvm.Cond.privateMethod ({ cls := "DripCupsModel", name := "falls", desc := "(III)V" } : Jvm.MethodName)) ∈ lw_tbl := lw_at lw_m8 212 rfl
theorem q2007 : (Jvm.Cond.instanceMethod ({ cls := "DripCupsModel", name := "falls", desc := "(III)V" } : Jvm.MethodName)) ∈ lw_all := lw_g (lw_at lw_m8 213 rfl) rfl
theorem q2008 : (Jvm.Cond.code ({ cls := "DripCupsModel", name := "falls", desc := "(III)V" } : Jvm.MethodName) prog_12_method_49_code (7 : Nat) (Option.none : Option Jvm.ClassFile.FieldType)) ∈ lw_all := lw_g (lw_at lw_m8 214 rfl) rfl
theorem q2009 : (Jvm.Cond.methodLink "DripCupsModel" (320 : Nat) ({ cls := "DripCupsModel", name := "bounded", desc := "(III)I" } : Jvm.MethodName)) ∈ lw_all := lw_g (lw_at lw_m8 215 rfl) rfl
theorem q2010 : (Jvm.Cond.static ({ cls := "DripCupsModel", name := "bounded", desc := "(III)I" } : Jvm.MethodName)) ∈ lw_all := lw_g (lw_at lw_m8 216 rfl) rfl
theorem q2011 : (Jvm.Cond.code ({ cls := "DripCupsModel", name := "bounded", desc := "(III)I" } : Jvm.MethodName) prog_12_method_5_code (3 : Nat) (Option.some Jvm.ClassFile.FieldType.int)) ∈ lw_all := lw_g (lw_at lw_m8 217 rfl) rfl
theorem q2013 : (Jvm.Cond.instanceMethod ({ cls := "DripCupsModel", name := "lead", desc := "(II)Z" } : Jvm.MethodName)) ∈ lw_all := lw_g (lw_at lw_m8 219 rfl) rfl
theorem q2014 : (Jvm.Cond.selects "DripCupsModel" ({ cls := "DripCupsModel", name := "lead", desc := "(II)Z" } : Jvm.MethodName) ({ cls := "DripCupsModel", name := "lead", desc := "(II)Z" } : Jvm.MethodName)) ∈ lw_all := lw_g (lw_at lw_m8 220 rfl) rfl
theorem q2015 : (Jvm.Cond.code ({ cls := "DripCupsModel", name := "lead", desc := "(II)Z" } : Jvm.MethodName) prog_12_method_71_code (3 : Nat) (Option.some Jvm.ClassFile.FieldType.boolean)) ∈ lw_all := lw_g (lw_at lw_m8 221 rfl) rfl
theorem q2016 : (Jvm.Cond.methodLink "DripCupsModel" (369 : Nat) ({ cls := "DripCupsModel", name := "leads", desc := "(III)V" } : Jvm.MethodName)) ∈ lw_all := lw_g (lw_at lw_m8 222 rfl) rfl
theorem q2017 : (Jvm.Cond.privateMethod ({ cls := "DripCupsModel", name := "leads", desc := "(III)V" } : Jvm.MethodName)) ∈ lw_tbl := lw_at lw_m8 223 rfl
theorem q2018 : (Jvm.Cond.instanceMethod ({ cls := "DripCupsModel", name := "leads", desc := "(III)V" } : Jvm.MethodName)) ∈ lw_all := lw_g (lw_at lw_m8 224 rfl) rfl
theorem q2019 : (Jvm.Cond.code ({ cls := "DripCupsModel", name := "leads", desc := "(III)V" } : Jvm.MethodName) prog_12_method_70_code (4 : Nat) (Option.none : Option Jvm.ClassFile.FieldType)) ∈ lw_all := lw_g (lw_at lw_m8 225 rfl) rfl
theorem q2021 : (Jvm.Cond.instanceMethod ({ cls := "DripCupsModel", name := "plug", desc := "(IZ)Z" } : Jvm.MethodName)) ∈ lw_all := lw_g (lw_at lw_m8 227 rfl) rfl
theorem q2022 : (Jvm.Cond.selects "DripCupsModel" ({ cls := "DripCupsModel", name := "plug", desc := "(IZ)Z" } : Jvm.MethodName) ({ cls := "DripCupsModel", name := "plug", desc := "(IZ)Z" } : Jvm.MethodName)) ∈ lw_all := lw_g (lw_at lw_m8 228 rfl) rfl
theorem q2023 : (Jvm.Cond.code ({ cls := "DripCupsModel", name := "plug", desc := "(IZ)Z" } : Jvm.MethodName) prog_12_method_72_code (3 : Nat) (Option.some Jvm.ClassFile.FieldType.boolean)) ∈ lw_all := lw_g (lw_at lw_m8 229 rfl) rfl
theorem q2025 : (Jvm.Cond.instanceMethod ({ cls := "DripCupsModel", name := "pour", desc := "(II)I" } : Jvm.MethodName)) ∈ lw_all := lw_g (lw_at lw_m8 231 rfl) rfl
theorem q2026 : (Jvm.Cond.selects "DripCupsModel" ({ cls := "DripCupsModel", name := "pour", desc := "(II)I" } : Jvm.MethodName) ({ cls := "DripCupsModel", name := "pour", desc := "(II)I" } : Jvm.MethodName)) ∈ lw_all := lw_g (lw_at lw_m8 232 rfl) rfl
theorem q2027 : (Jvm.Cond.code ({ cls := "DripCupsModel", name := "pour", desc := "(II)I" } : Jvm.MethodName) prog_12_method_74_code (3 : Nat) (Option.some Jvm.ClassFile.FieldType.int)) ∈ lw_all := lw_g (lw_at lw_m8 233 rfl) rfl
theorem q2028 : (Jvm.Cond.methodLink "DripCupsModel" (372 : Nat) ({ cls := "DripCupsModel", name := "pours", desc := "(III)I" } : Jvm.MethodName)) ∈ lw_all := lw_g (lw_at lw_m8 234 rfl) rfl
theorem q2029 : (Jvm.Cond.privateMethod ({ cls := "DripCupsModel", name := "pours", desc := "(III)I" } : Jvm.MethodName)) ∈ lw_tbl := lw_at lw_m8 235 rfl
theorem q2030 : (Jvm.Cond.instanceMethod ({ cls := "DripCupsModel", name := "pours", desc := "(III)I" } : Jvm.MethodName)) ∈ lw_all := lw_g (lw_at lw_m8 236 rfl) rfl
theorem q2031 : (Jvm.Cond.code ({ cls := "DripCupsModel", name := "pours", desc := "(III)I" } : Jvm.MethodName) prog_12_method_73_code (5 : Nat) (Option.some Jvm.ClassFile.FieldType.int)) ∈ lw_all := lw_g (lw_at lw_m8 237 rfl) rfl
theorem q2033 : (Jvm.Cond.instanceMethod ({ cls := "DripCupsModel", name := "crack", desc := "(II)I" } : Jvm.MethodName)) ∈ lw_all := lw_g (lw_at lw_m8 239 rfl) rfl
theorem q2034 : (Jvm.Cond.selects "DripCupsModel" ({ cls := "DripCupsModel", name := "crack", desc := "(II)I" } : Jvm.MethodName) ({ cls := "DripCupsModel", name := "crack", desc := "(II)I" } : Jvm.MethodName)) ∈ lw_all := lw_g (lw_at lw_m9 0 rfl) rfl
theorem q2035 : (Jvm.Cond.code ({ cls := "DripCupsModel", name := "crack", desc := "(II)I" } : Jvm.MethodName) prog_12_method_76_code (4 : Nat) (Option.some Jvm.ClassFile.FieldType.int)) ∈ lw_all := lw_g (lw_at lw_m9 1 rfl) rfl
theorem q2036 : (Jvm.Cond.methodLink "DripCupsModel" (375 : Nat) ({ cls := "DripCupsModel", name := "cracks", desc := "(III)V" } : Jvm.MethodName)) ∈ lw_all := lw_g (lw_at lw_m9 2 rfl) rfl
theorem q2037 : (Jvm.Cond.privateMethod ({ cls := "DripCupsModel", name := "cracks", desc := "(III)V" } : Jvm.MethodName)) ∈ lw_tbl := lw_at lw_m9 3 rfl
theorem q2038 : (Jvm.Cond.instanceMethod ({ cls := "DripCupsModel", name := "cracks", desc := "(III)V" } : Jvm.MethodName)) ∈ lw_all := lw_g (lw_at lw_m9 4 rfl) rfl
theorem q2039 : (Jvm.Cond.code ({ cls := "DripCupsModel", name := "cracks", desc := "(III)V" } : Jvm.MethodName) prog_12_method_75_code (4 : Nat) (Option.none : Option Jvm.ClassFile.FieldType)) ∈ lw_all := lw_g (lw_at lw_m9 5 rfl) rfl
theorem q2041 : (Jvm.Cond.instanceMethod ({ cls := "DripCupsModel", name := "then", desc := "(III)I" } : Jvm.MethodName)) ∈ lw_all := lw_g (lw_at lw_m9 7 rfl) rfl
theorem q2042 : (Jvm.Cond.selects "DripCupsModel" ({ cls := "DripCupsModel", name := "then", desc := "(III)I" } : Jvm.MethodName) ({ cls := "DripCupsModel", name := "then", desc := "(III)I" } : Jvm.MethodName)) ∈ lw_all := lw_g (lw_at lw_m9 8 rfl) rfl
theorem q2043 : (Jvm.Cond.code ({ cls := "DripCupsModel", name := "then", desc := "(III)I" } : Jvm.MethodName) prog_12_method_77_code (6 : Nat) (Option.some Jvm.ClassFile.FieldType.int)) ∈ lw_all := lw_g (lw_at lw_m9 9 rfl) rfl
theorem q2044 : (Jvm.Cond.methodLink "DripCupsModel" (378 : Nat) ({ cls := "DripCupsModel", name := "isSoon", desc := "(III)Z" } : Jvm.MethodName)) ∈ lw_all := lw_g (lw_at lw_m9 10 rfl) rfl
theorem q2045 : (Jvm.Cond.privateMethod ({ cls := "DripCupsModel", name := "isSoon", desc := "(III)Z" } : Jvm.MethodName)) ∈ lw_tbl := lw_at lw_m9 11 rfl
theorem q2046 : (Jvm.Cond.instanceMethod ({ cls := "DripCupsModel", name := "isSoon", desc := "(III)Z" } : Jvm.MethodName)) ∈ lw_all := lw_g (lw_at lw_m9 12 rfl) rfl
theorem q2047 : (Jvm.Cond.code ({ cls := "DripCupsModel", name := "isSoon", desc := "(III)Z" } : Jvm.MethodName) prog_12_method_65_code (4 : Nat) (Option.some Jvm.ClassFile.FieldType.boolean)) ∈ lw_all := lw_g (lw_at lw_m9 13 rfl) rfl
theorem q2048 : (Jvm.Cond.methodLink "DripCupsModel" (381 : Nat) ({ cls := "DripCupsModel", name := "tries", desc := "()V" } : Jvm.MethodName)) ∈ lw_all := lw_g (lw_at lw_m9 14 rfl) rfl
theorem q2049 : (Jvm.Cond.privateMethod ({ cls := "DripCupsModel", name := "tries", desc := "()V" } : Jvm.MethodName)) ∈ lw_tbl := lw_at lw_m9 15 rfl
theorem q2050 : (Jvm.Cond.instanceMethod ({ cls := "DripCupsModel", name := "tries", desc := "()V" } : Jvm.MethodName)) ∈ lw_all := lw_g (lw_at lw_m9 16 rfl) rfl
theorem q2051 : (Jvm.Cond.code ({ cls := "DripCupsModel", name := "tries", desc := "()V" } : Jvm.MethodName) prog_12_method_45_code (2 : Nat) (Option.none : Option Jvm.ClassFile.FieldType)) ∈ lw_all := lw_g (lw_at lw_m9 17 rfl) rfl
theorem q2053 : (Jvm.Cond.instanceMethod ({ cls := "DripCupsModel", name := "tipping", desc := "(I)I" } : Jvm.MethodName)) ∈ lw_all := lw_g (lw_at lw_m9 19 rfl) rfl
theorem q2054 : (Jvm.Cond.selects "DripCupsModel" ({ cls := "DripCupsModel", name := "tipping", desc := "(I)I" } : Jvm.MethodName) ({ cls := "DripCupsModel", name := "tipping", desc := "(I)I" } : Jvm.MethodName)) ∈ lw_all := lw_g (lw_at lw_m9 20 rfl) rfl
theorem q2055 : (Jvm.Cond.code ({ cls := "DripCupsModel", name := "tipping", desc := "(I)I" } : Jvm.MethodName) prog_12_method_78_code (2 : Nat) (Option.some Jvm.ClassFile.FieldType.int)) ∈ lw_all := lw_g (lw_at lw_m9 21 rfl) rfl
theorem q2056 : (Jvm.Cond.methodLink "DripCupsModel" (384 : Nat) ({ cls := "DripCupsModel", name := "hoursGo", desc := "(I)V" } : Jvm.MethodName)) ∈ lw_all := lw_g (lw_at lw_m9 22 rfl) rfl
theorem q2057 : (Jvm.Cond.privateMethod ({ cls := "DripCupsModel", name := "hoursGo", desc := "(I)V" } : Jvm.MethodName)) ∈ lw_tbl := lw_at lw_m9 23 rfl
theorem q2058 : (Jvm.Cond.instanceMethod ({ cls := "DripCupsModel", name := "hoursGo", desc := "(I)V" } : Jvm.MethodName)) ∈ lw_all := lw_g (lw_at lw_m9 24 rfl) rfl
theorem q2059 : (Jvm.Cond.code ({ cls := "DripCupsModel", name := "hoursGo", desc := "(I)V" } : Jvm.MethodName) prog_12_method_54_code (3 : Nat) (Option.none : Option Jvm.ClassFile.FieldType)) ∈ lw_all := lw_g (lw_at lw_m9 25 rfl) rfl
theorem q2061 : (Jvm.Cond.instanceMethod ({ cls := "DripCupsModel", name := "next", desc := "(I)I" } : Jvm.MethodName)) ∈ lw_all := lw_g (lw_at lw_m9 27 rfl) rfl
theorem q2062 : (Jvm.Cond.selects "DripCupsModel" ({ cls := "DripCupsModel", name := "next", desc := "(I)I" } : Jvm.MethodName) ({ cls := "DripCupsModel", name := "next", desc := "(I)I" } : Jvm.MethodName)) ∈ lw_all := lw_g (lw_at lw_m9 28 rfl) rfl
theorem q2063 : (Jvm.Cond.code ({ cls := "DripCupsModel", name := "next", desc := "(I)I" } : Jvm.MethodName) prog_12_method_80_code (2 : Nat) (Option.some Jvm.ClassFile.FieldType.int)) ∈ lw_all := lw_g (lw_at lw_m9 29 rfl) rfl
theorem q2064 : (Jvm.Cond.methodLink "DripCupsModel" (387 : Nat) ({ cls := "DripCupsModel", name := "allTip", desc := "(II)I" } : Jvm.MethodName)) ∈ lw_all := lw_g (lw_at lw_m9 30 rfl) rfl
theorem q2065 : (Jvm.Cond.privateMethod ({ cls := "DripCupsModel", name := "allTip", desc := "(II)I" } : Jvm.MethodName)) ∈ lw_tbl := lw_at lw_m9 31 rfl
theorem q2066 : (Jvm.Cond.instanceMethod ({ cls := "DripCupsModel", name := "allTip", desc := "(II)I" } : Jvm.MethodName)) ∈ lw_all := lw_g (lw_at lw_m9 32 rfl) rfl
theorem q2067 : (Jvm.Cond.code ({ cls := "DripCupsModel", name := "allTip", desc := "(II)I" } : Jvm.MethodName) prog_12_method_79_code (4 : Nat) (Option.some Jvm.ClassFile.FieldType.int)) ∈ lw_all := lw_g (lw_at lw_m9 33 rfl) rfl
theorem q2069 : (Jvm.Cond.instanceMethod ({ cls := "DripCupsModel", name := "together", desc := "(I)I" } : Jvm.MethodName)) ∈ lw_all := lw_g (lw_at lw_m9 35 rfl) rfl
theorem q2070 : (Jvm.Cond.selects "DripCupsModel" ({ cls := "DripCupsModel", name := "together", desc := "(I)I" } : Jvm.MethodName) ({ cls := "DripCupsModel", name := "together", desc := "(I)I" } : Jvm.MethodName)) ∈ lw_all := lw_g (lw_at lw_m9 36 rfl) rfl
theorem q2071 : (Jvm.Cond.code ({ cls := "DripCupsModel", name := "together", desc := "(I)I" } : Jvm.MethodName) prog_12_method_81_code (2 : Nat) (Option.some Jvm.ClassFile.FieldType.int)) ∈ lw_all := lw_g (lw_at lw_m9 37 rfl) rfl
theorem q2072 : (Jvm.Cond.methodLink "DripCupsModel" (390 : Nat) ({ cls := "DripCupsModel", name := "isSome", desc := "(I)Z" } : Jvm.MethodName)) ∈ lw_all := lw_g (lw_at lw_m9 38 rfl) rfl
theorem q2073 : (Jvm.Cond.privateMethod ({ cls := "DripCupsModel", name := "isSome", desc := "(I)Z" } : Jvm.MethodName)) ∈ lw_tbl := lw_at lw_m9 39 rfl
theorem q2074 : (Jvm.Cond.instanceMethod ({ cls := "DripCupsModel", name := "isSome", desc := "(I)Z" } : Jvm.MethodName)) ∈ lw_all := lw_g (lw_at lw_m9 40 rfl) rfl
theorem q2075 : (Jvm.Cond.code ({ cls := "DripCupsModel", name := "isSome", desc := "(I)Z" } : Jvm.MethodName) prog_12_method_64_code (2 : Nat) (Option.some Jvm.ClassFile.FieldType.boolean)) ∈ lw_all := lw_g (lw_at lw_m9 41 rfl) rfl
theorem q2077 : (Jvm.Cond.instanceMethod ({ cls := "DripCupsModel", name := "pause", desc := "(I)I" } : Jvm.MethodName)) ∈ lw_all := lw_g (lw_at lw_m9 43 rfl) rfl
theorem q2078 : (Jvm.Cond.selects "DripCupsModel" ({ cls := "DripCupsModel", name := "pause", desc := "(I)I" } : Jvm.MethodName) ({ cls := "DripCupsModel", name := "pause", desc := "(I)I" } : Jvm.MethodName)) ∈ lw_all := lw_g (lw_at lw_m9 44 rfl) rfl
theorem q2079 : (Jvm.Cond.code ({ cls := "DripCupsModel", name := "pause", desc := "(I)I" } : Jvm.MethodName) prog_12_method_82_code (4 : Nat) (Option.some Jvm.ClassFile.FieldType.int)) ∈ lw_all := lw_g (lw_at lw_m9 45 rfl) rfl
theorem q2081 : (Jvm.Cond.instanceMethod ({ cls := "DripCupsModel", name := "sound", desc := "(II)I" } : Jvm.MethodName)) ∈ lw_all := lw_g (lw_at lw_m9 47 rfl) rfl
theorem q2082 : (Jvm.Cond.selects "DripCupsModel" ({ cls := "DripCupsModel", name := "sound", desc := "(II)I" } : Jvm.MethodName) ({ cls := "DripCupsModel", name := "sound", desc := "(II)I" } : Jvm.MethodName)) ∈ lw_all := lw_g (lw_at lw_m9 48 rfl) rfl
theorem q2083 : (Jvm.Cond.code ({ cls := "DripCupsModel", name := "sound", desc := "(II)I" } : Jvm.MethodName) prog_12_method_83_code (8 : Nat) (Option.some Jvm.ClassFile.FieldType.int)) ∈ lw_all := lw_g (lw_at lw_m9 49 rfl) rfl
theorem q2084 : (Jvm.Cond.methodLink "DripCupsModel" (393 : Nat) ({ cls := "DripCupsModel", name := "bits", desc := "(I)I" } : Jvm.MethodName)) ∈ lw_all := lw_g (lw_at lw_m9 50 rfl) rfl
theorem q2085 : (Jvm.Cond.static ({ cls := "DripCupsModel", name := "bits", desc := "(I)I" } : Jvm.MethodName)) ∈ lw_all := lw_g (lw_at lw_m9 51 rfl) rfl
theorem q2086 : (Jvm.Cond.code ({ cls := "DripCupsModel", name := "bits", desc := "(I)I" } : Jvm.MethodName) prog_12_method_9_code (3 : Nat) (Option.some Jvm.ClassFile.FieldType.int)) ∈ lw_all := lw_g (lw_at lw_m9 52 rfl) rfl
theorem q2088 : (Jvm.Cond.instanceMethod ({ cls := "DripCupsModel", name := "chorus", desc := "(II)I" } : Jvm.MethodName)) ∈ lw_all := lw_g (lw_at lw_m9 54 rfl) rfl
theorem q2089 : (Jvm.Cond.selects "DripCupsModel" ({ cls := "DripCupsModel", name := "chorus", desc := "(II)I" } : Jvm.MethodName) ({ cls := "DripCupsModel", name := "chorus", desc := "(II)I" } : Jvm.MethodName)) ∈ lw_all := lw_g (lw_at lw_m9 55 rfl) rfl
theorem q2090 : (Jvm.Cond.code ({ cls := "DripCupsModel", name := "chorus", desc := "(II)I" } : Jvm.MethodName) prog_12_method_84_code (5 : Nat) (Option.some Jvm.ClassFile.FieldType.int)) ∈ lw_all := lw_g (lw_at lw_m9 56 rfl) rfl
theorem q2092 : (Jvm.Cond.instanceMethod ({ cls := "DripCupsModel", name := "never", desc := "(I)I" } : Jvm.MethodName)) ∈ lw_all := lw_g (lw_at lw_m9 58 rfl) rfl
theorem q2093 : (Jvm.Cond.selects "DripCupsModel" ({ cls := "DripCupsModel", name := "never", desc := "(I)I" } : Jvm.MethodName) ({ cls := "DripCupsModel", name := "never", desc := "(I)I" } : Jvm.MethodName)) ∈ lw_all := lw_g (lw_at lw_m9 59 rfl) rfl
theorem q2094 : (Jvm.Cond.code ({ cls := "DripCupsModel", name := "never", desc := "(I)I" } : Jvm.MethodName) prog_12_method_85_code (4 : Nat) (Option.some Jvm.ClassFile.FieldType.int)) ∈ lw_all := lw_g (lw_at lw_m9 60 rfl) rfl
theorem q2096 : (Jvm.Cond.instanceMethod ({ cls := "DripCupsModel", name := "swell", desc := "(II)I" } : Jvm.MethodName)) ∈ lw_all := lw_g (lw_at lw_m9 62 rfl) rfl
theorem q2097 : (Jvm.Cond.selects "DripCupsModel" ({ cls := "DripCupsModel", name := "swell", desc := "(II)I" } : Jvm.MethodName) ({ cls := "DripCupsModel", name := "swell", desc := "(II)I" } : Jvm.MethodName)) ∈ lw_all := lw_g (lw_at lw_m9 63 rfl) rfl
theorem q2098 : (Jvm.Cond.code ({ cls := "DripCupsModel", name := "swell", desc := "(II)I" } : Jvm.MethodName) prog_12_method_86_code (5 : Nat) (Option.some Jvm.ClassFile.FieldType.int)) ∈ lw_all := lw_g (lw_at lw_m9 64 rfl) rfl
theorem q2100 : (Jvm.Cond.instanceMethod ({ cls := "DripCupsModel", name := "later", desc := "(II)I" } : Jvm.MethodName)) ∈ lw_all := lw_g (lw_at lw_m9 66 rfl) rfl
theorem q2101 : (Jvm.Cond.selects "DripCupsModel" ({ cls := "DripCupsModel", name := "later", desc := "(II)I" } : Jvm.MethodName) ({ cls := "DripCupsModel", name := "later", desc := "(II)I" } : Jvm.MethodName)) ∈ lw_all := lw_g (lw_at lw_m9 67 rfl) rfl
theorem q2102 : (Jvm.Cond.code ({ cls := "DripCupsModel", name := "later", desc := "(II)I" } : Jvm.MethodName) prog_12_method_87_code (7 : Nat) (Option.some Jvm.ClassFile.FieldType.int)) ∈ lw_all := lw_g (lw_at lw_m9 68 rfl) rfl
theorem q2104 : (Jvm.Cond.instanceMethod ({ cls := "DripCupsModel", name := "oftenest", desc := "(I)I" } : Jvm.MethodName)) ∈ lw_all := lw_g (lw_at lw_m9 70 rfl) rfl
theorem q2105 : (Jvm.Cond.selects "DripCupsModel" ({ cls := "DripCupsModel", name := "oftenest", desc := "(I)I" } : Jvm.MethodName) ({ cls := "DripCupsModel", name := "oftenest", desc := "(I)I" } : Jvm.MethodName)) ∈ lw_all := lw_g (lw_at lw_m9 71 rfl) rfl
theorem q2106 : (Jvm.Cond.code ({ cls := "DripCupsModel", name := "oftenest", desc := "(I)I" } : Jvm.MethodName) prog_12_method_88_code (4 : Nat) (Option.some Jvm.ClassFile.FieldType.int)) ∈ lw_all := lw_g (lw_at lw_m9 72 rfl) rfl
theorem q2108 : (Jvm.Cond.instanceMethod ({ cls := "DripCupsModel", name := "round", desc := "()I" } : Jvm.MethodName)) ∈ lw_all := lw_g (lw_at lw_m9 74 rfl) rfl
theorem q2109 : (Jvm.Cond.selects "DripCupsModel" ({ cls := "DripCupsModel", name := "round", desc := "()I" } : Jvm.MethodName) ({ cls := "DripCupsModel", name := "round", desc := "()I" } : Jvm.MethodName)) ∈ lw_all := lw_g (lw_at lw_m9 75 rfl) rfl
theorem q2110 : (Jvm.Cond.code ({ cls := "DripCupsModel", name := "round", desc := "()I" } : Jvm.MethodName) prog_12_method_89_code (4 : Nat) (Option.some Jvm.ClassFile.FieldType.int)) ∈ lw_all := lw_g (lw_at lw_m9 76 rfl) rfl
theorem q2112 : (Jvm.Cond.instanceMethod ({ cls := "DripCupsModel", name := "fallen", desc := "(II)I" } : Jvm.MethodName)) ∈ lw_all := lw_g (lw_at lw_m9 78 rfl) rfl
theorem q2113 : (Jvm.Cond.selects "DripCupsModel" ({ cls := "DripCupsModel", name := "fallen", desc := "(II)I" } : Jvm.MethodName) ({ cls := "DripCupsModel", name := "fallen", desc := "(II)I" } : Jvm.MethodName)) ∈ lw_all := lw_g (lw_at lw_m9 79 rfl) rfl
theorem q2114 : (Jvm.Cond.code ({ cls := "DripCupsModel", name := "fallen", desc := "(II)I" } : Jvm.MethodName) prog_12_method_92_code (3 : Nat) (Option.some Jvm.ClassFile.FieldType.int)) ∈ lw_all := lw_g (lw_at lw_m9 80 rfl) rfl
theorem q2115 : (Jvm.Cond.constant "DripCupsModel" (399 : Nat) (1000000 : Int32)) ∈ lw_all := lw_g (lw_at lw_m9 81 rfl) rfl
theorem q2116 : (Jvm.Cond.methodLink "DripCupsModel" (400 : Nat) ({ cls := "DripCupsModel", name := "flows", desc := "(I)V" } : Jvm.MethodName)) ∈ lw_all := lw_g (lw_at lw_m9 82 rfl) rfl
theorem q2117 : (Jvm.Cond.privateMethod ({ cls := "DripCupsModel", name := "flows", desc := "(I)V" } : Jvm.MethodName)) ∈ lw_tbl := lw_at lw_m9 83 rfl
theorem q2118 : (Jvm.Cond.instanceMethod ({ cls := "DripCupsModel", name := "flows", desc := "(I)V" } : Jvm.MethodName)) ∈ lw_all := lw_g (lw_at lw_m9 84 rfl) rfl
theorem q2119 : (Jvm.Cond.code ({ cls := "DripCupsModel", name := "flows", desc := "(I)V" } : Jvm.MethodName) prog_12_method_90_code (4 : Nat) (Option.none : Option Jvm.ClassFile.FieldType)) ∈ lw_all := lw_g (lw_at lw_m9 85 rfl) rfl
theorem q2120 : (Jvm.Cond.methodLink "DripCupsModel" (396 : Nat) ({ cls := "DripCupsModel", name := "gives", desc := "(II)I" } : Jvm.MethodName)) ∈ lw_all := lw_g (lw_at lw_m9 86 rfl) rfl
theorem q2121 : (Jvm.Cond.privateMethod ({ cls := "DripCupsModel", name := "gives", desc := "(II)I" } : Jvm.MethodName)) ∈ lw_tbl := lw_at lw_m9 87 rfl
theorem q2122 : (Jvm.Cond.instanceMethod ({ cls := "DripCupsModel", name := "gives", desc := "(II)I" } : Jvm.MethodName)) ∈ lw_all := lw_g (lw_at lw_m9 88 rfl) rfl
theorem q2123 : (Jvm.Cond.code ({ cls := "DripCupsModel", name := "gives", desc := "(II)I" } : Jvm.MethodName) prog_12_method_91_code (3 : Nat) (Option.some Jvm.ClassFile.FieldType.int)) ∈ lw_all := lw_g (lw_at lw_m9 89 rfl) rfl
theorem q2125 : (Jvm.Cond.instanceMethod ({ cls := "DripCupsModel", name := "flow", desc := "(II)I" } : Jvm.MethodName)) ∈ lw_all := lw_g (lw_at lw_m9 91 rfl) rfl
theorem q2126 : (Jvm.Cond.selects "DripCupsModel" ({ cls := "DripCupsModel", name := "flow", desc := "(II)I" } : Jvm.MethodName) ({ cls := "DripCupsModel", name := "flow", desc := "(II)I" } : Jvm.MethodName)) ∈ lw_all := lw_g (lw_at lw_m9 92 rfl) rfl
theorem q2127 : (Jvm.Cond.code ({ cls := "DripCupsModel", name := "flow", desc := "(II)I" } : Jvm.MethodName) prog_12_method_93_code (3 : Nat) (Option.some Jvm.ClassFile.FieldType.int)) ∈ lw_all := lw_g (lw_at lw_m9 93 rfl) rfl
theorem q2129 : (Jvm.Cond.instanceMethod ({ cls := "DripCupsModel", name := "nth", desc := "(II)I" } : Jvm.MethodName)) ∈ lw_all := lw_g (lw_at lw_m9 95 rfl) rfl
theorem q2130 : (Jvm.Cond.selects "DripCupsModel" ({ cls := "DripCupsModel", name := "nth", desc := "(II)I" } : Jvm.MethodName) ({ cls := "DripCupsModel", name := "nth", desc := "(II)I" } : Jvm.MethodName)) ∈ lw_all := lw_g (lw_at lw_m9 96 rfl) rfl
theorem q2131 : (Jvm.Cond.code ({ cls := "DripCupsModel", name := "nth", desc := "(II)I" } : Jvm.MethodName) prog_12_method_94_code (6 : Nat) (Option.some Jvm.ClassFile.FieldType.int)) ∈ lw_all := lw_g (lw_at lw_m9 97 rfl) rfl
theorem q2132 : (Jvm.Cond.constant "DripCupsModel" (403 : Nat) (100000000 : Int32)) ∈ lw_all := lw_g (lw_at lw_m9 98 rfl) rfl
theorem q2133 : (Jvm.Cond.constant "DripCupsModel" (404 : Nat) (1000001 : Int32)) ∈ lw_all := lw_g (lw_at lw_m9 99 rfl) rfl
theorem q2135 : (Jvm.Cond.instanceMethod ({ cls := "DripCupsModel", name := "meeting", desc := "(I)I" } : Jvm.MethodName)) ∈ lw_all := lw_g (lw_at lw_m9 101 rfl) rfl
theorem q2136 : (Jvm.Cond.selects "DripCupsModel" ({ cls := "DripCupsModel", name := "meeting", desc := "(I)I" } : Jvm.MethodName) ({ cls := "DripCupsModel", name := "meeting", desc := "(I)I" } : Jvm.MethodName)) ∈ lw_all := lw_g (lw_at lw_m9 102 rfl) rfl
theorem q2137 : (Jvm.Cond.code ({ cls := "DripCupsModel", name := "meeting", desc := "(I)I" } : Jvm.MethodName) prog_12_method_95_code (5 : Nat) (Option.some Jvm.ClassFile.FieldType.int)) ∈ lw_all := lw_g (lw_at lw_m9 103 rfl) rfl
theorem q2139 : (Jvm.Cond.instanceMethod ({ cls := "DripCupsModel", name := "giver", desc := "(II)I" } : Jvm.MethodName)) ∈ lw_all := lw_g (lw_at lw_m9 105 rfl) rfl
theorem q2140 : (Jvm.Cond.selects "DripCupsModel" ({ cls := "DripCupsModel", name := "giver", desc := "(II)I" } : Jvm.MethodName) ({ cls := "DripCupsModel", name := "giver", desc := "(II)I" } : Jvm.MethodName)) ∈ lw_all := lw_g (lw_at lw_m9 106 rfl) rfl
theorem q2141 : (Jvm.Cond.code ({ cls := "DripCupsModel", name := "giver", desc := "(II)I" } : Jvm.MethodName) prog_12_method_96_code (5 : Nat) (Option.some Jvm.ClassFile.FieldType.int)) ∈ lw_all := lw_g (lw_at lw_m9 107 rfl) rfl
theorem q2143 : (Jvm.Cond.instanceMethod ({ cls := "DripCupsModel", name := "tier", desc := "(II)I" } : Jvm.MethodName)) ∈ lw_all := lw_g (lw_at lw_m9 109 rfl) rfl
theorem q2144 : (Jvm.Cond.selects "DripCupsModel" ({ cls := "DripCupsModel", name := "tier", desc := "(II)I" } : Jvm.MethodName) ({ cls := "DripCupsModel", name := "tier", desc := "(II)I" } : Jvm.MethodName)) ∈ lw_all := lw_g (lw_at lw_m9 110 rfl) rfl
theorem q2145 : (Jvm.Cond.code ({ cls := "DripCupsModel", name := "tier", desc := "(II)I" } : Jvm.MethodName) prog_12_method_97_code (7 : Nat) (Option.some Jvm.ClassFile.FieldType.int)) ∈ lw_all := lw_g (lw_at lw_m9 111 rfl) rfl
theorem q2147 : (Jvm.Cond.instanceMethod ({ cls := "DripCupsModel", name := "ways", desc := "(II)I" } : Jvm.MethodName)) ∈ lw_all := lw_g (lw_at lw_m9 113 rfl) rfl
theorem q2148 : (Jvm.Cond.selects "DripCupsModel" ({ cls := "DripCupsModel", name := "ways", desc := "(II)I" } : Jvm.MethodName) ({ cls := "DripCupsModel", name := "ways", desc := "(II)I" } : Jvm.MethodName)) ∈ lw_all := lw_g (lw_at lw_m9 114 rfl) rfl
theorem q2149 : (Jvm.Cond.code ({ cls := "DripCupsModel", name := "ways", desc := "(II)I" } : Jvm.MethodName) prog_12_method_98_code (5 : Nat) (Option.some Jvm.ClassFile.FieldType.int)) ∈ lw_all := lw_g (lw_at lw_m9 115 rfl) rfl
theorem q2151 : (Jvm.Cond.instanceMethod ({ cls := "DripCupsModel", name := "toCrack", desc := "(IIII)I" } : Jvm.MethodName)) ∈ lw_all := lw_g (lw_at lw_m9 117 rfl) rfl
theorem q2152 : (Jvm.Cond.selects "DripCupsModel" ({ cls := "DripCupsModel", name := "toCrack", desc := "(IIII)I" } : Jvm.MethodName) ({ cls := "DripCupsModel", name := "toCrack", desc := "(IIII)I" } : Jvm.MethodName)) ∈ lw_all := lw_g (lw_at lw_m9 118 rfl) rfl
theorem q2153 : (Jvm.Cond.code ({ cls := "DripCupsModel", name := "toCrack", desc := "(IIII)I" } : Jvm.MethodName) prog_12_method_99_code (10 : Nat) (Option.some Jvm.ClassFile.FieldType.int)) ∈ lw_all := lw_g (lw_at lw_m9 119 rfl) rfl
theorem q2155 : (Jvm.Cond.instanceMethod ({ cls := "DripCupsModel", name := "toPour", desc := "(II)I" } : Jvm.MethodName)) ∈ lw_all := lw_g (lw_at lw_m9 121 rfl) rfl
theorem q2156 : (Jvm.Cond.selects "DripCupsModel" ({ cls := "DripCupsModel", name := "toPour", desc := "(II)I" } : Jvm.MethodName) ({ cls := "DripCupsModel", name := "toPour", desc := "(II)I" } : Jvm.MethodName)) ∈ lw_all := lw_g (lw_at lw_m9 122 rfl) rfl
theorem q2157 : (Jvm.Cond.code ({ cls := "DripCupsModel", name := "toPour", desc := "(II)I" } : Jvm.MethodName) prog_12_method_100_code (4 : Nat) (Option.some Jvm.ClassFile.FieldType.int)) ∈ lw_all := lw_g (lw_at lw_m9 123 rfl) rfl
theorem q2159 : (Jvm.Cond.instanceMethod ({ cls := "DripCupsModel", name := "office", desc := "(II)I" } : Jvm.MethodName)) ∈ lw_all := lw_g (lw_at lw_m9 125 rfl) rfl
theorem q2160 : (Jvm.Cond.selects "DripCupsModel" ({ cls := "DripCupsModel", name := "office", desc := "(II)I" } : Jvm.MethodName) ({ cls := "DripCupsModel", name := "office", desc := "(II)I" } : Jvm.MethodName)) ∈ lw_all := lw_g (lw_at lw_m9 126 rfl) rfl
theorem q2161 : (Jvm.Cond.code ({ cls := "DripCupsModel", name := "office", desc := "(II)I" } : Jvm.MethodName) prog_12_method_101_code (6 : Nat) (Option.some Jvm.ClassFile.FieldType.int)) ∈ lw_all := lw_g (lw_at lw_m9 127 rfl) rfl
theorem q2162 : (Jvm.Cond.methodLink "DripCupsModel" (405 : Nat) ({ cls := "DripCupsModel", name := "offBy", desc := "(II)I" } : Jvm.MethodName)) ∈ lw_all := lw_g (lw_at lw_m9 128 rfl) rfl
theorem q2163 : (Jvm.Cond.static ({ cls := "DripCupsModel", name := "offBy", desc := "(II)I" } : Jvm.MethodName)) ∈ lw_all := lw_g (lw_at lw_m9 129 rfl) rfl
theorem q2164 : (Jvm.Cond.code ({ cls := "DripCupsModel", name := "offBy", desc := "(II)I" } : Jvm.MethodName) prog_12_method_102_code (2 : Nat) (Option.some Jvm.ClassFile.FieldType.int)) ∈ lw_all := lw_g (lw_at lw_m9 130 rfl) rfl
theorem q2166 : (Jvm.Cond.instanceMethod ({ cls := "DripCupsModel", name := "hear", desc := "(IIZ)I" } : Jvm.MethodName)) ∈ lw_all := lw_g (lw_at lw_m9 132 rfl) rfl
theorem q2167 : (Jvm.Cond.selects "DripCupsModel" ({ cls := "DripCupsModel", name := "hear", desc := "(IIZ)I" } : Jvm.MethodName) ({ cls := "DripCupsModel", name := "hear", desc := "(IIZ)I" } : Jvm.MethodName)) ∈ lw_all := lw_g (lw_at lw_m9 133 rfl) rfl
theorem q2168 : (Jvm.Cond.code ({ cls := "DripCupsModel", name := "hear", desc := "(IIZ)I" } : Jvm.MethodName) prog_12_method_103_code (4 : Nat) (Option.some Jvm.ClassFile.FieldType.int)) ∈ lw_all := lw_g (lw_at lw_m9 134 rfl) rfl
theorem q2170 : (Jvm.Cond.instanceMethod ({ cls := "DripCupsModel", name := "forget", desc := "()V" } : Jvm.MethodName)) ∈ lw_all := lw_g (lw_at lw_m9 136 rfl) rfl
theorem q2171 : (Jvm.Cond.selects "DripCupsModel" ({ cls := "DripCupsModel", name := "forget", desc := "()V" } : Jvm.MethodName) ({ cls := "DripCupsModel", name := "forget", desc := "()V" } : Jvm.MethodName)) ∈ lw_all := lw_g (lw_at lw_m9 137 rfl) rfl
theorem q2172 : (Jvm.Cond.code ({ cls := "DripCupsModel", name := "forget", desc := "()V" } : Jvm.MethodName) prog_12_method_104_code (1 : Nat) (Option.none : Option Jvm.ClassFile.FieldType)) ∈ lw_all := lw_g (lw_at lw_m9 138 rfl) rfl
theorem q2174 : (Jvm.Cond.instanceMethod ({ cls := "DripCupsModel", name := "led", desc := "(I)I" } : Jvm.MethodName)) ∈ lw_all := lw_g (lw_at lw_m9 140 rfl) rfl
theorem q2175 : (Jvm.Cond.selects "DripCupsModel" ({ cls := "DripCupsModel", name := "led", desc := "(I)I" } : Jvm.MethodName) ({ cls := "DripCupsModel", name := "led", desc := "(I)I" } : Jvm.MethodName)) ∈ lw_all := lw_g (lw_at lw_m9 141 rfl) rfl
theorem q2176 : (Jvm.Cond.code ({ cls := "DripCupsModel", name := "led", desc := "(I)I" } : Jvm.MethodName) prog_12_method_107_code (5 : Nat) (Option.some Jvm.ClassFile.FieldType.int)) ∈ lw_all := lw_g (lw_at lw_m9 142 rfl) rfl
theorem q2177 : (Jvm.Cond.methodLink "DripCupsModel" (408 : Nat) ({ cls := "DripCupsModel", name := "isHeard", desc := "()Z" } : Jvm.MethodName)) ∈ lw_all := lw_g (lw_at lw_m9 143 rfl) rfl
theorem q2178 : (Jvm.Cond.privateMethod ({ cls := "DripCupsModel", name := "isHeard", desc := "()Z" } : Jvm.MethodName)) ∈ lw_tbl := lw_at lw_m9 144 rfl
theorem q2179 : (Jvm.Cond.instanceMethod ({ cls := "DripCupsModel", name := "isHeard", desc := "()Z" } : Jvm.MethodName)) ∈ lw_all := lw_g (lw_at lw_m9 145 rfl) rfl
theorem q2180 : (Jvm.Cond.code ({ cls := "DripCupsModel", name := "isHeard", desc := "()Z" } : Jvm.MethodName) prog_12_method_105_code (3 : Nat) (Option.some Jvm.ClassFile.FieldType.boolean)) ∈ lw_all := lw_g (lw_at lw_m9 146 rfl) rfl
theorem q2181 : (Jvm.Cond.methodLink "DripCupsModel" (411 : Nat) ({ cls := "DripCupsModel", name := "isGuess", desc := "(I)Z" } : Jvm.MethodName)) ∈ lw_all := lw_g (lw_at lw_m9 147 rfl) rfl
theorem q2182 : (Jvm.Cond.privateMethod ({ cls := "DripCupsModel", name := "isGuess", desc := "(I)Z" } : Jvm.MethodName)) ∈ lw_tbl := lw_at lw_m9 148 rfl
theorem q2183 : (Jvm.Cond.instanceMethod ({ cls := "DripCupsModel", name := "isGuess", desc := "(I)Z" } : Jvm.MethodName)) ∈ lw_all := lw_g (lw_at lw_m9 149 rfl) rfl
theorem q2184 : (Jvm.Cond.code ({ cls := "DripCupsModel", name := "isGuess", desc := "(I)Z" } : Jvm.MethodName) prog_12_method_106_code (4 : Nat) (Option.some Jvm.ClassFile.FieldType.boolean)) ∈ lw_all := lw_g (lw_at lw_m9 150 rfl) rfl
theorem q2186 : (Jvm.Cond.instanceMethod ({ cls := "DripCupsModel", name := "listen", desc := "(I)I" } : Jvm.MethodName)) ∈ lw_all := lw_g (lw_at lw_m9 152 rfl) rfl
theorem q2187 : (Jvm.Cond.selects "DripCupsModel" ({ cls := "DripCupsModel", name := "listen", desc := "(I)I" } : Jvm.MethodName) ({ cls := "DripCupsModel", name := "listen", desc := "(I)I" } : Jvm.MethodName)) ∈ lw_all := lw_g (lw_at lw_m9 153 rfl) rfl
theorem q2188 : (Jvm.Cond.code ({ cls := "DripCupsModel", name := "listen", desc := "(I)I" } : Jvm.MethodName) prog_12_method_108_code (7 : Nat) (Option.some Jvm.ClassFile.FieldType.int)) ∈ lw_all := lw_g (lw_at lw_m9 154 rfl) rfl
theorem q2190 : (Jvm.Cond.instanceMethod ({ cls := "DripCupsModel", name := "cold", desc := "(III)I" } : Jvm.MethodName)) ∈ lw_all := lw_g (lw_at lw_m9 156 rfl) rfl
theorem q2191 : (Jvm.Cond.selects "DripCupsModel" ({ cls := "DripCupsModel", name := "cold", desc := "(III)I" } : Jvm.MethodName) ({ cls := "DripCupsModel", name := "cold", desc := "(III)I" } : Jvm.MethodName)) ∈ lw_all := lw_g (lw_at lw_m9 157 rfl) rfl
theorem q2192 : (Jvm.Cond.code ({ cls := "DripCupsModel", name := "cold", desc := "(III)I" } : Jvm.MethodName) prog_12_method_109_code (9 : Nat) (Option.some Jvm.ClassFile.FieldType.int)) ∈ lw_all := lw_g (lw_at lw_m9 158 rfl) rfl
theorem q2194 : (Jvm.Cond.instanceMethod ({ cls := "DripCupsModel", name := "game", desc := "(III)I" } : Jvm.MethodName)) ∈ lw_all := lw_g (lw_at lw_m9 160 rfl) rfl
theorem q2195 : (Jvm.Cond.selects "DripCupsModel" ({ cls := "DripCupsModel", name := "game", desc := "(III)I" } : Jvm.MethodName) ({ cls := "DripCupsModel", name := "game", desc := "(III)I" } : Jvm.MethodName)) ∈ lw_all := lw_g (lw_at lw_m9 161 rfl) rfl
theorem q2196 : (Jvm.Cond.code ({ cls := "DripCupsModel", name := "game", desc := "(III)I" } : Jvm.MethodName) prog_12_method_111_code (9 : Nat) (Option.some Jvm.ClassFile.FieldType.int)) ∈ lw_all := lw_g (lw_at lw_m9 162 rfl) rfl
theorem q2197 : (Jvm.Cond.methodLink "DripCupsModel" (414 : Nat) ({ cls := "DripCupsModel", name := "gains", desc := "(IIII)I" } : Jvm.MethodName)) ∈ lw_all := lw_g (lw_at lw_m9 163 rfl) rfl
theorem q2198 : (Jvm.Cond.privateMethod ({ cls := "DripCupsModel", name := "gains", desc := "(IIII)I" } : Jvm.MethodName)) ∈ lw_tbl := lw_at lw_m9 164 rfl
theorem q2199 : (Jvm.Cond.instanceMethod ({ cls := "DripCupsModel", name := "gains", desc := "(IIII)I" } : Jvm.MethodName)) ∈ lw_all := lw_g (lw_at lw_m9 165 rfl) rfl
theorem q2200 : (Jvm.Cond.code ({ cls := "DripCupsModel", name := "gains", desc := "(IIII)I" } : Jvm.MethodName) prog_12_method_110_code (7 : Nat) (Option.some Jvm.ClassFile.FieldType.int)) ∈ lw_all := lw_g (lw_at lw_m9 166 rfl) rfl
theorem q2202 : (Jvm.Cond.instanceMethod ({ cls := "DripCupsModel", name := "years", desc := "(III)I" } : Jvm.MethodName)) ∈ lw_all := lw_g (lw_at lw_m9 168 rfl) rfl
theorem q2203 : (Jvm.Cond.selects "DripCupsModel" ({ cls := "DripCupsModel", name := "years", desc := "(III)I" } : Jvm.MethodName) ({ cls := "DripCupsModel", name := "years", desc := "(III)I" } : Jvm.MethodName)) ∈ lw_all := lw_g (lw_at lw_m9 169 rfl) rfl
theorem q2204 : (Jvm.Cond.code ({ cls := "DripCupsModel", name := "years", desc := "(III)I" } : Jvm.MethodName) prog_12_method_114_code (8 : Nat) (Option.some Jvm.ClassFile.FieldType.int)) ∈ lw_all := lw_g (lw_at lw_m9 170 rfl) rfl
theorem q2205 : (Jvm.Cond.methodLink "DripCupsModel" (425 : Nat) ({ cls := "DripCupsModel", name := "happens", desc := "()V" } : Jvm.MethodName)) ∈ lw_all := lw_g (lw_at lw_m9 171 rfl) rfl
theorem q2206 : (Jvm.Cond.privateMethod ({ cls := "DripCupsModel", name := "happens", desc := "()V" } : Jvm.MethodName)) ∈ lw_tbl := lw_at lw_m9 172 rfl
theorem q2207 : (Jvm.Cond.instanceMethod ({ cls := "DripCupsModel", name := "happens", desc := "()V" } : Jvm.MethodName)) ∈ lw_all := lw_g (lw_at lw_m9 173 rfl) rfl
theorem q2208 : (Jvm.Cond.code ({ cls := "DripCupsModel", name := "happens", desc := "()V" } : Jvm.MethodName) prog_12_method_113_code (4 : Nat) (Option.none : Option Jvm.ClassFile.FieldType)) ∈ lw_all := lw_g (lw_at lw_m9 174 rfl) rfl
theorem q2209 : (Jvm.Cond.methodLink "DripCupsModel" (422 : Nat) ({ cls := "DripCupsModel", name := "draw", desc := "(I)I" } : Jvm.MethodName)) ∈ lw_all := lw_g (lw_at lw_m9 175 rfl) rfl
theorem q2210 : (Jvm.Cond.privateMethod ({ cls := "DripCupsModel", name := "draw", desc := "(I)I" } : Jvm.MethodName)) ∈ lw_tbl := lw_at lw_m9 176 rfl
theorem q2211 : (Jvm.Cond.instanceMethod ({ cls := "DripCupsModel", name := "draw", desc := "(I)I" } : Jvm.MethodName)) ∈ lw_all := lw_g (lw_at lw_m9 177 rfl) rfl
theorem q2212 : (Jvm.Cond.code ({ cls := "DripCupsModel", name := "draw", desc := "(I)I" } : Jvm.MethodName) prog_12_method_112_code (2 : Nat) (Option.some Jvm.ClassFile.FieldType.int)) ∈ lw_all := lw_g (lw_at lw_m9 178 rfl) rfl
theorem q2213 : (Jvm.Cond.constant "DripCupsModel" (421 : Nat) (1103515245 : Int32)) ∈ lw_all := lw_g (lw_at lw_m9 179 rfl) rfl
theorem q2215 : (Jvm.Cond.instanceMethod ({ cls := "DripCupsModel", name := "image", desc := "()V" } : Jvm.MethodName)) ∈ lw_all := lw_g (lw_at lw_m9 181 rfl) rfl
theorem q2216 : (Jvm.Cond.selects "DripCupsModel" ({ cls := "DripCupsModel", name := "image", desc := "()V" } : Jvm.MethodName) ({ cls := "DripCupsModel", name := "image", desc := "()V" } : Jvm.MethodName)) ∈ lw_all := lw_g (lw_at lw_m9 182 rfl) rfl
theorem q2217 : (Jvm.Cond.code ({ cls := "DripCupsModel", name := "image", desc := "()V" } : Jvm.MethodName) prog_12_method_115_code (2 : Nat) (Option.none : Option Jvm.ClassFile.FieldType)) ∈ lw_all := lw_g (lw_at lw_m9 183 rfl) rfl
theorem q2219 : (Jvm.Cond.instanceMethod ({ cls := "DripCupsModel", name := "restore", desc := "()Z" } : Jvm.MethodName)) ∈ lw_all := lw_g (lw_at lw_m9 185 rfl) rfl
theorem q2220 : (Jvm.Cond.selects "DripCupsModel" ({ cls := "DripCupsModel", name := "restore", desc := "()Z" } : Jvm.MethodName) ({ cls := "DripCupsModel", name := "restore", desc := "()Z" } : Jvm.MethodName)) ∈ lw_all := lw_g (lw_at lw_m9 186 rfl) rfl
theorem q2221 : (Jvm.Cond.code ({ cls := "DripCupsModel", name := "restore", desc := "()Z" } : Jvm.MethodName) prog_12_method_116_code (2 : Nat) (Option.some Jvm.ClassFile.FieldType.boolean)) ∈ lw_all := lw_g (lw_at lw_m9 187 rfl) rfl
theorem q2234 : (Jvm.Cond.castable "DripCupsModel" "java/lang/Object") ∈ lw_tbl := lw_at lw_m9 200 rfl
theorem in_X4 : ∀ w ∈ wsX40, w ∈ lw_all := lw_in wsX40 [1647, 1649, 1651, 1653, 1655, 1657, 1659, 1661, 1663, 1665, 1667, 1669, 1671, 1673, 1675, 1677, 1679, 1681, 1683, 1685, 1687, 1689, 1691, 1693, 1695, 1697, 1699, 1701, 1703, 1705, 1707, 1709, 1711, 1713, 1715, 1717, 1719, 1721, 1723, 1725, 1727, 1729, 1731, 1733, 1735, 1737, 1739, 1741, 1743, 1745, 1747, 1749, 1751, 1753, 1755, 1757, 1759, 1761, 1763, 1765] (by decide +kernel) (by decide +kernel)
