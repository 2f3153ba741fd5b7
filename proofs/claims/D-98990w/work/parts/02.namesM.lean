/-! DECODE ROWS BY BYTES: one lemma an opcode; a method's code is cut into short pieces once, and a row reads its own piece alone. -/
set_option maxRecDepth 100000
/-- the code has just these bytes from pc on -/
def DkAt (code : ByteArray) (pc : Nat) (bs : List UInt8) : Prop := ∀ (j : Nat) (b : UInt8), bs[j]? = some b → code.data.toList[pc + j]? = some b
/-- the piece W has the bytes bs from its place j on -/
def dkIn (W : List UInt8) (j : Nat) (bs : List UInt8) : Bool := decide ((W.drop j).take bs.length = bs)
theorem dk_seg {l W T : List UInt8} {o o2 : Nat} (h : l.drop o = W ++ T) (n : Nat) (hn : W.length = n) (ho : o + n = o2) : l.drop o2 = T := by
  subst ho
  rw [← List.drop_drop, h, List.drop_left' hn]
theorem dk_at {code : ByteArray} {W T bs : List UInt8} {o pc : Nat} (h : code.data.toList.drop o = W ++ T) (j : Nat) (hp : o + j = pc) (hw : dkIn W j bs = true) : DkAt code pc bs := by
  subst hp
  intro i b e
  have h1 := of_decide_eq_true hw
  have h2 : i < bs.length := (List.getElem?_eq_some_iff.mp e).1
  have h3 : W[j + i]? = some b := by
    rw [← h1, List.getElem?_take, if_pos h2, List.getElem?_drop] at e
    exact e
  have h4 : j + i < W.length := (List.getElem?_eq_some_iff.mp h3).1
  have h5 : (code.data.toList.drop o)[j + i]? = some b := by
    rw [h, List.getElem?_append_left h4]
    exact h3
  rw [List.getElem?_drop, ← Nat.add_assoc] at h5
  exact h5
theorem dk_u1 {A : ByteArray} {p : Nat} {b : UInt8} (h : A.data.toList[p]? = some b) : (Reader.u1 : Reader DecodeError Nat) A p = .ok (b.toNat, p + 1) := by
  obtain ⟨h1, h2⟩ := List.getElem?_eq_some_iff.mp h
  have h3 : p < A.size := by simpa using h1
  have h4 : A[p]'h3 = b := h2
  have e : (Reader.u1 : Reader DecodeError Nat) A p = (if h : p < A.size then .ok (A[p].toNat, p + 1) else .error (HasTruncated.truncated p)) := by
    show (do if h : p < A.size then do set (p + 1); Pure.pure A[p].toNat else MonadExcept.throw (HasTruncated.truncated p) : Reader DecodeError Nat) A p = _
    by_cases hi : p < A.size
    · rw [dif_pos hi, dif_pos hi]; rfl
    · rw [dif_neg hi, dif_neg hi]; rfl
  rw [e, dif_pos h3, h4]
theorem dk_bind {α β : Type} {r : Reader DecodeError α} {f : α → Reader DecodeError β} {A : ByteArray} {p s : Nat} {a : α} (h : r A p = .ok (a, s)) : (r >>= f) A p = f a A s := by
  show (do let (a, s) ← r A p; f a A s : Except DecodeError (β × Nat)) = _
  rw [h]
  rfl
theorem dk_map {α β : Type} {r : Reader DecodeError α} {g : α → β} {A : ByteArray} {p s : Nat} {a : α} (h : r A p = .ok (a, s)) : (g <$> r) A p = .ok (g a, s) := by
  show (do let (a, s) ← r A p; .ok (g a, s) : Except DecodeError (β × Nat)) = _
  rw [h]
  rfl
theorem dk_u2 {A : ByteArray} {p : Nat} {a b : UInt8} (h : A.data.toList[p]? = some a) (h2 : A.data.toList[p + 1]? = some b) : (Reader.u2 : Reader DecodeError Nat) A p = .ok (a.toNat * 256 + b.toNat, p + 2) := by
  show (Reader.u1 >>= fun hi => Reader.u1 >>= fun lo => Pure.pure (hi * 256 + lo) : Reader DecodeError Nat) A p = _
  rw [dk_bind (dk_u1 h), dk_bind (dk_u1 h2)]
  rfl
theorem dk_of {code : ByteArray} {pc n : Nat} {i : Instr} (h : Decoder.instr pc code pc = .ok (i, pc + n)) : decode code pc = .ok (i, n) := by
  have e : decode code pc = (match Decoder.instr pc code pc with | .error x => .error x | .ok (j, s) => .ok (j, s - pc)) := by
    show (do let (j, s) ← Decoder.instr pc code pc; Pure.pure (j, s - pc) : Except DecodeError (Instr × Nat)) = _
    cases Decoder.instr pc code pc <;> rfl
  rw [e, h]
  show Except.ok (i, pc + n - pc) = _
  rw [Nat.add_sub_cancel_left]
theorem dk_1 {code : ByteArray} {pc : Nat} (h : DkAt code pc [1]) : decode code pc = .ok (.aconst_null, 1) := dk_of ((dk_bind (dk_u1 (h 0 _ rfl))).trans rfl)
theorem dk_2 {code : ByteArray} {pc : Nat} (h : DkAt code pc [2]) : decode code pc = .ok (.iconst (-1), 1) := dk_of ((dk_bind (dk_u1 (h 0 _ rfl))).trans rfl)
theorem dk_3 {code : ByteArray} {pc : Nat} (h : DkAt code pc [3]) : decode code pc = .ok (.iconst 0, 1) := dk_of ((dk_bind (dk_u1 (h 0 _ rfl))).trans rfl)
theorem dk_4 {code : ByteArray} {pc : Nat} (h : DkAt code pc [4]) : decode code pc = .ok (.iconst 1, 1) := dk_of ((dk_bind (dk_u1 (h 0 _ rfl))).trans rfl)
theorem dk_5 {code : ByteArray} {pc : Nat} (h : DkAt code pc [5]) : decode code pc = .ok (.iconst 2, 1) := dk_of ((dk_bind (dk_u1 (h 0 _ rfl))).trans rfl)
theorem dk_6 {code : ByteArray} {pc : Nat} (h : DkAt code pc [6]) : decode code pc = .ok (.iconst 3, 1) := dk_of ((dk_bind (dk_u1 (h 0 _ rfl))).trans rfl)
theorem dk_7 {code : ByteArray} {pc : Nat} (h : DkAt code pc [7]) : decode code pc = .ok (.iconst 4, 1) := dk_of ((dk_bind (dk_u1 (h 0 _ rfl))).trans rfl)
theorem dk_8 {code : ByteArray} {pc : Nat} (h : DkAt code pc [8]) : decode code pc = .ok (.iconst 5, 1) := dk_of ((dk_bind (dk_u1 (h 0 _ rfl))).trans rfl)
theorem dk_9 {code : ByteArray} {pc : Nat} (h : DkAt code pc [9]) : decode code pc = .ok (.lconst 0, 1) := dk_of ((dk_bind (dk_u1 (h 0 _ rfl))).trans rfl)
theorem dk_10 {code : ByteArray} {pc : Nat} (h : DkAt code pc [10]) : decode code pc = .ok (.lconst 1, 1) := dk_of ((dk_bind (dk_u1 (h 0 _ rfl))).trans rfl)
theorem dk_16 {code : ByteArray} {pc : Nat} (a : UInt8) (h : DkAt code pc [16, a]) : decode code pc = .ok (.bipush (Reader.signed 8 a.toNat), 2) := dk_of ((dk_bind (dk_u1 (h 0 _ rfl))).trans ((dk_bind (dk_map (dk_u1 (h 1 _ rfl)))).trans rfl))
theorem dk_17 {code : ByteArray} {pc : Nat} (a b : UInt8) (h : DkAt code pc [17, a, b]) : decode code pc = .ok (.sipush (Reader.signed 16 (a.toNat * 256 + b.toNat)), 3) := dk_of ((dk_bind (dk_u1 (h 0 _ rfl))).trans ((dk_bind (dk_map (dk_u2 (h 1 _ rfl) (h 2 _ rfl)))).trans rfl))
theorem dk_18 {code : ByteArray} {pc : Nat} (a : UInt8) (h : DkAt code pc [18, a]) : decode code pc = .ok (.ldc a.toNat, 2) := dk_of ((dk_bind (dk_u1 (h 0 _ rfl))).trans ((dk_bind (dk_u1 (h 1 _ rfl))).trans rfl))
theorem dk_19 {code : ByteArray} {pc : Nat} (a b : UInt8) (h : DkAt code pc [19, a, b]) : decode code pc = .ok (.ldc_w (a.toNat * 256 + b.toNat), 3) := dk_of ((dk_bind (dk_u1 (h 0 _ rfl))).trans ((dk_bind (dk_u2 (h 1 _ rfl) (h 2 _ rfl))).trans rfl))
theorem dk_20 {code : ByteArray} {pc : Nat} (a b : UInt8) (h : DkAt code pc [20, a, b]) : decode code pc = .ok (.ldc2_w (a.toNat * 256 + b.toNat), 3) := dk_of ((dk_bind (dk_u1 (h 0 _ rfl))).trans ((dk_bind (dk_u2 (h 1 _ rfl) (h 2 _ rfl))).trans rfl))
theorem dk_21 {code : ByteArray} {pc : Nat} (a : UInt8) (h : DkAt code pc [21, a]) : decode code pc = .ok (.iload a.toNat, 2) := dk_of ((dk_bind (dk_u1 (h 0 _ rfl))).trans ((dk_bind (dk_u1 (h 1 _ rfl))).trans rfl))
theorem dk_22 {code : ByteArray} {pc : Nat} (a : UInt8) (h : DkAt code pc [22, a]) : decode code pc = .ok (.lload a.toNat, 2) := dk_of ((dk_bind (dk_u1 (h 0 _ rfl))).trans ((dk_bind (dk_u1 (h 1 _ rfl))).trans rfl))
theorem dk_25 {code : ByteArray} {pc : Nat} (a : UInt8) (h : DkAt code pc [25, a]) : decode code pc = .ok (.aload a.toNat, 2) := dk_of ((dk_bind (dk_u1 (h 0 _ rfl))).trans ((dk_bind (dk_u1 (h 1 _ rfl))).trans rfl))
theorem dk_26 {code : ByteArray} {pc : Nat} (h : DkAt code pc [26]) : decode code pc = .ok (.iload_n 0, 1) := dk_of ((dk_bind (dk_u1 (h 0 _ rfl))).trans rfl)
theorem dk_27 {code : ByteArray} {pc : Nat} (h : DkAt code pc [27]) : decode code pc = .ok (.iload_n 1, 1) := dk_of ((dk_bind (dk_u1 (h 0 _ rfl))).trans rfl)
theorem dk_28 {code : ByteArray} {pc : Nat} (h : DkAt code pc [28]) : decode code pc = .ok (.iload_n 2, 1) := dk_of ((dk_bind (dk_u1 (h 0 _ rfl))).trans rfl)
theorem dk_29 {code : ByteArray} {pc : Nat} (h : DkAt code pc [29]) : decode code pc = .ok (.iload_n 3, 1) := dk_of ((dk_bind (dk_u1 (h 0 _ rfl))).trans rfl)
theorem dk_30 {code : ByteArray} {pc : Nat} (h : DkAt code pc [30]) : decode code pc = .ok (.lload_n 0, 1) := dk_of ((dk_bind (dk_u1 (h 0 _ rfl))).trans rfl)
theorem dk_31 {code : ByteArray} {pc : Nat} (h : DkAt code pc [31]) : decode code pc = .ok (.lload_n 1, 1) := dk_of ((dk_bind (dk_u1 (h 0 _ rfl))).trans rfl)
theorem dk_32 {code : ByteArray} {pc : Nat} (h : DkAt code pc [32]) : decode code pc = .ok (.lload_n 2, 1) := dk_of ((dk_bind (dk_u1 (h 0 _ rfl))).trans rfl)
theorem dk_33 {code : ByteArray} {pc : Nat} (h : DkAt code pc [33]) : decode code pc = .ok (.lload_n 3, 1) := dk_of ((dk_bind (dk_u1 (h 0 _ rfl))).trans rfl)
theorem dk_42 {code : ByteArray} {pc : Nat} (h : DkAt code pc [42]) : decode code pc = .ok (.aload_n 0, 1) := dk_of ((dk_bind (dk_u1 (h 0 _ rfl))).trans rfl)
theorem dk_43 {code : ByteArray} {pc : Nat} (h : DkAt code pc [43]) : decode code pc = .ok (.aload_n 1, 1) := dk_of ((dk_bind (dk_u1 (h 0 _ rfl))).trans rfl)
theorem dk_44 {code : ByteArray} {pc : Nat} (h : DkAt code pc [44]) : decode code pc = .ok (.aload_n 2, 1) := dk_of ((dk_bind (dk_u1 (h 0 _ rfl))).trans rfl)
theorem dk_45 {code : ByteArray} {pc : Nat} (h : DkAt code pc [45]) : decode code pc = .ok (.aload_n 3, 1) := dk_of ((dk_bind (dk_u1 (h 0 _ rfl))).trans rfl)
theorem dk_46 {code : ByteArray} {pc : Nat} (h : DkAt code pc [46]) : decode code pc = .ok (.iaload, 1) := dk_of ((dk_bind (dk_u1 (h 0 _ rfl))).trans rfl)
theorem dk_47 {code : ByteArray} {pc : Nat} (h : DkAt code pc [47]) : decode code pc = .ok (.laload, 1) := dk_of ((dk_bind (dk_u1 (h 0 _ rfl))).trans rfl)
theorem dk_50 {code : ByteArray} {pc : Nat} (h : DkAt code pc [50]) : decode code pc = .ok (.aaload, 1) := dk_of ((dk_bind (dk_u1 (h 0 _ rfl))).trans rfl)
theorem dk_51 {code : ByteArray} {pc : Nat} (h : DkAt code pc [51]) : decode code pc = .ok (.baload, 1) := dk_of ((dk_bind (dk_u1 (h 0 _ rfl))).trans rfl)
theorem dk_54 {code : ByteArray} {pc : Nat} (a : UInt8) (h : DkAt code pc [54, a]) : decode code pc = .ok (.istore a.toNat, 2) := dk_of ((dk_bind (dk_u1 (h 0 _ rfl))).trans ((dk_bind (dk_u1 (h 1 _ rfl))).trans rfl))
theorem dk_55 {code : ByteArray} {pc : Nat} (a : UInt8) (h : DkAt code pc [55, a]) : decode code pc = .ok (.lstore a.toNat, 2) := dk_of ((dk_bind (dk_u1 (h 0 _ rfl))).trans ((dk_bind (dk_u1 (h 1 _ rfl))).trans rfl))
theorem dk_58 {code : ByteArray} {pc : Nat} (a : UInt8) (h : DkAt code pc [58, a]) : decode code pc = .ok (.astore a.toNat, 2) := dk_of ((dk_bind (dk_u1 (h 0 _ rfl))).trans ((dk_bind (dk_u1 (h 1 _ rfl))).trans rfl))
theorem dk_59 {code : ByteArray} {pc : Nat} (h : DkAt code pc [59]) : decode code pc = .ok (.istore_n 0, 1) := dk_of ((dk_bind (dk_u1 (h 0 _ rfl))).trans rfl)
theorem dk_60 {code : ByteArray} {pc : Nat} (h : DkAt code pc [60]) : decode code pc = .ok (.istore_n 1, 1) := dk_of ((dk_bind (dk_u1 (h 0 _ rfl))).trans rfl)
theorem dk_61 {code : ByteArray} {pc : Nat} (h : DkAt code pc [61]) : decode code pc = .ok (.istore_n 2, 1) := dk_of ((dk_bind (dk_u1 (h 0 _ rfl))).trans rfl)
theorem dk_62 {code : ByteArray} {pc : Nat} (h : DkAt code pc [62]) : decode code pc = .ok (.istore_n 3, 1) := dk_of ((dk_bind (dk_u1 (h 0 _ rfl))).trans rfl)
theorem dk_65 {code : ByteArray} {pc : Nat} (h : DkAt code pc [65]) : decode code pc = .ok (.lstore_n 2, 1) := dk_of ((dk_bind (dk_u1 (h 0 _ rfl))).trans rfl)
theorem dk_66 {code : ByteArray} {pc : Nat} (h : DkAt code pc [66]) : decode code pc = .ok (.lstore_n 3, 1) := dk_of ((dk_bind (dk_u1 (h 0 _ rfl))).trans rfl)
theorem dk_76 {code : ByteArray} {pc : Nat} (h : DkAt code pc [76]) : decode code pc = .ok (.astore_n 1, 1) := dk_of ((dk_bind (dk_u1 (h 0 _ rfl))).trans rfl)
theorem dk_77 {code : ByteArray} {pc : Nat} (h : DkAt code pc [77]) : decode code pc = .ok (.astore_n 2, 1) := dk_of ((dk_bind (dk_u1 (h 0 _ rfl))).trans rfl)
theorem dk_78 {code : ByteArray} {pc : Nat} (h : DkAt code pc [78]) : decode code pc = .ok (.astore_n 3, 1) := dk_of ((dk_bind (dk_u1 (h 0 _ rfl))).trans rfl)
theorem dk_79 {code : ByteArray} {pc : Nat} (h : DkAt code pc [79]) : decode code pc = .ok (.iastore, 1) := dk_of ((dk_bind (dk_u1 (h 0 _ rfl))).trans rfl)
theorem dk_80 {code : ByteArray} {pc : Nat} (h : DkAt code pc [80]) : decode code pc = .ok (.lastore, 1) := dk_of ((dk_bind (dk_u1 (h 0 _ rfl))).trans rfl)
theorem dk_83 {code : ByteArray} {pc : Nat} (h : DkAt code pc [83]) : decode code pc = .ok (.aastore, 1) := dk_of ((dk_bind (dk_u1 (h 0 _ rfl))).trans rfl)
theorem dk_84 {code : ByteArray} {pc : Nat} (h : DkAt code pc [84]) : decode code pc = .ok (.bastore, 1) := dk_of ((dk_bind (dk_u1 (h 0 _ rfl))).trans rfl)
theorem dk_87 {code : ByteArray} {pc : Nat} (h : DkAt code pc [87]) : decode code pc = .ok (.pop, 1) := dk_of ((dk_bind (dk_u1 (h 0 _ rfl))).trans rfl)
theorem dk_89 {code : ByteArray} {pc : Nat} (h : DkAt code pc [89]) : decode code pc = .ok (.dup, 1) := dk_of ((dk_bind (dk_u1 (h 0 _ rfl))).trans rfl)
theorem dk_90 {code : ByteArray} {pc : Nat} (h : DkAt code pc [90]) : decode code pc = .ok (.dup_x1, 1) := dk_of ((dk_bind (dk_u1 (h 0 _ rfl))).trans rfl)
theorem dk_92 {code : ByteArray} {pc : Nat} (h : DkAt code pc [92]) : decode code pc = .ok (.dup2, 1) := dk_of ((dk_bind (dk_u1 (h 0 _ rfl))).trans rfl)
theorem dk_96 {code : ByteArray} {pc : Nat} (h : DkAt code pc [96]) : decode code pc = .ok (.iadd, 1) := dk_of ((dk_bind (dk_u1 (h 0 _ rfl))).trans rfl)
theorem dk_97 {code : ByteArray} {pc : Nat} (h : DkAt code pc [97]) : decode code pc = .ok (.ladd, 1) := dk_of ((dk_bind (dk_u1 (h 0 _ rfl))).trans rfl)
theorem dk_100 {code : ByteArray} {pc : Nat} (h : DkAt code pc [100]) : decode code pc = .ok (.isub, 1) := dk_of ((dk_bind (dk_u1 (h 0 _ rfl))).trans rfl)
theorem dk_101 {code : ByteArray} {pc : Nat} (h : DkAt code pc [101]) : decode code pc = .ok (.lsub, 1) := dk_of ((dk_bind (dk_u1 (h 0 _ rfl))).trans rfl)
theorem dk_104 {code : ByteArray} {pc : Nat} (h : DkAt code pc [104]) : decode code pc = .ok (.imul, 1) := dk_of ((dk_bind (dk_u1 (h 0 _ rfl))).trans rfl)
theorem dk_105 {code : ByteArray} {pc : Nat} (h : DkAt code pc [105]) : decode code pc = .ok (.lmul, 1) := dk_of ((dk_bind (dk_u1 (h 0 _ rfl))).trans rfl)
theorem dk_108 {code : ByteArray} {pc : Nat} (h : DkAt code pc [108]) : decode code pc = .ok (.idiv, 1) := dk_of ((dk_bind (dk_u1 (h 0 _ rfl))).trans rfl)
theorem dk_109 {code : ByteArray} {pc : Nat} (h : DkAt code pc [109]) : decode code pc = .ok (.ldiv, 1) := dk_of ((dk_bind (dk_u1 (h 0 _ rfl))).trans rfl)
theorem dk_112 {code : ByteArray} {pc : Nat} (h : DkAt code pc [112]) : decode code pc = .ok (.irem, 1) := dk_of ((dk_bind (dk_u1 (h 0 _ rfl))).trans rfl)
theorem dk_113 {code : ByteArray} {pc : Nat} (h : DkAt code pc [113]) : decode code pc = .ok (.lrem, 1) := dk_of ((dk_bind (dk_u1 (h 0 _ rfl))).trans rfl)
theorem dk_116 {code : ByteArray} {pc : Nat} (h : DkAt code pc [116]) : decode code pc = .ok (.ineg, 1) := dk_of ((dk_bind (dk_u1 (h 0 _ rfl))).trans rfl)
theorem dk_117 {code : ByteArray} {pc : Nat} (h : DkAt code pc [117]) : decode code pc = .ok (.lneg, 1) := dk_of ((dk_bind (dk_u1 (h 0 _ rfl))).trans rfl)
theorem dk_120 {code : ByteArray} {pc : Nat} (h : DkAt code pc [120]) : decode code pc = .ok (.ishl, 1) := dk_of ((dk_bind (dk_u1 (h 0 _ rfl))).trans rfl)
theorem dk_121 {code : ByteArray} {pc : Nat} (h : DkAt code pc [121]) : decode code pc = .ok (.lshl, 1) := dk_of ((dk_bind (dk_u1 (h 0 _ rfl))).trans rfl)
theorem dk_122 {code : ByteArray} {pc : Nat} (h : DkAt code pc [122]) : decode code pc = .ok (.ishr, 1) := dk_of ((dk_bind (dk_u1 (h 0 _ rfl))).trans rfl)
theorem dk_123 {code : ByteArray} {pc : Nat} (h : DkAt code pc [123]) : decode code pc = .ok (.lshr, 1) := dk_of ((dk_bind (dk_u1 (h 0 _ rfl))).trans rfl)
theorem dk_124 {code : ByteArray} {pc : Nat} (h : DkAt code pc [124]) : decode code pc = .ok (.iushr, 1) := dk_of ((dk_bind (dk_u1 (h 0 _ rfl))).trans rfl)
theorem dk_126 {code : ByteArray} {pc : Nat} (h : DkAt code pc [126]) : decode code pc = .ok (.iand, 1) := dk_of ((dk_bind (dk_u1 (h 0 _ rfl))).trans rfl)
theorem dk_127 {code : ByteArray} {pc : Nat} (h : DkAt code pc [127]) : decode code pc = .ok (.land, 1) := dk_of ((dk_bind (dk_u1 (h 0 _ rfl))).trans rfl)
theorem dk_128 {code : ByteArray} {pc : Nat} (h : DkAt code pc [128]) : decode code pc = .ok (.ior, 1) := dk_of ((dk_bind (dk_u1 (h 0 _ rfl))).trans rfl)
theorem dk_129 {code : ByteArray} {pc : Nat} (h : DkAt code pc [129]) : decode code pc = .ok (.lor, 1) := dk_of ((dk_bind (dk_u1 (h 0 _ rfl))).trans rfl)
theorem dk_130 {code : ByteArray} {pc : Nat} (h : DkAt code pc [130]) : decode code pc = .ok (.ixor, 1) := dk_of ((dk_bind (dk_u1 (h 0 _ rfl))).trans rfl)
theorem dk_132 {code : ByteArray} {pc : Nat} (a b : UInt8) (h : DkAt code pc [132, a, b]) : decode code pc = .ok (.iinc a.toNat (Reader.signed 8 b.toNat), 3) := dk_of ((dk_bind (dk_u1 (h 0 _ rfl))).trans ((dk_bind (dk_u1 (h 1 _ rfl))).trans ((dk_bind (dk_map (dk_u1 (h 2 _ rfl)))).trans rfl)))
theorem dk_133 {code : ByteArray} {pc : Nat} (h : DkAt code pc [133]) : decode code pc = .ok (.i2l, 1) := dk_of ((dk_bind (dk_u1 (h 0 _ rfl))).trans rfl)
theorem dk_136 {code : ByteArray} {pc : Nat} (h : DkAt code pc [136]) : decode code pc = .ok (.l2i, 1) := dk_of ((dk_bind (dk_u1 (h 0 _ rfl))).trans rfl)
theorem dk_145 {code : ByteArray} {pc : Nat} (h : DkAt code pc [145]) : decode code pc = .ok (.i2b, 1) := dk_of ((dk_bind (dk_u1 (h 0 _ rfl))).trans rfl)
theorem dk_146 {code : ByteArray} {pc : Nat} (h : DkAt code pc [146]) : decode code pc = .ok (.i2c, 1) := dk_of ((dk_bind (dk_u1 (h 0 _ rfl))).trans rfl)
theorem dk_148 {code : ByteArray} {pc : Nat} (h : DkAt code pc [148]) : decode code pc = .ok (.lcmp, 1) := dk_of ((dk_bind (dk_u1 (h 0 _ rfl))).trans rfl)
theorem dk_153 {code : ByteArray} {pc : Nat} (a b : UInt8) (h : DkAt code pc [153, a, b]) : decode code pc = .ok (.ifCond .eq (Reader.signed 16 (a.toNat * 256 + b.toNat)), 3) := dk_of ((dk_bind (dk_u1 (h 0 _ rfl))).trans ((dk_bind (dk_map (dk_u2 (h 1 _ rfl) (h 2 _ rfl)))).trans rfl))
theorem dk_154 {code : ByteArray} {pc : Nat} (a b : UInt8) (h : DkAt code pc [154, a, b]) : decode code pc = .ok (.ifCond .ne (Reader.signed 16 (a.toNat * 256 + b.toNat)), 3) := dk_of ((dk_bind (dk_u1 (h 0 _ rfl))).trans ((dk_bind (dk_map (dk_u2 (h 1 _ rfl) (h 2 _ rfl)))).trans rfl))
theorem dk_155 {code : ByteArray} {pc : Nat} (a b : UInt8) (h : DkAt code pc [155, a, b]) : decode code pc = .ok (.ifCond .lt (Reader.signed 16 (a.toNat * 256 + b.toNat)), 3) := dk_of ((dk_bind (dk_u1 (h 0 _ rfl))).trans ((dk_bind (dk_map (dk_u2 (h 1 _ rfl) (h 2 _ rfl)))).trans rfl))
theorem dk_156 {code : ByteArray} {pc : Nat} (a b : UInt8) (h : DkAt code pc [156, a, b]) : decode code pc = .ok (.ifCond .ge (Reader.signed 16 (a.toNat * 256 + b.toNat)), 3) := dk_of ((dk_bind (dk_u1 (h 0 _ rfl))).trans ((dk_bind (dk_map (dk_u2 (h 1 _ rfl) (h 2 _ rfl)))).trans rfl))
theorem dk_157 {code : ByteArray} {pc : Nat} (a b : UInt8) (h : DkAt code pc [157, a, b]) : decode code pc = .ok (.ifCond .gt (Reader.signed 16 (a.toNat * 256 + b.toNat)), 3) := dk_of ((dk_bind (dk_u1 (h 0 _ rfl))).trans ((dk_bind (dk_map (dk_u2 (h 1 _ rfl) (h 2 _ rfl)))).trans rfl))
theorem dk_158 {code : ByteArray} {pc : Nat} (a b : UInt8) (h : DkAt code pc [158, a, b]) : decode code pc = .ok (.ifCond .le (Reader.signed 16 (a.toNat * 256 + b.toNat)), 3) := dk_of ((dk_bind (dk_u1 (h 0 _ rfl))).trans ((dk_bind (dk_map (dk_u2 (h 1 _ rfl) (h 2 _ rfl)))).trans rfl))
theorem dk_159 {code : ByteArray} {pc : Nat} (a b : UInt8) (h : DkAt code pc [159, a, b]) : decode code pc = .ok (.if_icmp .eq (Reader.signed 16 (a.toNat * 256 + b.toNat)), 3) := dk_of ((dk_bind (dk_u1 (h 0 _ rfl))).trans ((dk_bind (dk_map (dk_u2 (h 1 _ rfl) (h 2 _ rfl)))).trans rfl))
theorem dk_160 {code : ByteArray} {pc : Nat} (a b : UInt8) (h : DkAt code pc [160, a, b]) : decode code pc = .ok (.if_icmp .ne (Reader.signed 16 (a.toNat * 256 + b.toNat)), 3) := dk_of ((dk_bind (dk_u1 (h 0 _ rfl))).trans ((dk_bind (dk_map (dk_u2 (h 1 _ rfl) (h 2 _ rfl)))).trans rfl))
theorem dk_161 {code : ByteArray} {pc : Nat} (a b : UInt8) (h : DkAt code pc [161, a, b]) : decode code pc = .ok (.if_icmp .lt (Reader.signed 16 (a.toNat * 256 + b.toNat)), 3) := dk_of ((dk_bind (dk_u1 (h 0 _ rfl))).trans ((dk_bind (dk_map (dk_u2 (h 1 _ rfl) (h 2 _ rfl)))).trans rfl))
theorem dk_162 {code : ByteArray} {pc : Nat} (a b : UInt8) (h : DkAt code pc [162, a, b]) : decode code pc = .ok (.if_icmp .ge (Reader.signed 16 (a.toNat * 256 + b.toNat)), 3) := dk_of ((dk_bind (dk_u1 (h 0 _ rfl))).trans ((dk_bind (dk_map (dk_u2 (h 1 _ rfl) (h 2 _ rfl)))).trans rfl))
theorem dk_163 {code : ByteArray} {pc : Nat} (a b : UInt8) (h : DkAt code pc [163, a, b]) : decode code pc = .ok (.if_icmp .gt (Reader.signed 16 (a.toNat * 256 + b.toNat)), 3) := dk_of ((dk_bind (dk_u1 (h 0 _ rfl))).trans ((dk_bind (dk_map (dk_u2 (h 1 _ rfl) (h 2 _ rfl)))).trans rfl))
theorem dk_164 {code : ByteArray} {pc : Nat} (a b : UInt8) (h : DkAt code pc [164, a, b]) : decode code pc = .ok (.if_icmp .le (Reader.signed 16 (a.toNat * 256 + b.toNat)), 3) := dk_of ((dk_bind (dk_u1 (h 0 _ rfl))).trans ((dk_bind (dk_map (dk_u2 (h 1 _ rfl) (h 2 _ rfl)))).trans rfl))
theorem dk_165 {code : ByteArray} {pc : Nat} (a b : UInt8) (h : DkAt code pc [165, a, b]) : decode code pc = .ok (.if_acmp .eq (Reader.signed 16 (a.toNat * 256 + b.toNat)), 3) := dk_of ((dk_bind (dk_u1 (h 0 _ rfl))).trans ((dk_bind (dk_map (dk_u2 (h 1 _ rfl) (h 2 _ rfl)))).trans rfl))
theorem dk_166 {code : ByteArray} {pc : Nat} (a b : UInt8) (h : DkAt code pc [166, a, b]) : decode code pc = .ok (.if_acmp .ne (Reader.signed 16 (a.toNat * 256 + b.toNat)), 3) := dk_of ((dk_bind (dk_u1 (h 0 _ rfl))).trans ((dk_bind (dk_map (dk_u2 (h 1 _ rfl) (h 2 _ rfl)))).trans rfl))
theorem dk_167 {code : ByteArray} {pc : Nat} (a b : UInt8) (h : DkAt code pc [167, a, b]) : decode code pc = .ok (.goto (Reader.signed 16 (a.toNat * 256 + b.toNat)), 3) := dk_of ((dk_bind (dk_u1 (h 0 _ rfl))).trans ((dk_bind (dk_map (dk_u2 (h 1 _ rfl) (h 2 _ rfl)))).trans rfl))
theorem dk_172 {code : ByteArray} {pc : Nat} (h : DkAt code pc [172]) : decode code pc = .ok (.ireturn, 1) := dk_of ((dk_bind (dk_u1 (h 0 _ rfl))).trans rfl)
theorem dk_173 {code : ByteArray} {pc : Nat} (h : DkAt code pc [173]) : decode code pc = .ok (.lreturn, 1) := dk_of ((dk_bind (dk_u1 (h 0 _ rfl))).trans rfl)
theorem dk_176 {code : ByteArray} {pc : Nat} (h : DkAt code pc [176]) : decode code pc = .ok (.areturn, 1) := dk_of ((dk_bind (dk_u1 (h 0 _ rfl))).trans rfl)
theorem dk_177 {code : ByteArray} {pc : Nat} (h : DkAt code pc [177]) : decode code pc = .ok (.return_, 1) := dk_of ((dk_bind (dk_u1 (h 0 _ rfl))).trans rfl)
theorem dk_178 {code : ByteArray} {pc : Nat} (a b : UInt8) (h : DkAt code pc [178, a, b]) : decode code pc = .ok (.getstatic (a.toNat * 256 + b.toNat), 3) := dk_of ((dk_bind (dk_u1 (h 0 _ rfl))).trans ((dk_bind (dk_u2 (h 1 _ rfl) (h 2 _ rfl))).trans rfl))
theorem dk_180 {code : ByteArray} {pc : Nat} (a b : UInt8) (h : DkAt code pc [180, a, b]) : decode code pc = .ok (.getfield (a.toNat * 256 + b.toNat), 3) := dk_of ((dk_bind (dk_u1 (h 0 _ rfl))).trans ((dk_bind (dk_u2 (h 1 _ rfl) (h 2 _ rfl))).trans rfl))
theorem dk_181 {code : ByteArray} {pc : Nat} (a b : UInt8) (h : DkAt code pc [181, a, b]) : decode code pc = .ok (.putfield (a.toNat * 256 + b.toNat), 3) := dk_of ((dk_bind (dk_u1 (h 0 _ rfl))).trans ((dk_bind (dk_u2 (h 1 _ rfl) (h 2 _ rfl))).trans rfl))
theorem dk_182 {code : ByteArray} {pc : Nat} (a b : UInt8) (h : DkAt code pc [182, a, b]) : decode code pc = .ok (.invokevirtual (a.toNat * 256 + b.toNat), 3) := dk_of ((dk_bind (dk_u1 (h 0 _ rfl))).trans ((dk_bind (dk_u2 (h 1 _ rfl) (h 2 _ rfl))).trans rfl))
theorem dk_183 {code : ByteArray} {pc : Nat} (a b : UInt8) (h : DkAt code pc [183, a, b]) : decode code pc = .ok (.invokespecial (a.toNat * 256 + b.toNat), 3) := dk_of ((dk_bind (dk_u1 (h 0 _ rfl))).trans ((dk_bind (dk_u2 (h 1 _ rfl) (h 2 _ rfl))).trans rfl))
theorem dk_184 {code : ByteArray} {pc : Nat} (a b : UInt8) (h : DkAt code pc [184, a, b]) : decode code pc = .ok (.invokestatic (a.toNat * 256 + b.toNat), 3) := dk_of ((dk_bind (dk_u1 (h 0 _ rfl))).trans ((dk_bind (dk_u2 (h 1 _ rfl) (h 2 _ rfl))).trans rfl))
theorem dk_187 {code : ByteArray} {pc : Nat} (a b : UInt8) (h : DkAt code pc [187, a, b]) : decode code pc = .ok (.new (a.toNat * 256 + b.toNat), 3) := dk_of ((dk_bind (dk_u1 (h 0 _ rfl))).trans ((dk_bind (dk_u2 (h 1 _ rfl) (h 2 _ rfl))).trans rfl))
theorem dk_188_4 {code : ByteArray} {pc : Nat} (h : DkAt code pc [188, 4]) : decode code pc = .ok (.newarray .boolean, 2) := dk_of ((dk_bind (dk_u1 (h 0 _ rfl))).trans ((dk_bind (dk_u1 (h 1 _ rfl))).trans rfl))
theorem dk_188_8 {code : ByteArray} {pc : Nat} (h : DkAt code pc [188, 8]) : decode code pc = .ok (.newarray .byte, 2) := dk_of ((dk_bind (dk_u1 (h 0 _ rfl))).trans ((dk_bind (dk_u1 (h 1 _ rfl))).trans rfl))
theorem dk_188_10 {code : ByteArray} {pc : Nat} (h : DkAt code pc [188, 10]) : decode code pc = .ok (.newarray .int, 2) := dk_of ((dk_bind (dk_u1 (h 0 _ rfl))).trans ((dk_bind (dk_u1 (h 1 _ rfl))).trans rfl))
theorem dk_188_11 {code : ByteArray} {pc : Nat} (h : DkAt code pc [188, 11]) : decode code pc = .ok (.newarray .long, 2) := dk_of ((dk_bind (dk_u1 (h 0 _ rfl))).trans ((dk_bind (dk_u1 (h 1 _ rfl))).trans rfl))
theorem dk_189 {code : ByteArray} {pc : Nat} (a b : UInt8) (h : DkAt code pc [189, a, b]) : decode code pc = .ok (.anewarray (a.toNat * 256 + b.toNat), 3) := dk_of ((dk_bind (dk_u1 (h 0 _ rfl))).trans ((dk_bind (dk_u2 (h 1 _ rfl) (h 2 _ rfl))).trans rfl))
theorem dk_190 {code : ByteArray} {pc : Nat} (h : DkAt code pc [190]) : decode code pc = .ok (.arraylength, 1) := dk_of ((dk_bind (dk_u1 (h 0 _ rfl))).trans rfl)
theorem dk_191 {code : ByteArray} {pc : Nat} (h : DkAt code pc [191]) : decode code pc = .ok (.athrow, 1) := dk_of ((dk_bind (dk_u1 (h 0 _ rfl))).trans rfl)
theorem dk_192 {code : ByteArray} {pc : Nat} (a b : UInt8) (h : DkAt code pc [192, a, b]) : decode code pc = .ok (.checkcast (a.toNat * 256 + b.toNat), 3) := dk_of ((dk_bind (dk_u1 (h 0 _ rfl))).trans ((dk_bind (dk_u2 (h 1 _ rfl) (h 2 _ rfl))).trans rfl))
theorem dk_198 {code : ByteArray} {pc : Nat} (a b : UInt8) (h : DkAt code pc [198, a, b]) : decode code pc = .ok (.ifnull (Reader.signed 16 (a.toNat * 256 + b.toNat)), 3) := dk_of ((dk_bind (dk_u1 (h 0 _ rfl))).trans ((dk_bind (dk_map (dk_u2 (h 1 _ rfl) (h 2 _ rfl)))).trans rfl))
theorem dk_199 {code : ByteArray} {pc : Nat} (a b : UInt8) (h : DkAt code pc [199, a, b]) : decode code pc = .ok (.ifnonnull (Reader.signed 16 (a.toNat * 256 + b.toNat)), 3) := dk_of ((dk_bind (dk_u1 (h 0 _ rfl))).trans ((dk_bind (dk_map (dk_u2 (h 1 _ rfl) (h 2 _ rfl)))).trans rfl))
/-! WolfsHeadModel -/
set_option maxRecDepth 100000
def RX2 : String := "WolfsHeadModel"
def TX2 : u_T := fun k => match k with
  | 0 => ("WolfsHeadModel", "a", "[I", true)
  | 1 => ("WolfsHeadModel", "image", "[I", true)
  | 2 => ("WolfsHeadModel", "texts", "[I", true)
  | 3 => ("WolfsHeadModel", "tape", "[I", true)
  | 4 => ("WolfsHeadModel", "taped", "I", false)
  | 5 => ("WolfsHeadModel", "fault", "I", false)
  | 6 => ("WolfsHeadModel", "faultPlace", "I", false)
  | 7 => ("WolfsHeadModel", "at", "I", false)
  | 8 => ("WolfsHeadModel", "place", "I", false)
  | 9 => ("WolfsHeadModel", "token", "I", false)
  | 10 => ("WolfsHeadModel", "number", "I", false)
  | 11 => ("WolfsHeadModel", "word", "J", false)
  | 12 => ("WolfsHeadModel", "text0", "I", false)
  | 13 => ("WolfsHeadModel", "written", "I", false)
  | 14 => ("WolfsHeadModel", "sort0", "I", false)
  | 15 => ("WolfsHeadModel", "pile", "[I", true)
  | 16 => ("WolfsHeadModel", "piled", "I", false)
  | 17 => ("WolfsHeadModel", "opens", "I", false)
  | 18 => ("WolfsHeadModel", "isWhole", "Z", false)
  | 19 => ("WolfsHeadModel", "once", "I", false)
  | 20 => ("WolfsHeadModel", "named", "[I", true)
  | 21 => ("WolfsHeadModel", "values", "[J", true)
  | 22 => ("WolfsHeadModel", "truth", "[Z", true)
  | 23 => ("WolfsHeadModel", "isWritten", "Z", false)
  | 24 => ("WolfsHeadModel", "died", "I", false)
  | 25 => ("WolfsHeadModel", "aside", "[I", true)
  | 26 => ("WolfsHeadModel", "likely", "[I", true)
  | 27 => ("WolfsHeadModel", "safe", "[I", true)
  | _ => ("WolfsHeadModel", "headOf", "[I", true)
def tyX2 : Nat → FieldType := fun k => match k with
  | 0 => .array .int
  | 1 => .array .int
  | 2 => .array .int
  | 3 => .array .int
  | 4 => .int
  | 5 => .int
  | 6 => .int
  | 7 => .int
  | 8 => .int
  | 9 => .int
  | 10 => .int
  | 11 => .long
  | 12 => .int
  | 13 => .int
  | 14 => .int
  | 15 => .array .int
  | 16 => .int
  | 17 => .int
  | 18 => .boolean
  | 19 => .int
  | 20 => .array .int
  | 21 => .array .long
  | 22 => .array .boolean
  | 23 => .boolean
  | 24 => .int
  | 25 => .array .int
  | 26 => .array .int
  | 27 => .array .int
  | _ => .array .int
abbrev wsX20 : List Cond := u_ws RX2 TX2 29
set_option maxRecDepth 100000 in
theorem nmX2 : ∀ a, a < 29 → ∀ b, b < 29 → a ≠ b → (TX2 a).2.1 ≠ (TX2 b).2.1 := by decide +kernel
set_option maxRecDepth 100000 in
theorem tyX2_ok : ∀ k, k < 29 → parseFieldDescriptor (TX2 k).2.2.1 = some (tyX2 k) := by decide +kernel
abbrev cX2_init : ByteArray := prog_20_method_1_code
def yX2_init : MethodName := ⟨RX2, "<init>", "()V"⟩
def dkwX2_init_6 : List UInt8 := [42, 180, 0, 13, 184, 0, 59, 177]
abbrev dktX2_init_6 : List UInt8 := dkwX2_init_6 ++ []
def dkwX2_init_5 : List UInt8 := [181, 0, 56, 42, 180, 0, 7, 16, 11, 17, 0, 149, 79, 42, 180, 0, 7, 6, 2, 79, 42, 180, 0, 7]
abbrev dktX2_init_5 : List UInt8 := dkwX2_init_5 ++ dktX2_init_6
def dkwX2_init_4 : List UInt8 := [181, 0, 47, 42, 16, 56, 188, 10, 181, 0, 50, 42, 16, 8, 188, 10, 181, 0, 53, 42, 16, 8, 188, 10]
abbrev dktX2_init_4 : List UInt8 := dkwX2_init_4 ++ dktX2_init_5
def dkwX2_init_3 : List UInt8 := [188, 11, 181, 0, 35, 42, 17, 1, 74, 188, 4, 181, 0, 39, 42, 4, 181, 0, 43, 42, 16, 80, 188, 10]
abbrev dktX2_init_3 : List UInt8 := dkwX2_init_3 ++ dktX2_init_4
def dkwX2_init_2 : List UInt8 := [181, 0, 26, 42, 17, 0, 160, 188, 10, 181, 0, 29, 42, 16, 10, 188, 10, 181, 0, 32, 42, 17, 1, 74]
abbrev dktX2_init_2 : List UInt8 := dkwX2_init_2 ++ dktX2_init_3
def dkwX2_init_1 : List UInt8 := [17, 11, 100, 188, 10, 181, 0, 16, 42, 17, 1, 44, 188, 10, 181, 0, 19, 42, 2, 181, 0, 22, 42, 2]
abbrev dktX2_init_1 : List UInt8 := dkwX2_init_1 ++ dktX2_init_2
def dkwX2_init_0 : List UInt8 := [42, 183, 0, 1, 42, 17, 34, 58, 188, 10, 181, 0, 7, 42, 17, 34, 58, 188, 10, 181, 0, 13, 42]
abbrev dktX2_init_0 : List UInt8 := dkwX2_init_0 ++ dktX2_init_1
theorem dksX2_init_0 : cX2_init.data.toList.drop 0 = dktX2_init_0 := by decide +kernel
theorem dksX2_init_1 : cX2_init.data.toList.drop 23 = dktX2_init_1 := dk_seg dksX2_init_0 23 rfl rfl
theorem dksX2_init_2 : cX2_init.data.toList.drop 47 = dktX2_init_2 := dk_seg dksX2_init_1 24 rfl rfl
theorem dksX2_init_3 : cX2_init.data.toList.drop 71 = dktX2_init_3 := dk_seg dksX2_init_2 24 rfl rfl
theorem dksX2_init_4 : cX2_init.data.toList.drop 95 = dktX2_init_4 := dk_seg dksX2_init_3 24 rfl rfl
theorem dksX2_init_5 : cX2_init.data.toList.drop 119 = dktX2_init_5 := dk_seg dksX2_init_4 24 rfl rfl
theorem dksX2_init_6 : cX2_init.data.toList.drop 143 = dktX2_init_6 := dk_seg dksX2_init_5 24 rfl rfl
theorem dX2_init_0 : decode cX2_init 0 = .ok (.aload_n 0, 1) := dk_42 (dk_at dksX2_init_0 0 rfl rfl)
theorem dX2_init_1 : decode cX2_init 1 = .ok (.invokespecial 1, 3) := dk_183 0 1 (dk_at dksX2_init_0 1 rfl rfl)
theorem dX2_init_4 : decode cX2_init 4 = .ok (.aload_n 0, 1) := dk_42 (dk_at dksX2_init_0 4 rfl rfl)
theorem dX2_init_5 : decode cX2_init 5 = .ok (.sipush 8762, 3) := dk_17 34 58 (dk_at dksX2_init_0 5 rfl rfl)
theorem dX2_init_8 : decode cX2_init 8 = .ok (.newarray .int, 2) := dk_188_10 (dk_at dksX2_init_0 8 rfl rfl)
theorem dX2_init_10 : decode cX2_init 10 = .ok (.putfield 7, 3) := dk_181 0 7 (dk_at dksX2_init_0 10 rfl rfl)
theorem dX2_init_13 : decode cX2_init 13 = .ok (.aload_n 0, 1) := dk_42 (dk_at dksX2_init_0 13 rfl rfl)
theorem dX2_init_14 : decode cX2_init 14 = .ok (.sipush 8762, 3) := dk_17 34 58 (dk_at dksX2_init_0 14 rfl rfl)
theorem dX2_init_17 : decode cX2_init 17 = .ok (.newarray .int, 2) := dk_188_10 (dk_at dksX2_init_0 17 rfl rfl)
theorem dX2_init_19 : decode cX2_init 19 = .ok (.putfield 13, 3) := dk_181 0 13 (dk_at dksX2_init_0 19 rfl rfl)
theorem dX2_init_22 : decode cX2_init 22 = .ok (.aload_n 0, 1) := dk_42 (dk_at dksX2_init_0 22 rfl rfl)
theorem dX2_init_23 : decode cX2_init 23 = .ok (.sipush 2916, 3) := dk_17 11 100 (dk_at dksX2_init_1 0 rfl rfl)
theorem dX2_init_26 : decode cX2_init 26 = .ok (.newarray .int, 2) := dk_188_10 (dk_at dksX2_init_1 3 rfl rfl)
theorem dX2_init_28 : decode cX2_init 28 = .ok (.putfield 16, 3) := dk_181 0 16 (dk_at dksX2_init_1 5 rfl rfl)
theorem dX2_init_31 : decode cX2_init 31 = .ok (.aload_n 0, 1) := dk_42 (dk_at dksX2_init_1 8 rfl rfl)
theorem dX2_init_32 : decode cX2_init 32 = .ok (.sipush 300, 3) := dk_17 1 44 (dk_at dksX2_init_1 9 rfl rfl)
theorem dX2_init_35 : decode cX2_init 35 = .ok (.newarray .int, 2) := dk_188_10 (dk_at dksX2_init_1 12 rfl rfl)
theorem dX2_init_37 : decode cX2_init 37 = .ok (.putfield 19, 3) := dk_181 0 19 (dk_at dksX2_init_1 14 rfl rfl)
theorem dX2_init_40 : decode cX2_init 40 = .ok (.aload_n 0, 1) := dk_42 (dk_at dksX2_init_1 17 rfl rfl)
theorem dX2_init_41 : decode cX2_init 41 = .ok (.iconst (-1), 1) := dk_2 (dk_at dksX2_init_1 18 rfl rfl)
theorem dX2_init_42 : decode cX2_init 42 = .ok (.putfield 22, 3) := dk_181 0 22 (dk_at dksX2_init_1 19 rfl rfl)
theorem dX2_init_45 : decode cX2_init 45 = .ok (.aload_n 0, 1) := dk_42 (dk_at dksX2_init_1 22 rfl rfl)
theorem dX2_init_46 : decode cX2_init 46 = .ok (.iconst (-1), 1) := dk_2 (dk_at dksX2_init_1 23 rfl rfl)
theorem dX2_init_47 : decode cX2_init 47 = .ok (.putfield 26, 3) := dk_181 0 26 (dk_at dksX2_init_2 0 rfl rfl)
theorem dX2_init_50 : decode cX2_init 50 = .ok (.aload_n 0, 1) := dk_42 (dk_at dksX2_init_2 3 rfl rfl)
theorem dX2_init_51 : decode cX2_init 51 = .ok (.sipush 160, 3) := dk_17 0 160 (dk_at dksX2_init_2 4 rfl rfl)
theorem dX2_init_54 : decode cX2_init 54 = .ok (.newarray .int, 2) := dk_188_10 (dk_at dksX2_init_2 7 rfl rfl)
theorem dX2_init_56 : decode cX2_init 56 = .ok (.putfield 29, 3) := dk_181 0 29 (dk_at dksX2_init_2 9 rfl rfl)
theorem dX2_init_59 : decode cX2_init 59 = .ok (.aload_n 0, 1) := dk_42 (dk_at dksX2_init_2 12 rfl rfl)
theorem dX2_init_60 : decode cX2_init 60 = .ok (.bipush 10, 2) := dk_16 10 (dk_at dksX2_init_2 13 rfl rfl)
theorem dX2_init_62 : decode cX2_init 62 = .ok (.newarray .int, 2) := dk_188_10 (dk_at dksX2_init_2 15 rfl rfl)
theorem dX2_init_64 : decode cX2_init 64 = .ok (.putfield 32, 3) := dk_181 0 32 (dk_at dksX2_init_2 17 rfl rfl)
theorem dX2_init_67 : decode cX2_init 67 = .ok (.aload_n 0, 1) := dk_42 (dk_at dksX2_init_2 20 rfl rfl)
theorem dX2_init_68 : decode cX2_init 68 = .ok (.sipush 330, 3) := dk_17 1 74 (dk_at dksX2_init_2 21 rfl rfl)
theorem dX2_init_71 : decode cX2_init 71 = .ok (.newarray .long, 2) := dk_188_11 (dk_at dksX2_init_3 0 rfl rfl)
theorem dX2_init_73 : decode cX2_init 73 = .ok (.putfield 35, 3) := dk_181 0 35 (dk_at dksX2_init_3 2 rfl rfl)
theorem dX2_init_76 : decode cX2_init 76 = .ok (.aload_n 0, 1) := dk_42 (dk_at dksX2_init_3 5 rfl rfl)
theorem dX2_init_77 : decode cX2_init 77 = .ok (.sipush 330, 3) := dk_17 1 74 (dk_at dksX2_init_3 6 rfl rfl)
theorem dX2_init_80 : decode cX2_init 80 = .ok (.newarray .boolean, 2) := dk_188_4 (dk_at dksX2_init_3 9 rfl rfl)
theorem dX2_init_82 : decode cX2_init 82 = .ok (.putfield 39, 3) := dk_181 0 39 (dk_at dksX2_init_3 11 rfl rfl)
theorem dX2_init_85 : decode cX2_init 85 = .ok (.aload_n 0, 1) := dk_42 (dk_at dksX2_init_3 14 rfl rfl)
theorem dX2_init_86 : decode cX2_init 86 = .ok (.iconst 1, 1) := dk_4 (dk_at dksX2_init_3 15 rfl rfl)
theorem dX2_init_87 : decode cX2_init 87 = .ok (.putfield 43, 3) := dk_181 0 43 (dk_at dksX2_init_3 16 rfl rfl)
theorem dX2_init_90 : decode cX2_init 90 = .ok (.aload_n 0, 1) := dk_42 (dk_at dksX2_init_3 19 rfl rfl)
theorem dX2_init_91 : decode cX2_init 91 = .ok (.bipush 80, 2) := dk_16 80 (dk_at dksX2_init_3 20 rfl rfl)
theorem dX2_init_93 : decode cX2_init 93 = .ok (.newarray .int, 2) := dk_188_10 (dk_at dksX2_init_3 22 rfl rfl)
theorem dX2_init_95 : decode cX2_init 95 = .ok (.putfield 47, 3) := dk_181 0 47 (dk_at dksX2_init_4 0 rfl rfl)
theorem dX2_init_98 : decode cX2_init 98 = .ok (.aload_n 0, 1) := dk_42 (dk_at dksX2_init_4 3 rfl rfl)
theorem dX2_init_99 : decode cX2_init 99 = .ok (.bipush 56, 2) := dk_16 56 (dk_at dksX2_init_4 4 rfl rfl)
theorem dX2_init_101 : decode cX2_init 101 = .ok (.newarray .int, 2) := dk_188_10 (dk_at dksX2_init_4 6 rfl rfl)
theorem dX2_init_103 : decode cX2_init 103 = .ok (.putfield 50, 3) := dk_181 0 50 (dk_at dksX2_init_4 8 rfl rfl)
theorem dX2_init_106 : decode cX2_init 106 = .ok (.aload_n 0, 1) := dk_42 (dk_at dksX2_init_4 11 rfl rfl)
theorem dX2_init_107 : decode cX2_init 107 = .ok (.bipush 8, 2) := dk_16 8 (dk_at dksX2_init_4 12 rfl rfl)
theorem dX2_init_109 : decode cX2_init 109 = .ok (.newarray .int, 2) := dk_188_10 (dk_at dksX2_init_4 14 rfl rfl)
theorem dX2_init_111 : decode cX2_init 111 = .ok (.putfield 53, 3) := dk_181 0 53 (dk_at dksX2_init_4 16 rfl rfl)
theorem dX2_init_114 : decode cX2_init 114 = .ok (.aload_n 0, 1) := dk_42 (dk_at dksX2_init_4 19 rfl rfl)
theorem dX2_init_115 : decode cX2_init 115 = .ok (.bipush 8, 2) := dk_16 8 (dk_at dksX2_init_4 20 rfl rfl)
theorem dX2_init_117 : decode cX2_init 117 = .ok (.newarray .int, 2) := dk_188_10 (dk_at dksX2_init_4 22 rfl rfl)
theorem dX2_init_119 : decode cX2_init 119 = .ok (.putfield 56, 3) := dk_181 0 56 (dk_at dksX2_init_5 0 rfl rfl)
theorem dX2_init_122 : decode cX2_init 122 = .ok (.aload_n 0, 1) := dk_42 (dk_at dksX2_init_5 3 rfl rfl)
theorem dX2_init_123 : decode cX2_init 123 = .ok (.getfield 7, 3) := dk_180 0 7 (dk_at dksX2_init_5 4 rfl rfl)
theorem dX2_init_126 : decode cX2_init 126 = .ok (.bipush 11, 2) := dk_16 11 (dk_at dksX2_init_5 7 rfl rfl)
theorem dX2_init_128 : decode cX2_init 128 = .ok (.sipush 149, 3) := dk_17 0 149 (dk_at dksX2_init_5 9 rfl rfl)
theorem dX2_init_131 : decode cX2_init 131 = .ok (.iastore, 1) := dk_79 (dk_at dksX2_init_5 12 rfl rfl)
theorem dX2_init_132 : decode cX2_init 132 = .ok (.aload_n 0, 1) := dk_42 (dk_at dksX2_init_5 13 rfl rfl)
theorem dX2_init_133 : decode cX2_init 133 = .ok (.getfield 7, 3) := dk_180 0 7 (dk_at dksX2_init_5 14 rfl rfl)
theorem dX2_init_136 : decode cX2_init 136 = .ok (.iconst 3, 1) := dk_6 (dk_at dksX2_init_5 17 rfl rfl)
theorem dX2_init_137 : decode cX2_init 137 = .ok (.iconst (-1), 1) := dk_2 (dk_at dksX2_init_5 18 rfl rfl)
theorem dX2_init_138 : decode cX2_init 138 = .ok (.iastore, 1) := dk_79 (dk_at dksX2_init_5 19 rfl rfl)
theorem dX2_init_139 : decode cX2_init 139 = .ok (.aload_n 0, 1) := dk_42 (dk_at dksX2_init_5 20 rfl rfl)
theorem dX2_init_140 : decode cX2_init 140 = .ok (.getfield 7, 3) := dk_180 0 7 (dk_at dksX2_init_5 21 rfl rfl)
theorem dX2_init_143 : decode cX2_init 143 = .ok (.aload_n 0, 1) := dk_42 (dk_at dksX2_init_6 0 rfl rfl)
theorem dX2_init_144 : decode cX2_init 144 = .ok (.getfield 13, 3) := dk_180 0 13 (dk_at dksX2_init_6 1 rfl rfl)
theorem dX2_init_147 : decode cX2_init 147 = .ok (.invokestatic 59, 3) := dk_184 0 59 (dk_at dksX2_init_6 4 rfl rfl)
theorem dX2_init_150 : decode cX2_init 150 = .ok (.return_, 1) := dk_177 (dk_at dksX2_init_6 7 rfl rfl)
abbrev cX2_copy : ByteArray := prog_20_method_2_code
def yX2_copy : MethodName := ⟨RX2, "copy", "([I[I)V"⟩
def dkwX2_copy_0 : List UInt8 := [3, 61, 28, 17, 34, 58, 162, 0, 15, 43, 28, 42, 28, 46, 79, 132, 2, 1, 167, 255, 240, 177]
abbrev dktX2_copy_0 : List UInt8 := dkwX2_copy_0 ++ []
theorem dksX2_copy_0 : cX2_copy.data.toList.drop 0 = dktX2_copy_0 := by decide +kernel
theorem dX2_copy_0 : decode cX2_copy 0 = .ok (.iconst 0, 1) := dk_3 (dk_at dksX2_copy_0 0 rfl rfl)
theorem dX2_copy_1 : decode cX2_copy 1 = .ok (.istore_n 2, 1) := dk_61 (dk_at dksX2_copy_0 1 rfl rfl)
theorem dX2_copy_2 : decode cX2_copy 2 = .ok (.iload_n 2, 1) := dk_28 (dk_at dksX2_copy_0 2 rfl rfl)
theorem dX2_copy_3 : decode cX2_copy 3 = .ok (.sipush 8762, 3) := dk_17 34 58 (dk_at dksX2_copy_0 3 rfl rfl)
theorem dX2_copy_6 : decode cX2_copy 6 = .ok (.if_icmp .ge 15, 3) := dk_162 0 15 (dk_at dksX2_copy_0 6 rfl rfl)
theorem dX2_copy_9 : decode cX2_copy 9 = .ok (.aload_n 1, 1) := dk_43 (dk_at dksX2_copy_0 9 rfl rfl)
theorem dX2_copy_10 : decode cX2_copy 10 = .ok (.iload_n 2, 1) := dk_28 (dk_at dksX2_copy_0 10 rfl rfl)
theorem dX2_copy_11 : decode cX2_copy 11 = .ok (.aload_n 0, 1) := dk_42 (dk_at dksX2_copy_0 11 rfl rfl)
theorem dX2_copy_12 : decode cX2_copy 12 = .ok (.iload_n 2, 1) := dk_28 (dk_at dksX2_copy_0 12 rfl rfl)
theorem dX2_copy_13 : decode cX2_copy 13 = .ok (.iaload, 1) := dk_46 (dk_at dksX2_copy_0 13 rfl rfl)
theorem dX2_copy_14 : decode cX2_copy 14 = .ok (.iastore, 1) := dk_79 (dk_at dksX2_copy_0 14 rfl rfl)
theorem dX2_copy_15 : decode cX2_copy 15 = .ok (.iinc 2 1, 3) := dk_132 2 1 (dk_at dksX2_copy_0 15 rfl rfl)
theorem dX2_copy_18 : decode cX2_copy 18 = .ok (.goto (-16), 3) := dk_167 255 240 (dk_at dksX2_copy_0 18 rfl rfl)
theorem dX2_copy_21 : decode cX2_copy 21 = .ok (.return_, 1) := dk_177 (dk_at dksX2_copy_0 21 rfl rfl)
abbrev cX2_land : ByteArray := prog_20_method_13_code
def yX2_land : MethodName := ⟨RX2, "land", "(I)I"⟩
def dkwX2_land_2 : List UInt8 := [3, 46, 96, 3, 79, 42, 180, 0, 7, 3, 92, 46, 4, 96, 79, 42, 180, 0, 7, 3, 46, 4, 100, 172]
abbrev dktX2_land_2 : List UInt8 := dkwX2_land_2 ++ []
def dkwX2_land_1 : List UInt8 := [180, 0, 7, 16, 80, 42, 180, 0, 7, 3, 46, 96, 27, 79, 42, 180, 0, 7, 16, 88, 42, 180, 0, 7]
abbrev dktX2_land_1 : List UInt8 := dkwX2_land_1 ++ dktX2_land_2
def dkwX2_land_0 : List UInt8 := [27, 3, 16, 9, 184, 0, 63, 153, 0, 14, 42, 180, 0, 7, 3, 46, 16, 8, 160, 0, 5, 2, 172, 42]
abbrev dktX2_land_0 : List UInt8 := dkwX2_land_0 ++ dktX2_land_1
theorem dksX2_land_0 : cX2_land.data.toList.drop 0 = dktX2_land_0 := by decide +kernel
theorem dksX2_land_1 : cX2_land.data.toList.drop 24 = dktX2_land_1 := dk_seg dksX2_land_0 24 rfl rfl
theorem dksX2_land_2 : cX2_land.data.toList.drop 48 = dktX2_land_2 := dk_seg dksX2_land_1 24 rfl rfl
theorem dX2_land_0 : decode cX2_land 0 = .ok (.iload_n 1, 1) := dk_27 (dk_at dksX2_land_0 0 rfl rfl)
theorem dX2_land_1 : decode cX2_land 1 = .ok (.iconst 0, 1) := dk_3 (dk_at dksX2_land_0 1 rfl rfl)
theorem dX2_land_2 : decode cX2_land 2 = .ok (.bipush 9, 2) := dk_16 9 (dk_at dksX2_land_0 2 rfl rfl)
theorem dX2_land_4 : decode cX2_land 4 = .ok (.invokestatic 63, 3) := dk_184 0 63 (dk_at dksX2_land_0 4 rfl rfl)
theorem dX2_land_7 : decode cX2_land 7 = .ok (.ifCond .eq 14, 3) := dk_153 0 14 (dk_at dksX2_land_0 7 rfl rfl)
theorem dX2_land_10 : decode cX2_land 10 = .ok (.aload_n 0, 1) := dk_42 (dk_at dksX2_land_0 10 rfl rfl)
theorem dX2_land_11 : decode cX2_land 11 = .ok (.getfield 7, 3) := dk_180 0 7 (dk_at dksX2_land_0 11 rfl rfl)
theorem dX2_land_14 : decode cX2_land 14 = .ok (.iconst 0, 1) := dk_3 (dk_at dksX2_land_0 14 rfl rfl)
theorem dX2_land_15 : decode cX2_land 15 = .ok (.iaload, 1) := dk_46 (dk_at dksX2_land_0 15 rfl rfl)
theorem dX2_land_16 : decode cX2_land 16 = .ok (.bipush 8, 2) := dk_16 8 (dk_at dksX2_land_0 16 rfl rfl)
theorem dX2_land_18 : decode cX2_land 18 = .ok (.if_icmp .ne 5, 3) := dk_160 0 5 (dk_at dksX2_land_0 18 rfl rfl)
theorem dX2_land_21 : decode cX2_land 21 = .ok (.iconst (-1), 1) := dk_2 (dk_at dksX2_land_0 21 rfl rfl)
theorem dX2_land_22 : decode cX2_land 22 = .ok (.ireturn, 1) := dk_172 (dk_at dksX2_land_0 22 rfl rfl)
theorem dX2_land_23 : decode cX2_land 23 = .ok (.aload_n 0, 1) := dk_42 (dk_at dksX2_land_0 23 rfl rfl)
theorem dX2_land_24 : decode cX2_land 24 = .ok (.getfield 7, 3) := dk_180 0 7 (dk_at dksX2_land_1 0 rfl rfl)
theorem dX2_land_27 : decode cX2_land 27 = .ok (.bipush 80, 2) := dk_16 80 (dk_at dksX2_land_1 3 rfl rfl)
theorem dX2_land_29 : decode cX2_land 29 = .ok (.aload_n 0, 1) := dk_42 (dk_at dksX2_land_1 5 rfl rfl)
theorem dX2_land_30 : decode cX2_land 30 = .ok (.getfield 7, 3) := dk_180 0 7 (dk_at dksX2_land_1 6 rfl rfl)
theorem dX2_land_33 : decode cX2_land 33 = .ok (.iconst 0, 1) := dk_3 (dk_at dksX2_land_1 9 rfl rfl)
theorem dX2_land_34 : decode cX2_land 34 = .ok (.iaload, 1) := dk_46 (dk_at dksX2_land_1 10 rfl rfl)
theorem dX2_land_35 : decode cX2_land 35 = .ok (.iadd, 1) := dk_96 (dk_at dksX2_land_1 11 rfl rfl)
theorem dX2_land_36 : decode cX2_land 36 = .ok (.iload_n 1, 1) := dk_27 (dk_at dksX2_land_1 12 rfl rfl)
theorem dX2_land_37 : decode cX2_land 37 = .ok (.iastore, 1) := dk_79 (dk_at dksX2_land_1 13 rfl rfl)
theorem dX2_land_38 : decode cX2_land 38 = .ok (.aload_n 0, 1) := dk_42 (dk_at dksX2_land_1 14 rfl rfl)
theorem dX2_land_39 : decode cX2_land 39 = .ok (.getfield 7, 3) := dk_180 0 7 (dk_at dksX2_land_1 15 rfl rfl)
theorem dX2_land_42 : decode cX2_land 42 = .ok (.bipush 88, 2) := dk_16 88 (dk_at dksX2_land_1 18 rfl rfl)
theorem dX2_land_44 : decode cX2_land 44 = .ok (.aload_n 0, 1) := dk_42 (dk_at dksX2_land_1 20 rfl rfl)
theorem dX2_land_45 : decode cX2_land 45 = .ok (.getfield 7, 3) := dk_180 0 7 (dk_at dksX2_land_1 21 rfl rfl)
theorem dX2_land_48 : decode cX2_land 48 = .ok (.iconst 0, 1) := dk_3 (dk_at dksX2_land_2 0 rfl rfl)
theorem dX2_land_49 : decode cX2_land 49 = .ok (.iaload, 1) := dk_46 (dk_at dksX2_land_2 1 rfl rfl)
theorem dX2_land_50 : decode cX2_land 50 = .ok (.iadd, 1) := dk_96 (dk_at dksX2_land_2 2 rfl rfl)
theorem dX2_land_51 : decode cX2_land 51 = .ok (.iconst 0, 1) := dk_3 (dk_at dksX2_land_2 3 rfl rfl)
theorem dX2_land_52 : decode cX2_land 52 = .ok (.iastore, 1) := dk_79 (dk_at dksX2_land_2 4 rfl rfl)
theorem dX2_land_53 : decode cX2_land 53 = .ok (.aload_n 0, 1) := dk_42 (dk_at dksX2_land_2 5 rfl rfl)
theorem dX2_land_54 : decode cX2_land 54 = .ok (.getfield 7, 3) := dk_180 0 7 (dk_at dksX2_land_2 6 rfl rfl)
theorem dX2_land_57 : decode cX2_land 57 = .ok (.iconst 0, 1) := dk_3 (dk_at dksX2_land_2 9 rfl rfl)
theorem dX2_land_58 : decode cX2_land 58 = .ok (.dup2, 1) := dk_92 (dk_at dksX2_land_2 10 rfl rfl)
theorem dX2_land_59 : decode cX2_land 59 = .ok (.iaload, 1) := dk_46 (dk_at dksX2_land_2 11 rfl rfl)
theorem dX2_land_60 : decode cX2_land 60 = .ok (.iconst 1, 1) := dk_4 (dk_at dksX2_land_2 12 rfl rfl)
theorem dX2_land_61 : decode cX2_land 61 = .ok (.iadd, 1) := dk_96 (dk_at dksX2_land_2 13 rfl rfl)
theorem dX2_land_62 : decode cX2_land 62 = .ok (.iastore, 1) := dk_79 (dk_at dksX2_land_2 14 rfl rfl)
theorem dX2_land_63 : decode cX2_land 63 = .ok (.aload_n 0, 1) := dk_42 (dk_at dksX2_land_2 15 rfl rfl)
theorem dX2_land_64 : decode cX2_land 64 = .ok (.getfield 7, 3) := dk_180 0 7 (dk_at dksX2_land_2 16 rfl rfl)
theorem dX2_land_67 : decode cX2_land 67 = .ok (.iconst 0, 1) := dk_3 (dk_at dksX2_land_2 19 rfl rfl)
theorem dX2_land_68 : decode cX2_land 68 = .ok (.iaload, 1) := dk_46 (dk_at dksX2_land_2 20 rfl rfl)
theorem dX2_land_69 : decode cX2_land 69 = .ok (.iconst 1, 1) := dk_4 (dk_at dksX2_land_2 21 rfl rfl)
theorem dX2_land_70 : decode cX2_land 70 = .ok (.isub, 1) := dk_100 (dk_at dksX2_land_2 22 rfl rfl)
theorem dX2_land_71 : decode cX2_land 71 = .ok (.ireturn, 1) := dk_172 (dk_at dksX2_land_2 23 rfl rfl)
abbrev cX2_isIn : ByteArray := prog_20_method_3_code
def yX2_isIn : MethodName := ⟨RX2, "isIn", "(III)Z"⟩
def dkwX2_isIn_0 : List UInt8 := [26, 27, 161, 0, 12, 26, 28, 163, 0, 7, 4, 167, 0, 4, 3, 172]
abbrev dktX2_isIn_0 : List UInt8 := dkwX2_isIn_0 ++ []
theorem dksX2_isIn_0 : cX2_isIn.data.toList.drop 0 = dktX2_isIn_0 := by decide +kernel
theorem dX2_isIn_0 : decode cX2_isIn 0 = .ok (.iload_n 0, 1) := dk_26 (dk_at dksX2_isIn_0 0 rfl rfl)
theorem dX2_isIn_1 : decode cX2_isIn 1 = .ok (.iload_n 1, 1) := dk_27 (dk_at dksX2_isIn_0 1 rfl rfl)
theorem dX2_isIn_2 : decode cX2_isIn 2 = .ok (.if_icmp .lt 12, 3) := dk_161 0 12 (dk_at dksX2_isIn_0 2 rfl rfl)
theorem dX2_isIn_5 : decode cX2_isIn 5 = .ok (.iload_n 0, 1) := dk_26 (dk_at dksX2_isIn_0 5 rfl rfl)
theorem dX2_isIn_6 : decode cX2_isIn 6 = .ok (.iload_n 2, 1) := dk_28 (dk_at dksX2_isIn_0 6 rfl rfl)
theorem dX2_isIn_7 : decode cX2_isIn 7 = .ok (.if_icmp .gt 7, 3) := dk_163 0 7 (dk_at dksX2_isIn_0 7 rfl rfl)
theorem dX2_isIn_10 : decode cX2_isIn 10 = .ok (.iconst 1, 1) := dk_4 (dk_at dksX2_isIn_0 10 rfl rfl)
theorem dX2_isIn_11 : decode cX2_isIn 11 = .ok (.goto 4, 3) := dk_167 0 4 (dk_at dksX2_isIn_0 11 rfl rfl)
theorem dX2_isIn_14 : decode cX2_isIn 14 = .ok (.iconst 0, 1) := dk_3 (dk_at dksX2_isIn_0 14 rfl rfl)
theorem dX2_isIn_15 : decode cX2_isIn 15 = .ok (.ireturn, 1) := dk_172 (dk_at dksX2_isIn_0 15 rfl rfl)
abbrev cX2_road : ByteArray := prog_20_method_14_code
def yX2_road : MethodName := ⟨RX2, "road", "(II)Z"⟩
def dkwX2_road_3 : List UInt8 := [172]
abbrev dktX2_road_3 : List UInt8 := dkwX2_road_3 ++ []
def dkwX2_road_2 : List UInt8 := [96, 92, 46, 4, 28, 120, 128, 79, 42, 180, 0, 7, 16, 88, 28, 96, 92, 46, 4, 27, 120, 128, 79, 4]
abbrev dktX2_road_2 : List UInt8 := dkwX2_road_2 ++ dktX2_road_3
def dkwX2_road_1 : List UInt8 := [180, 0, 7, 16, 88, 27, 96, 46, 28, 184, 0, 78, 153, 0, 5, 3, 172, 42, 180, 0, 7, 16, 88, 27]
abbrev dktX2_road_1 : List UInt8 := dkwX2_road_1 ++ dktX2_road_2
def dkwX2_road_0 : List UInt8 := [42, 27, 182, 0, 75, 153, 0, 32, 42, 28, 182, 0, 75, 153, 0, 24, 27, 28, 159, 0, 19, 42]
abbrev dktX2_road_0 : List UInt8 := dkwX2_road_0 ++ dktX2_road_1
theorem dksX2_road_0 : cX2_road.data.toList.drop 0 = dktX2_road_0 := by decide +kernel
theorem dksX2_road_1 : cX2_road.data.toList.drop 22 = dktX2_road_1 := dk_seg dksX2_road_0 22 rfl rfl
theorem dksX2_road_2 : cX2_road.data.toList.drop 46 = dktX2_road_2 := dk_seg dksX2_road_1 24 rfl rfl
theorem dksX2_road_3 : cX2_road.data.toList.drop 70 = dktX2_road_3 := dk_seg dksX2_road_2 24 rfl rfl
theorem dX2_road_0 : decode cX2_road 0 = .ok (.aload_n 0, 1) := dk_42 (dk_at dksX2_road_0 0 rfl rfl)
theorem dX2_road_1 : decode cX2_road 1 = .ok (.iload_n 1, 1) := dk_27 (dk_at dksX2_road_0 1 rfl rfl)
theorem dX2_road_2 : decode cX2_road 2 = .ok (.invokevirtual 75, 3) := dk_182 0 75 (dk_at dksX2_road_0 2 rfl rfl)
theorem dX2_road_5 : decode cX2_road 5 = .ok (.ifCond .eq 32, 3) := dk_153 0 32 (dk_at dksX2_road_0 5 rfl rfl)
theorem dX2_road_8 : decode cX2_road 8 = .ok (.aload_n 0, 1) := dk_42 (dk_at dksX2_road_0 8 rfl rfl)
theorem dX2_road_9 : decode cX2_road 9 = .ok (.iload_n 2, 1) := dk_28 (dk_at dksX2_road_0 9 rfl rfl)
theorem dX2_road_10 : decode cX2_road 10 = .ok (.invokevirtual 75, 3) := dk_182 0 75 (dk_at dksX2_road_0 10 rfl rfl)
theorem dX2_road_13 : decode cX2_road 13 = .ok (.ifCond .eq 24, 3) := dk_153 0 24 (dk_at dksX2_road_0 13 rfl rfl)
theorem dX2_road_16 : decode cX2_road 16 = .ok (.iload_n 1, 1) := dk_27 (dk_at dksX2_road_0 16 rfl rfl)
theorem dX2_road_17 : decode cX2_road 17 = .ok (.iload_n 2, 1) := dk_28 (dk_at dksX2_road_0 17 rfl rfl)
theorem dX2_road_18 : decode cX2_road 18 = .ok (.if_icmp .eq 19, 3) := dk_159 0 19 (dk_at dksX2_road_0 18 rfl rfl)
theorem dX2_road_21 : decode cX2_road 21 = .ok (.aload_n 0, 1) := dk_42 (dk_at dksX2_road_0 21 rfl rfl)
theorem dX2_road_22 : decode cX2_road 22 = .ok (.getfield 7, 3) := dk_180 0 7 (dk_at dksX2_road_1 0 rfl rfl)
theorem dX2_road_25 : decode cX2_road 25 = .ok (.bipush 88, 2) := dk_16 88 (dk_at dksX2_road_1 3 rfl rfl)
theorem dX2_road_27 : decode cX2_road 27 = .ok (.iload_n 1, 1) := dk_27 (dk_at dksX2_road_1 5 rfl rfl)
theorem dX2_road_28 : decode cX2_road 28 = .ok (.iadd, 1) := dk_96 (dk_at dksX2_road_1 6 rfl rfl)
theorem dX2_road_29 : decode cX2_road 29 = .ok (.iaload, 1) := dk_46 (dk_at dksX2_road_1 7 rfl rfl)
theorem dX2_road_30 : decode cX2_road 30 = .ok (.iload_n 2, 1) := dk_28 (dk_at dksX2_road_1 8 rfl rfl)
theorem dX2_road_31 : decode cX2_road 31 = .ok (.invokestatic 78, 3) := dk_184 0 78 (dk_at dksX2_road_1 9 rfl rfl)
theorem dX2_road_34 : decode cX2_road 34 = .ok (.ifCond .eq 5, 3) := dk_153 0 5 (dk_at dksX2_road_1 12 rfl rfl)
theorem dX2_road_37 : decode cX2_road 37 = .ok (.iconst 0, 1) := dk_3 (dk_at dksX2_road_1 15 rfl rfl)
theorem dX2_road_38 : decode cX2_road 38 = .ok (.ireturn, 1) := dk_172 (dk_at dksX2_road_1 16 rfl rfl)
theorem dX2_road_39 : decode cX2_road 39 = .ok (.aload_n 0, 1) := dk_42 (dk_at dksX2_road_1 17 rfl rfl)
theorem dX2_road_40 : decode cX2_road 40 = .ok (.getfield 7, 3) := dk_180 0 7 (dk_at dksX2_road_1 18 rfl rfl)
theorem dX2_road_43 : decode cX2_road 43 = .ok (.bipush 88, 2) := dk_16 88 (dk_at dksX2_road_1 21 rfl rfl)
theorem dX2_road_45 : decode cX2_road 45 = .ok (.iload_n 1, 1) := dk_27 (dk_at dksX2_road_1 23 rfl rfl)
theorem dX2_road_46 : decode cX2_road 46 = .ok (.iadd, 1) := dk_96 (dk_at dksX2_road_2 0 rfl rfl)
theorem dX2_road_47 : decode cX2_road 47 = .ok (.dup2, 1) := dk_92 (dk_at dksX2_road_2 1 rfl rfl)
theorem dX2_road_48 : decode cX2_road 48 = .ok (.iaload, 1) := dk_46 (dk_at dksX2_road_2 2 rfl rfl)
theorem dX2_road_49 : decode cX2_road 49 = .ok (.iconst 1, 1) := dk_4 (dk_at dksX2_road_2 3 rfl rfl)
theorem dX2_road_50 : decode cX2_road 50 = .ok (.iload_n 2, 1) := dk_28 (dk_at dksX2_road_2 4 rfl rfl)
theorem dX2_road_51 : decode cX2_road 51 = .ok (.ishl, 1) := dk_120 (dk_at dksX2_road_2 5 rfl rfl)
theorem dX2_road_52 : decode cX2_road 52 = .ok (.ior, 1) := dk_128 (dk_at dksX2_road_2 6 rfl rfl)
theorem dX2_road_53 : decode cX2_road 53 = .ok (.iastore, 1) := dk_79 (dk_at dksX2_road_2 7 rfl rfl)
theorem dX2_road_54 : decode cX2_road 54 = .ok (.aload_n 0, 1) := dk_42 (dk_at dksX2_road_2 8 rfl rfl)
theorem dX2_road_55 : decode cX2_road 55 = .ok (.getfield 7, 3) := dk_180 0 7 (dk_at dksX2_road_2 9 rfl rfl)
theorem dX2_road_58 : decode cX2_road 58 = .ok (.bipush 88, 2) := dk_16 88 (dk_at dksX2_road_2 12 rfl rfl)
theorem dX2_road_60 : decode cX2_road 60 = .ok (.iload_n 2, 1) := dk_28 (dk_at dksX2_road_2 14 rfl rfl)
theorem dX2_road_61 : decode cX2_road 61 = .ok (.iadd, 1) := dk_96 (dk_at dksX2_road_2 15 rfl rfl)
theorem dX2_road_62 : decode cX2_road 62 = .ok (.dup2, 1) := dk_92 (dk_at dksX2_road_2 16 rfl rfl)
theorem dX2_road_63 : decode cX2_road 63 = .ok (.iaload, 1) := dk_46 (dk_at dksX2_road_2 17 rfl rfl)
theorem dX2_road_64 : decode cX2_road 64 = .ok (.iconst 1, 1) := dk_4 (dk_at dksX2_road_2 18 rfl rfl)
theorem dX2_road_65 : decode cX2_road 65 = .ok (.iload_n 1, 1) := dk_27 (dk_at dksX2_road_2 19 rfl rfl)
theorem dX2_road_66 : decode cX2_road 66 = .ok (.ishl, 1) := dk_120 (dk_at dksX2_road_2 20 rfl rfl)
theorem dX2_road_67 : decode cX2_road 67 = .ok (.ior, 1) := dk_128 (dk_at dksX2_road_2 21 rfl rfl)
theorem dX2_road_68 : decode cX2_road 68 = .ok (.iastore, 1) := dk_79 (dk_at dksX2_road_2 22 rfl rfl)
theorem dX2_road_69 : decode cX2_road 69 = .ok (.iconst 1, 1) := dk_4 (dk_at dksX2_road_2 23 rfl rfl)
theorem dX2_road_70 : decode cX2_road 70 = .ok (.ireturn, 1) := dk_172 (dk_at dksX2_road_3 0 rfl rfl)
abbrev cX2_isLand : ByteArray := prog_20_method_7_code
def yX2_isLand : MethodName := ⟨RX2, "isLand", "(I)Z"⟩
def dkwX2_isLand_0 : List UInt8 := [27, 3, 42, 180, 0, 7, 3, 46, 4, 100, 184, 0, 63, 172]
abbrev dktX2_isLand_0 : List UInt8 := dkwX2_isLand_0 ++ []
theorem dksX2_isLand_0 : cX2_isLand.data.toList.drop 0 = dktX2_isLand_0 := by decide +kernel
theorem dX2_isLand_0 : decode cX2_isLand 0 = .ok (.iload_n 1, 1) := dk_27 (dk_at dksX2_isLand_0 0 rfl rfl)
theorem dX2_isLand_1 : decode cX2_isLand 1 = .ok (.iconst 0, 1) := dk_3 (dk_at dksX2_isLand_0 1 rfl rfl)
theorem dX2_isLand_2 : decode cX2_isLand 2 = .ok (.aload_n 0, 1) := dk_42 (dk_at dksX2_isLand_0 2 rfl rfl)
theorem dX2_isLand_3 : decode cX2_isLand 3 = .ok (.getfield 7, 3) := dk_180 0 7 (dk_at dksX2_isLand_0 3 rfl rfl)
theorem dX2_isLand_6 : decode cX2_isLand 6 = .ok (.iconst 0, 1) := dk_3 (dk_at dksX2_isLand_0 6 rfl rfl)
theorem dX2_isLand_7 : decode cX2_isLand 7 = .ok (.iaload, 1) := dk_46 (dk_at dksX2_isLand_0 7 rfl rfl)
theorem dX2_isLand_8 : decode cX2_isLand 8 = .ok (.iconst 1, 1) := dk_4 (dk_at dksX2_isLand_0 8 rfl rfl)
theorem dX2_isLand_9 : decode cX2_isLand 9 = .ok (.isub, 1) := dk_100 (dk_at dksX2_isLand_0 9 rfl rfl)
theorem dX2_isLand_10 : decode cX2_isLand 10 = .ok (.invokestatic 63, 3) := dk_184 0 63 (dk_at dksX2_isLand_0 10 rfl rfl)
theorem dX2_isLand_13 : decode cX2_isLand 13 = .ok (.ireturn, 1) := dk_172 (dk_at dksX2_isLand_0 13 rfl rfl)
abbrev cX2_isWith : ByteArray := prog_20_method_5_code
def yX2_isWith : MethodName := ⟨RX2, "isWith", "(II)Z"⟩
def dkwX2_isWith_0 : List UInt8 := [26, 27, 122, 4, 126, 4, 160, 0, 7, 4, 167, 0, 4, 3, 172]
abbrev dktX2_isWith_0 : List UInt8 := dkwX2_isWith_0 ++ []
theorem dksX2_isWith_0 : cX2_isWith.data.toList.drop 0 = dktX2_isWith_0 := by decide +kernel
theorem dX2_isWith_0 : decode cX2_isWith 0 = .ok (.iload_n 0, 1) := dk_26 (dk_at dksX2_isWith_0 0 rfl rfl)
theorem dX2_isWith_1 : decode cX2_isWith 1 = .ok (.iload_n 1, 1) := dk_27 (dk_at dksX2_isWith_0 1 rfl rfl)
theorem dX2_isWith_2 : decode cX2_isWith 2 = .ok (.ishr, 1) := dk_122 (dk_at dksX2_isWith_0 2 rfl rfl)
theorem dX2_isWith_3 : decode cX2_isWith 3 = .ok (.iconst 1, 1) := dk_4 (dk_at dksX2_isWith_0 3 rfl rfl)
theorem dX2_isWith_4 : decode cX2_isWith 4 = .ok (.iand, 1) := dk_126 (dk_at dksX2_isWith_0 4 rfl rfl)
theorem dX2_isWith_5 : decode cX2_isWith 5 = .ok (.iconst 1, 1) := dk_4 (dk_at dksX2_isWith_0 5 rfl rfl)
theorem dX2_isWith_6 : decode cX2_isWith 6 = .ok (.if_icmp .ne 7, 3) := dk_160 0 7 (dk_at dksX2_isWith_0 6 rfl rfl)
theorem dX2_isWith_9 : decode cX2_isWith 9 = .ok (.iconst 1, 1) := dk_4 (dk_at dksX2_isWith_0 9 rfl rfl)
theorem dX2_isWith_10 : decode cX2_isWith 10 = .ok (.goto 4, 3) := dk_167 0 4 (dk_at dksX2_isWith_0 10 rfl rfl)
theorem dX2_isWith_13 : decode cX2_isWith 13 = .ok (.iconst 0, 1) := dk_3 (dk_at dksX2_isWith_0 13 rfl rfl)
theorem dX2_isWith_14 : decode cX2_isWith 14 = .ok (.ireturn, 1) := dk_172 (dk_at dksX2_isWith_0 14 rfl rfl)
abbrev cX2_person : ByteArray := prog_20_method_15_code
def yX2_person : MethodName := ⟨RX2, "person", "(IIII)I"⟩
def dkwX2_person_4 : List UInt8 := [21, 4, 182, 0, 82, 42, 21, 5, 182, 0, 86, 42, 180, 0, 7, 4, 92, 46, 4, 96, 79, 21, 5, 172]
abbrev dktX2_person_4 : List UInt8 := dkwX2_person_4 ++ []
def dkwX2_person_3 : List UInt8 := [42, 21, 5, 16, 8, 27, 182, 0, 82, 42, 21, 5, 16, 9, 29, 182, 0, 82, 42, 21, 5, 16, 10]
abbrev dktX2_person_3 : List UInt8 := dkwX2_person_3 ++ dktX2_person_4
def dkwX2_person_2 : List UInt8 := [16, 6, 160, 0, 5, 2, 172, 42, 180, 0, 7, 4, 46, 54, 5, 42, 21, 5, 16, 7, 28, 182, 0, 82]
abbrev dktX2_person_2 : List UInt8 := dkwX2_person_2 ++ dktX2_person_3
def dkwX2_person_1 : List UInt8 := [184, 0, 63, 153, 0, 26, 21, 4, 3, 17, 39, 15, 184, 0, 63, 153, 0, 14, 42, 180, 0, 7, 4, 46]
abbrev dktX2_person_1 : List UInt8 := dkwX2_person_1 ++ dktX2_person_2
def dkwX2_person_0 : List UInt8 := [42, 27, 182, 0, 75, 153, 0, 47, 28, 3, 16, 9, 184, 0, 63, 153, 0, 37, 29, 3, 17, 39, 15]
abbrev dktX2_person_0 : List UInt8 := dkwX2_person_0 ++ dktX2_person_1
theorem dksX2_person_0 : cX2_person.data.toList.drop 0 = dktX2_person_0 := by decide +kernel
theorem dksX2_person_1 : cX2_person.data.toList.drop 23 = dktX2_person_1 := dk_seg dksX2_person_0 23 rfl rfl
theorem dksX2_person_2 : cX2_person.data.toList.drop 47 = dktX2_person_2 := dk_seg dksX2_person_1 24 rfl rfl
theorem dksX2_person_3 : cX2_person.data.toList.drop 71 = dktX2_person_3 := dk_seg dksX2_person_2 24 rfl rfl
theorem dksX2_person_4 : cX2_person.data.toList.drop 94 = dktX2_person_4 := dk_seg dksX2_person_3 23 rfl rfl
theorem dX2_person_0 : decode cX2_person 0 = .ok (.aload_n 0, 1) := dk_42 (dk_at dksX2_person_0 0 rfl rfl)
theorem dX2_person_1 : decode cX2_person 1 = .ok (.iload_n 1, 1) := dk_27 (dk_at dksX2_person_0 1 rfl rfl)
theorem dX2_person_2 : decode cX2_person 2 = .ok (.invokevirtual 75, 3) := dk_182 0 75 (dk_at dksX2_person_0 2 rfl rfl)
theorem dX2_person_5 : decode cX2_person 5 = .ok (.ifCond .eq 47, 3) := dk_153 0 47 (dk_at dksX2_person_0 5 rfl rfl)
theorem dX2_person_8 : decode cX2_person 8 = .ok (.iload_n 2, 1) := dk_28 (dk_at dksX2_person_0 8 rfl rfl)
theorem dX2_person_9 : decode cX2_person 9 = .ok (.iconst 0, 1) := dk_3 (dk_at dksX2_person_0 9 rfl rfl)
theorem dX2_person_10 : decode cX2_person 10 = .ok (.bipush 9, 2) := dk_16 9 (dk_at dksX2_person_0 10 rfl rfl)
theorem dX2_person_12 : decode cX2_person 12 = .ok (.invokestatic 63, 3) := dk_184 0 63 (dk_at dksX2_person_0 12 rfl rfl)
theorem dX2_person_15 : decode cX2_person 15 = .ok (.ifCond .eq 37, 3) := dk_153 0 37 (dk_at dksX2_person_0 15 rfl rfl)
theorem dX2_person_18 : decode cX2_person 18 = .ok (.iload_n 3, 1) := dk_29 (dk_at dksX2_person_0 18 rfl rfl)
theorem dX2_person_19 : decode cX2_person 19 = .ok (.iconst 0, 1) := dk_3 (dk_at dksX2_person_0 19 rfl rfl)
theorem dX2_person_20 : decode cX2_person 20 = .ok (.sipush 9999, 3) := dk_17 39 15 (dk_at dksX2_person_0 20 rfl rfl)
theorem dX2_person_23 : decode cX2_person 23 = .ok (.invokestatic 63, 3) := dk_184 0 63 (dk_at dksX2_person_1 0 rfl rfl)
theorem dX2_person_26 : decode cX2_person 26 = .ok (.ifCond .eq 26, 3) := dk_153 0 26 (dk_at dksX2_person_1 3 rfl rfl)
theorem dX2_person_29 : decode cX2_person 29 = .ok (.iload 4, 2) := dk_21 4 (dk_at dksX2_person_1 6 rfl rfl)
theorem dX2_person_31 : decode cX2_person 31 = .ok (.iconst 0, 1) := dk_3 (dk_at dksX2_person_1 8 rfl rfl)
theorem dX2_person_32 : decode cX2_person 32 = .ok (.sipush 9999, 3) := dk_17 39 15 (dk_at dksX2_person_1 9 rfl rfl)
theorem dX2_person_35 : decode cX2_person 35 = .ok (.invokestatic 63, 3) := dk_184 0 63 (dk_at dksX2_person_1 12 rfl rfl)
theorem dX2_person_38 : decode cX2_person 38 = .ok (.ifCond .eq 14, 3) := dk_153 0 14 (dk_at dksX2_person_1 15 rfl rfl)
theorem dX2_person_41 : decode cX2_person 41 = .ok (.aload_n 0, 1) := dk_42 (dk_at dksX2_person_1 18 rfl rfl)
theorem dX2_person_42 : decode cX2_person 42 = .ok (.getfield 7, 3) := dk_180 0 7 (dk_at dksX2_person_1 19 rfl rfl)
theorem dX2_person_45 : decode cX2_person 45 = .ok (.iconst 1, 1) := dk_4 (dk_at dksX2_person_1 22 rfl rfl)
theorem dX2_person_46 : decode cX2_person 46 = .ok (.iaload, 1) := dk_46 (dk_at dksX2_person_1 23 rfl rfl)
theorem dX2_person_47 : decode cX2_person 47 = .ok (.bipush 6, 2) := dk_16 6 (dk_at dksX2_person_2 0 rfl rfl)
theorem dX2_person_49 : decode cX2_person 49 = .ok (.if_icmp .ne 5, 3) := dk_160 0 5 (dk_at dksX2_person_2 2 rfl rfl)
theorem dX2_person_52 : decode cX2_person 52 = .ok (.iconst (-1), 1) := dk_2 (dk_at dksX2_person_2 5 rfl rfl)
theorem dX2_person_53 : decode cX2_person 53 = .ok (.ireturn, 1) := dk_172 (dk_at dksX2_person_2 6 rfl rfl)
theorem dX2_person_54 : decode cX2_person 54 = .ok (.aload_n 0, 1) := dk_42 (dk_at dksX2_person_2 7 rfl rfl)
theorem dX2_person_55 : decode cX2_person 55 = .ok (.getfield 7, 3) := dk_180 0 7 (dk_at dksX2_person_2 8 rfl rfl)
theorem dX2_person_58 : decode cX2_person 58 = .ok (.iconst 1, 1) := dk_4 (dk_at dksX2_person_2 11 rfl rfl)
theorem dX2_person_59 : decode cX2_person 59 = .ok (.iaload, 1) := dk_46 (dk_at dksX2_person_2 12 rfl rfl)
theorem dX2_person_60 : decode cX2_person 60 = .ok (.istore 5, 2) := dk_54 5 (dk_at dksX2_person_2 13 rfl rfl)
theorem dX2_person_62 : decode cX2_person 62 = .ok (.aload_n 0, 1) := dk_42 (dk_at dksX2_person_2 15 rfl rfl)
theorem dX2_person_63 : decode cX2_person 63 = .ok (.iload 5, 2) := dk_21 5 (dk_at dksX2_person_2 16 rfl rfl)
theorem dX2_person_65 : decode cX2_person 65 = .ok (.bipush 7, 2) := dk_16 7 (dk_at dksX2_person_2 18 rfl rfl)
theorem dX2_person_67 : decode cX2_person 67 = .ok (.iload_n 2, 1) := dk_28 (dk_at dksX2_person_2 20 rfl rfl)
theorem dX2_person_68 : decode cX2_person 68 = .ok (.invokevirtual 82, 3) := dk_182 0 82 (dk_at dksX2_person_2 21 rfl rfl)
theorem dX2_person_71 : decode cX2_person 71 = .ok (.aload_n 0, 1) := dk_42 (dk_at dksX2_person_3 0 rfl rfl)
theorem dX2_person_72 : decode cX2_person 72 = .ok (.iload 5, 2) := dk_21 5 (dk_at dksX2_person_3 1 rfl rfl)
theorem dX2_person_74 : decode cX2_person 74 = .ok (.bipush 8, 2) := dk_16 8 (dk_at dksX2_person_3 3 rfl rfl)
theorem dX2_person_76 : decode cX2_person 76 = .ok (.iload_n 1, 1) := dk_27 (dk_at dksX2_person_3 5 rfl rfl)
theorem dX2_person_77 : decode cX2_person 77 = .ok (.invokevirtual 82, 3) := dk_182 0 82 (dk_at dksX2_person_3 6 rfl rfl)
theorem dX2_person_80 : decode cX2_person 80 = .ok (.aload_n 0, 1) := dk_42 (dk_at dksX2_person_3 9 rfl rfl)
theorem dX2_person_81 : decode cX2_person 81 = .ok (.iload 5, 2) := dk_21 5 (dk_at dksX2_person_3 10 rfl rfl)
theorem dX2_person_83 : decode cX2_person 83 = .ok (.bipush 9, 2) := dk_16 9 (dk_at dksX2_person_3 12 rfl rfl)
theorem dX2_person_85 : decode cX2_person 85 = .ok (.iload_n 3, 1) := dk_29 (dk_at dksX2_person_3 14 rfl rfl)
theorem dX2_person_86 : decode cX2_person 86 = .ok (.invokevirtual 82, 3) := dk_182 0 82 (dk_at dksX2_person_3 15 rfl rfl)
theorem dX2_person_89 : decode cX2_person 89 = .ok (.aload_n 0, 1) := dk_42 (dk_at dksX2_person_3 18 rfl rfl)
theorem dX2_person_90 : decode cX2_person 90 = .ok (.iload 5, 2) := dk_21 5 (dk_at dksX2_person_3 19 rfl rfl)
theorem dX2_person_92 : decode cX2_person 92 = .ok (.bipush 10, 2) := dk_16 10 (dk_at dksX2_person_3 21 rfl rfl)
theorem dX2_person_94 : decode cX2_person 94 = .ok (.iload 4, 2) := dk_21 4 (dk_at dksX2_person_4 0 rfl rfl)
theorem dX2_person_96 : decode cX2_person 96 = .ok (.invokevirtual 82, 3) := dk_182 0 82 (dk_at dksX2_person_4 2 rfl rfl)
theorem dX2_person_99 : decode cX2_person 99 = .ok (.aload_n 0, 1) := dk_42 (dk_at dksX2_person_4 5 rfl rfl)
theorem dX2_person_100 : decode cX2_person 100 = .ok (.iload 5, 2) := dk_21 5 (dk_at dksX2_person_4 6 rfl rfl)
theorem dX2_person_102 : decode cX2_person 102 = .ok (.invokevirtual 86, 3) := dk_182 0 86 (dk_at dksX2_person_4 8 rfl rfl)
theorem dX2_person_105 : decode cX2_person 105 = .ok (.aload_n 0, 1) := dk_42 (dk_at dksX2_person_4 11 rfl rfl)
theorem dX2_person_106 : decode cX2_person 106 = .ok (.getfield 7, 3) := dk_180 0 7 (dk_at dksX2_person_4 12 rfl rfl)
theorem dX2_person_109 : decode cX2_person 109 = .ok (.iconst 1, 1) := dk_4 (dk_at dksX2_person_4 15 rfl rfl)
theorem dX2_person_110 : decode cX2_person 110 = .ok (.dup2, 1) := dk_92 (dk_at dksX2_person_4 16 rfl rfl)
theorem dX2_person_111 : decode cX2_person 111 = .ok (.iaload, 1) := dk_46 (dk_at dksX2_person_4 17 rfl rfl)
theorem dX2_person_112 : decode cX2_person 112 = .ok (.iconst 1, 1) := dk_4 (dk_at dksX2_person_4 18 rfl rfl)
theorem dX2_person_113 : decode cX2_person 113 = .ok (.iadd, 1) := dk_96 (dk_at dksX2_person_4 19 rfl rfl)
theorem dX2_person_114 : decode cX2_person 114 = .ok (.iastore, 1) := dk_79 (dk_at dksX2_person_4 20 rfl rfl)
theorem dX2_person_115 : decode cX2_person 115 = .ok (.iload 5, 2) := dk_21 5 (dk_at dksX2_person_4 21 rfl rfl)
theorem dX2_person_117 : decode cX2_person 117 = .ok (.ireturn, 1) := dk_172 (dk_at dksX2_person_4 23 rfl rfl)
abbrev cX2_put : ByteArray := prog_20_method_10_code
def yX2_put : MethodName := ⟨RX2, "put", "(III)V"⟩
def dkwX2_put_0 : List UInt8 := [42, 180, 0, 7, 16, 14, 16, 11, 27, 104, 96, 28, 96, 29, 79, 177]
abbrev dktX2_put_0 : List UInt8 := dkwX2_put_0 ++ []
theorem dksX2_put_0 : cX2_put.data.toList.drop 0 = dktX2_put_0 := by decide +kernel
theorem dX2_put_0 : decode cX2_put 0 = .ok (.aload_n 0, 1) := dk_42 (dk_at dksX2_put_0 0 rfl rfl)
theorem dX2_put_1 : decode cX2_put 1 = .ok (.getfield 7, 3) := dk_180 0 7 (dk_at dksX2_put_0 1 rfl rfl)
theorem dX2_put_4 : decode cX2_put 4 = .ok (.bipush 14, 2) := dk_16 14 (dk_at dksX2_put_0 4 rfl rfl)
theorem dX2_put_6 : decode cX2_put 6 = .ok (.bipush 11, 2) := dk_16 11 (dk_at dksX2_put_0 6 rfl rfl)
theorem dX2_put_8 : decode cX2_put 8 = .ok (.iload_n 1, 1) := dk_27 (dk_at dksX2_put_0 8 rfl rfl)
theorem dX2_put_9 : decode cX2_put 9 = .ok (.imul, 1) := dk_104 (dk_at dksX2_put_0 9 rfl rfl)
theorem dX2_put_10 : decode cX2_put 10 = .ok (.iadd, 1) := dk_96 (dk_at dksX2_put_0 10 rfl rfl)
theorem dX2_put_11 : decode cX2_put 11 = .ok (.iload_n 2, 1) := dk_28 (dk_at dksX2_put_0 11 rfl rfl)
theorem dX2_put_12 : decode cX2_put 12 = .ok (.iadd, 1) := dk_96 (dk_at dksX2_put_0 12 rfl rfl)
theorem dX2_put_13 : decode cX2_put 13 = .ok (.iload_n 3, 1) := dk_29 (dk_at dksX2_put_0 13 rfl rfl)
theorem dX2_put_14 : decode cX2_put 14 = .ok (.iastore, 1) := dk_79 (dk_at dksX2_put_0 14 rfl rfl)
theorem dX2_put_15 : decode cX2_put 15 = .ok (.return_, 1) := dk_177 (dk_at dksX2_put_0 15 rfl rfl)
abbrev cX2_begin : ByteArray := prog_20_method_16_code
def yX2_begin : MethodName := ⟨RX2, "begin", "(I)V"⟩
def dkwX2_begin_2 : List UInt8 := [167, 255, 240, 177]
abbrev dktX2_begin_2 : List UInt8 := dkwX2_begin_2 ++ []
def dkwX2_begin_1 : List UInt8 := [132, 2, 1, 167, 255, 233, 6, 61, 28, 16, 6, 163, 0, 16, 42, 27, 28, 3, 182, 0, 82, 132, 2, 1]
abbrev dktX2_begin_1 : List UInt8 := dkwX2_begin_1 ++ dktX2_begin_2
def dkwX2_begin_0 : List UInt8 := [3, 61, 28, 6, 162, 0, 24, 42, 27, 28, 42, 27, 16, 8, 28, 96, 182, 0, 71, 182, 0, 82]
abbrev dktX2_begin_0 : List UInt8 := dkwX2_begin_0 ++ dktX2_begin_1
theorem dksX2_begin_0 : cX2_begin.data.toList.drop 0 = dktX2_begin_0 := by decide +kernel
theorem dksX2_begin_1 : cX2_begin.data.toList.drop 22 = dktX2_begin_1 := dk_seg dksX2_begin_0 22 rfl rfl
theorem dksX2_begin_2 : cX2_begin.data.toList.drop 46 = dktX2_begin_2 := dk_seg dksX2_begin_1 24 rfl rfl
theorem dX2_begin_0 : decode cX2_begin 0 = .ok (.iconst 0, 1) := dk_3 (dk_at dksX2_begin_0 0 rfl rfl)
theorem dX2_begin_1 : decode cX2_begin 1 = .ok (.istore_n 2, 1) := dk_61 (dk_at dksX2_begin_0 1 rfl rfl)
theorem dX2_begin_2 : decode cX2_begin 2 = .ok (.iload_n 2, 1) := dk_28 (dk_at dksX2_begin_0 2 rfl rfl)
theorem dX2_begin_3 : decode cX2_begin 3 = .ok (.iconst 3, 1) := dk_6 (dk_at dksX2_begin_0 3 rfl rfl)
theorem dX2_begin_4 : decode cX2_begin 4 = .ok (.if_icmp .ge 24, 3) := dk_162 0 24 (dk_at dksX2_begin_0 4 rfl rfl)
theorem dX2_begin_7 : decode cX2_begin 7 = .ok (.aload_n 0, 1) := dk_42 (dk_at dksX2_begin_0 7 rfl rfl)
theorem dX2_begin_8 : decode cX2_begin 8 = .ok (.iload_n 1, 1) := dk_27 (dk_at dksX2_begin_0 8 rfl rfl)
theorem dX2_begin_9 : decode cX2_begin 9 = .ok (.iload_n 2, 1) := dk_28 (dk_at dksX2_begin_0 9 rfl rfl)
theorem dX2_begin_10 : decode cX2_begin 10 = .ok (.aload_n 0, 1) := dk_42 (dk_at dksX2_begin_0 10 rfl rfl)
theorem dX2_begin_11 : decode cX2_begin 11 = .ok (.iload_n 1, 1) := dk_27 (dk_at dksX2_begin_0 11 rfl rfl)
theorem dX2_begin_12 : decode cX2_begin 12 = .ok (.bipush 8, 2) := dk_16 8 (dk_at dksX2_begin_0 12 rfl rfl)
theorem dX2_begin_14 : decode cX2_begin 14 = .ok (.iload_n 2, 1) := dk_28 (dk_at dksX2_begin_0 14 rfl rfl)
theorem dX2_begin_15 : decode cX2_begin 15 = .ok (.iadd, 1) := dk_96 (dk_at dksX2_begin_0 15 rfl rfl)
theorem dX2_begin_16 : decode cX2_begin 16 = .ok (.invokevirtual 71, 3) := dk_182 0 71 (dk_at dksX2_begin_0 16 rfl rfl)
theorem dX2_begin_19 : decode cX2_begin 19 = .ok (.invokevirtual 82, 3) := dk_182 0 82 (dk_at dksX2_begin_0 19 rfl rfl)
theorem dX2_begin_22 : decode cX2_begin 22 = .ok (.iinc 2 1, 3) := dk_132 2 1 (dk_at dksX2_begin_1 0 rfl rfl)
theorem dX2_begin_25 : decode cX2_begin 25 = .ok (.goto (-23), 3) := dk_167 255 233 (dk_at dksX2_begin_1 3 rfl rfl)
theorem dX2_begin_28 : decode cX2_begin 28 = .ok (.iconst 3, 1) := dk_6 (dk_at dksX2_begin_1 6 rfl rfl)
theorem dX2_begin_29 : decode cX2_begin 29 = .ok (.istore_n 2, 1) := dk_61 (dk_at dksX2_begin_1 7 rfl rfl)
theorem dX2_begin_30 : decode cX2_begin 30 = .ok (.iload_n 2, 1) := dk_28 (dk_at dksX2_begin_1 8 rfl rfl)
theorem dX2_begin_31 : decode cX2_begin 31 = .ok (.bipush 6, 2) := dk_16 6 (dk_at dksX2_begin_1 9 rfl rfl)
theorem dX2_begin_33 : decode cX2_begin 33 = .ok (.if_icmp .gt 16, 3) := dk_163 0 16 (dk_at dksX2_begin_1 11 rfl rfl)
theorem dX2_begin_36 : decode cX2_begin 36 = .ok (.aload_n 0, 1) := dk_42 (dk_at dksX2_begin_1 14 rfl rfl)
theorem dX2_begin_37 : decode cX2_begin 37 = .ok (.iload_n 1, 1) := dk_27 (dk_at dksX2_begin_1 15 rfl rfl)
theorem dX2_begin_38 : decode cX2_begin 38 = .ok (.iload_n 2, 1) := dk_28 (dk_at dksX2_begin_1 16 rfl rfl)
theorem dX2_begin_39 : decode cX2_begin 39 = .ok (.iconst 0, 1) := dk_3 (dk_at dksX2_begin_1 17 rfl rfl)
theorem dX2_begin_40 : decode cX2_begin 40 = .ok (.invokevirtual 82, 3) := dk_182 0 82 (dk_at dksX2_begin_1 18 rfl rfl)
theorem dX2_begin_43 : decode cX2_begin 43 = .ok (.iinc 2 1, 3) := dk_132 2 1 (dk_at dksX2_begin_1 21 rfl rfl)
theorem dX2_begin_46 : decode cX2_begin 46 = .ok (.goto (-16), 3) := dk_167 255 240 (dk_at dksX2_begin_2 0 rfl rfl)
theorem dX2_begin_49 : decode cX2_begin 49 = .ok (.return_, 1) := dk_177 (dk_at dksX2_begin_2 3 rfl rfl)
abbrev cX2_get : ByteArray := prog_20_method_9_code
def yX2_get : MethodName := ⟨RX2, "get", "(II)I"⟩
def dkwX2_get_0 : List UInt8 := [42, 180, 0, 7, 16, 14, 16, 11, 27, 104, 96, 28, 96, 46, 172]
abbrev dktX2_get_0 : List UInt8 := dkwX2_get_0 ++ []
theorem dksX2_get_0 : cX2_get.data.toList.drop 0 = dktX2_get_0 := by decide +kernel
theorem dX2_get_0 : decode cX2_get 0 = .ok (.aload_n 0, 1) := dk_42 (dk_at dksX2_get_0 0 rfl rfl)
theorem dX2_get_1 : decode cX2_get 1 = .ok (.getfield 7, 3) := dk_180 0 7 (dk_at dksX2_get_0 1 rfl rfl)
theorem dX2_get_4 : decode cX2_get 4 = .ok (.bipush 14, 2) := dk_16 14 (dk_at dksX2_get_0 4 rfl rfl)
theorem dX2_get_6 : decode cX2_get 6 = .ok (.bipush 11, 2) := dk_16 11 (dk_at dksX2_get_0 6 rfl rfl)
theorem dX2_get_8 : decode cX2_get 8 = .ok (.iload_n 1, 1) := dk_27 (dk_at dksX2_get_0 8 rfl rfl)
theorem dX2_get_9 : decode cX2_get 9 = .ok (.imul, 1) := dk_104 (dk_at dksX2_get_0 9 rfl rfl)
theorem dX2_get_10 : decode cX2_get 10 = .ok (.iadd, 1) := dk_96 (dk_at dksX2_get_0 10 rfl rfl)
theorem dX2_get_11 : decode cX2_get 11 = .ok (.iload_n 2, 1) := dk_28 (dk_at dksX2_get_0 11 rfl rfl)
theorem dX2_get_12 : decode cX2_get 12 = .ok (.iadd, 1) := dk_96 (dk_at dksX2_get_0 12 rfl rfl)
theorem dX2_get_13 : decode cX2_get 13 = .ok (.iaload, 1) := dk_46 (dk_at dksX2_get_0 13 rfl rfl)
theorem dX2_get_14 : decode cX2_get 14 = .ok (.ireturn, 1) := dk_172 (dk_at dksX2_get_0 14 rfl rfl)
abbrev cX2_feed : ByteArray := prog_20_method_18_code
def yX2_feed : MethodName := ⟨RX2, "feed", "(IIIII)I"⟩
def dkwX2_feed_2 : List UInt8 := [172]
abbrev dktX2_feed_2 : List UInt8 := dkwX2_feed_2 ++ []
def dkwX2_feed_1 : List UInt8 := [182, 0, 93, 42, 29, 182, 0, 93, 42, 21, 4, 182, 0, 93, 42, 21, 5, 182, 0, 93, 42, 180, 0, 90]
abbrev dktX2_feed_1 : List UInt8 := dkwX2_feed_1 ++ dktX2_feed_2
def dkwX2_feed_0 : List UInt8 := [42, 180, 0, 90, 16, 20, 96, 17, 1, 44, 164, 0, 5, 2, 172, 42, 27, 182, 0, 93, 42, 28]
abbrev dktX2_feed_0 : List UInt8 := dkwX2_feed_0 ++ dktX2_feed_1
theorem dksX2_feed_0 : cX2_feed.data.toList.drop 0 = dktX2_feed_0 := by decide +kernel
theorem dksX2_feed_1 : cX2_feed.data.toList.drop 22 = dktX2_feed_1 := dk_seg dksX2_feed_0 22 rfl rfl
theorem dksX2_feed_2 : cX2_feed.data.toList.drop 46 = dktX2_feed_2 := dk_seg dksX2_feed_1 24 rfl rfl
theorem dX2_feed_0 : decode cX2_feed 0 = .ok (.aload_n 0, 1) := dk_42 (dk_at dksX2_feed_0 0 rfl rfl)
theorem dX2_feed_1 : decode cX2_feed 1 = .ok (.getfield 90, 3) := dk_180 0 90 (dk_at dksX2_feed_0 1 rfl rfl)
theorem dX2_feed_4 : decode cX2_feed 4 = .ok (.bipush 20, 2) := dk_16 20 (dk_at dksX2_feed_0 4 rfl rfl)
theorem dX2_feed_6 : decode cX2_feed 6 = .ok (.iadd, 1) := dk_96 (dk_at dksX2_feed_0 6 rfl rfl)
theorem dX2_feed_7 : decode cX2_feed 7 = .ok (.sipush 300, 3) := dk_17 1 44 (dk_at dksX2_feed_0 7 rfl rfl)
theorem dX2_feed_10 : decode cX2_feed 10 = .ok (.if_icmp .le 5, 3) := dk_164 0 5 (dk_at dksX2_feed_0 10 rfl rfl)
theorem dX2_feed_13 : decode cX2_feed 13 = .ok (.iconst (-1), 1) := dk_2 (dk_at dksX2_feed_0 13 rfl rfl)
theorem dX2_feed_14 : decode cX2_feed 14 = .ok (.ireturn, 1) := dk_172 (dk_at dksX2_feed_0 14 rfl rfl)
theorem dX2_feed_15 : decode cX2_feed 15 = .ok (.aload_n 0, 1) := dk_42 (dk_at dksX2_feed_0 15 rfl rfl)
theorem dX2_feed_16 : decode cX2_feed 16 = .ok (.iload_n 1, 1) := dk_27 (dk_at dksX2_feed_0 16 rfl rfl)
theorem dX2_feed_17 : decode cX2_feed 17 = .ok (.invokevirtual 93, 3) := dk_182 0 93 (dk_at dksX2_feed_0 17 rfl rfl)
theorem dX2_feed_20 : decode cX2_feed 20 = .ok (.aload_n 0, 1) := dk_42 (dk_at dksX2_feed_0 20 rfl rfl)
theorem dX2_feed_21 : decode cX2_feed 21 = .ok (.iload_n 2, 1) := dk_28 (dk_at dksX2_feed_0 21 rfl rfl)
theorem dX2_feed_22 : decode cX2_feed 22 = .ok (.invokevirtual 93, 3) := dk_182 0 93 (dk_at dksX2_feed_1 0 rfl rfl)
theorem dX2_feed_25 : decode cX2_feed 25 = .ok (.aload_n 0, 1) := dk_42 (dk_at dksX2_feed_1 3 rfl rfl)
theorem dX2_feed_26 : decode cX2_feed 26 = .ok (.iload_n 3, 1) := dk_29 (dk_at dksX2_feed_1 4 rfl rfl)
theorem dX2_feed_27 : decode cX2_feed 27 = .ok (.invokevirtual 93, 3) := dk_182 0 93 (dk_at dksX2_feed_1 5 rfl rfl)
theorem dX2_feed_30 : decode cX2_feed 30 = .ok (.aload_n 0, 1) := dk_42 (dk_at dksX2_feed_1 8 rfl rfl)
theorem dX2_feed_31 : decode cX2_feed 31 = .ok (.iload 4, 2) := dk_21 4 (dk_at dksX2_feed_1 9 rfl rfl)
theorem dX2_feed_33 : decode cX2_feed 33 = .ok (.invokevirtual 93, 3) := dk_182 0 93 (dk_at dksX2_feed_1 11 rfl rfl)
theorem dX2_feed_36 : decode cX2_feed 36 = .ok (.aload_n 0, 1) := dk_42 (dk_at dksX2_feed_1 14 rfl rfl)
theorem dX2_feed_37 : decode cX2_feed 37 = .ok (.iload 5, 2) := dk_21 5 (dk_at dksX2_feed_1 15 rfl rfl)
theorem dX2_feed_39 : decode cX2_feed 39 = .ok (.invokevirtual 93, 3) := dk_182 0 93 (dk_at dksX2_feed_1 17 rfl rfl)
theorem dX2_feed_42 : decode cX2_feed 42 = .ok (.aload_n 0, 1) := dk_42 (dk_at dksX2_feed_1 20 rfl rfl)
theorem dX2_feed_43 : decode cX2_feed 43 = .ok (.getfield 90, 3) := dk_180 0 90 (dk_at dksX2_feed_1 21 rfl rfl)
theorem dX2_feed_46 : decode cX2_feed 46 = .ok (.ireturn, 1) := dk_172 (dk_at dksX2_feed_2 0 rfl rfl)
abbrev cX2_four : ByteArray := prog_20_method_17_code
def yX2_four : MethodName := ⟨RX2, "four", "(I)V"⟩
def dkwX2_four_1 : List UInt8 := [89, 180, 0, 90, 4, 96, 181, 0, 90, 132, 2, 248, 167, 255, 223, 177]
abbrev dktX2_four_1 : List UInt8 := dkwX2_four_1 ++ []
def dkwX2_four_0 : List UInt8 := [16, 24, 61, 28, 155, 0, 35, 42, 180, 0, 19, 42, 180, 0, 90, 27, 28, 122, 17, 0, 255, 126, 79, 42]
abbrev dktX2_four_0 : List UInt8 := dkwX2_four_0 ++ dktX2_four_1
theorem dksX2_four_0 : cX2_four.data.toList.drop 0 = dktX2_four_0 := by decide +kernel
theorem dksX2_four_1 : cX2_four.data.toList.drop 24 = dktX2_four_1 := dk_seg dksX2_four_0 24 rfl rfl
theorem dX2_four_0 : decode cX2_four 0 = .ok (.bipush 24, 2) := dk_16 24 (dk_at dksX2_four_0 0 rfl rfl)
theorem dX2_four_2 : decode cX2_four 2 = .ok (.istore_n 2, 1) := dk_61 (dk_at dksX2_four_0 2 rfl rfl)
theorem dX2_four_3 : decode cX2_four 3 = .ok (.iload_n 2, 1) := dk_28 (dk_at dksX2_four_0 3 rfl rfl)
theorem dX2_four_4 : decode cX2_four 4 = .ok (.ifCond .lt 35, 3) := dk_155 0 35 (dk_at dksX2_four_0 4 rfl rfl)
theorem dX2_four_7 : decode cX2_four 7 = .ok (.aload_n 0, 1) := dk_42 (dk_at dksX2_four_0 7 rfl rfl)
theorem dX2_four_8 : decode cX2_four 8 = .ok (.getfield 19, 3) := dk_180 0 19 (dk_at dksX2_four_0 8 rfl rfl)
theorem dX2_four_11 : decode cX2_four 11 = .ok (.aload_n 0, 1) := dk_42 (dk_at dksX2_four_0 11 rfl rfl)
theorem dX2_four_12 : decode cX2_four 12 = .ok (.getfield 90, 3) := dk_180 0 90 (dk_at dksX2_four_0 12 rfl rfl)
theorem dX2_four_15 : decode cX2_four 15 = .ok (.iload_n 1, 1) := dk_27 (dk_at dksX2_four_0 15 rfl rfl)
theorem dX2_four_16 : decode cX2_four 16 = .ok (.iload_n 2, 1) := dk_28 (dk_at dksX2_four_0 16 rfl rfl)
theorem dX2_four_17 : decode cX2_four 17 = .ok (.ishr, 1) := dk_122 (dk_at dksX2_four_0 17 rfl rfl)
theorem dX2_four_18 : decode cX2_four 18 = .ok (.sipush 255, 3) := dk_17 0 255 (dk_at dksX2_four_0 18 rfl rfl)
theorem dX2_four_21 : decode cX2_four 21 = .ok (.iand, 1) := dk_126 (dk_at dksX2_four_0 21 rfl rfl)
theorem dX2_four_22 : decode cX2_four 22 = .ok (.iastore, 1) := dk_79 (dk_at dksX2_four_0 22 rfl rfl)
theorem dX2_four_23 : decode cX2_four 23 = .ok (.aload_n 0, 1) := dk_42 (dk_at dksX2_four_0 23 rfl rfl)
theorem dX2_four_24 : decode cX2_four 24 = .ok (.dup, 1) := dk_89 (dk_at dksX2_four_1 0 rfl rfl)
theorem dX2_four_25 : decode cX2_four 25 = .ok (.getfield 90, 3) := dk_180 0 90 (dk_at dksX2_four_1 1 rfl rfl)
theorem dX2_four_28 : decode cX2_four 28 = .ok (.iconst 1, 1) := dk_4 (dk_at dksX2_four_1 4 rfl rfl)
theorem dX2_four_29 : decode cX2_four 29 = .ok (.iadd, 1) := dk_96 (dk_at dksX2_four_1 5 rfl rfl)
theorem dX2_four_30 : decode cX2_four 30 = .ok (.putfield 90, 3) := dk_181 0 90 (dk_at dksX2_four_1 6 rfl rfl)
theorem dX2_four_33 : decode cX2_four 33 = .ok (.iinc 2 (-8), 3) := dk_132 2 248 (dk_at dksX2_four_1 9 rfl rfl)
theorem dX2_four_36 : decode cX2_four 36 = .ok (.goto (-33), 3) := dk_167 255 223 (dk_at dksX2_four_1 12 rfl rfl)
theorem dX2_four_39 : decode cX2_four 39 = .ok (.return_, 1) := dk_177 (dk_at dksX2_four_1 15 rfl rfl)
abbrev cX2_end : ByteArray := prog_20_method_19_code
def yX2_end : MethodName := ⟨RX2, "end", "(I)I"⟩
def dkwX2_end_0 : List UInt8 := [27, 3, 42, 180, 0, 90, 184, 0, 63, 154, 0, 5, 2, 172, 42, 27, 181, 0, 90, 27, 172]
abbrev dktX2_end_0 : List UInt8 := dkwX2_end_0 ++ []
theorem dksX2_end_0 : cX2_end.data.toList.drop 0 = dktX2_end_0 := by decide +kernel
theorem dX2_end_0 : decode cX2_end 0 = .ok (.iload_n 1, 1) := dk_27 (dk_at dksX2_end_0 0 rfl rfl)
theorem dX2_end_1 : decode cX2_end 1 = .ok (.iconst 0, 1) := dk_3 (dk_at dksX2_end_0 1 rfl rfl)
theorem dX2_end_2 : decode cX2_end 2 = .ok (.aload_n 0, 1) := dk_42 (dk_at dksX2_end_0 2 rfl rfl)
theorem dX2_end_3 : decode cX2_end 3 = .ok (.getfield 90, 3) := dk_180 0 90 (dk_at dksX2_end_0 3 rfl rfl)
theorem dX2_end_6 : decode cX2_end 6 = .ok (.invokestatic 63, 3) := dk_184 0 63 (dk_at dksX2_end_0 6 rfl rfl)
theorem dX2_end_9 : decode cX2_end 9 = .ok (.ifCond .ne 5, 3) := dk_154 0 5 (dk_at dksX2_end_0 9 rfl rfl)
theorem dX2_end_12 : decode cX2_end 12 = .ok (.iconst (-1), 1) := dk_2 (dk_at dksX2_end_0 12 rfl rfl)
theorem dX2_end_13 : decode cX2_end 13 = .ok (.ireturn, 1) := dk_172 (dk_at dksX2_end_0 13 rfl rfl)
theorem dX2_end_14 : decode cX2_end 14 = .ok (.aload_n 0, 1) := dk_42 (dk_at dksX2_end_0 14 rfl rfl)
theorem dX2_end_15 : decode cX2_end 15 = .ok (.iload_n 1, 1) := dk_27 (dk_at dksX2_end_0 15 rfl rfl)
theorem dX2_end_16 : decode cX2_end 16 = .ok (.putfield 90, 3) := dk_181 0 90 (dk_at dksX2_end_0 16 rfl rfl)
theorem dX2_end_19 : decode cX2_end 19 = .ok (.iload_n 1, 1) := dk_27 (dk_at dksX2_end_0 19 rfl rfl)
theorem dX2_end_20 : decode cX2_end 20 = .ok (.ireturn, 1) := dk_172 (dk_at dksX2_end_0 20 rfl rfl)
abbrev cX2_text : ByteArray := prog_20_method_57_code
def yX2_text : MethodName := ⟨RX2, "text", "()I"⟩
def dkwX2_text_3 : List UInt8 := [4, 100, 172]
abbrev dktX2_text_3 : List UInt8 := dkwX2_text_3 ++ []
def dkwX2_text_2 : List UInt8 := [180, 0, 22, 153, 0, 5, 2, 172, 42, 180, 0, 7, 5, 92, 46, 4, 96, 79, 42, 180, 0, 7, 5, 46]
abbrev dktX2_text_2 : List UInt8 := dkwX2_text_2 ++ dktX2_text_3
def dkwX2_text_1 : List UInt8 := [180, 0, 22, 154, 0, 7, 2, 167, 0, 7, 42, 180, 0, 103, 181, 0, 26, 42, 3, 181, 0, 90, 42]
abbrev dktX2_text_1 : List UInt8 := dkwX2_text_1 ++ dktX2_text_2
def dkwX2_text_0 : List UInt8 := [42, 180, 0, 7, 5, 46, 7, 160, 0, 5, 2, 172, 42, 42, 182, 1, 1, 181, 0, 22, 42, 42]
abbrev dktX2_text_0 : List UInt8 := dkwX2_text_0 ++ dktX2_text_1
theorem dksX2_text_0 : cX2_text.data.toList.drop 0 = dktX2_text_0 := by decide +kernel
theorem dksX2_text_1 : cX2_text.data.toList.drop 22 = dktX2_text_1 := dk_seg dksX2_text_0 22 rfl rfl
theorem dksX2_text_2 : cX2_text.data.toList.drop 45 = dktX2_text_2 := dk_seg dksX2_text_1 23 rfl rfl
theorem dksX2_text_3 : cX2_text.data.toList.drop 69 = dktX2_text_3 := dk_seg dksX2_text_2 24 rfl rfl
theorem dX2_text_0 : decode cX2_text 0 = .ok (.aload_n 0, 1) := dk_42 (dk_at dksX2_text_0 0 rfl rfl)
theorem dX2_text_1 : decode cX2_text 1 = .ok (.getfield 7, 3) := dk_180 0 7 (dk_at dksX2_text_0 1 rfl rfl)
theorem dX2_text_4 : decode cX2_text 4 = .ok (.iconst 2, 1) := dk_5 (dk_at dksX2_text_0 4 rfl rfl)
theorem dX2_text_5 : decode cX2_text 5 = .ok (.iaload, 1) := dk_46 (dk_at dksX2_text_0 5 rfl rfl)
theorem dX2_text_6 : decode cX2_text 6 = .ok (.iconst 4, 1) := dk_7 (dk_at dksX2_text_0 6 rfl rfl)
theorem dX2_text_7 : decode cX2_text 7 = .ok (.if_icmp .ne 5, 3) := dk_160 0 5 (dk_at dksX2_text_0 7 rfl rfl)
theorem dX2_text_10 : decode cX2_text 10 = .ok (.iconst (-1), 1) := dk_2 (dk_at dksX2_text_0 10 rfl rfl)
theorem dX2_text_11 : decode cX2_text 11 = .ok (.ireturn, 1) := dk_172 (dk_at dksX2_text_0 11 rfl rfl)
theorem dX2_text_12 : decode cX2_text 12 = .ok (.aload_n 0, 1) := dk_42 (dk_at dksX2_text_0 12 rfl rfl)
theorem dX2_text_13 : decode cX2_text 13 = .ok (.aload_n 0, 1) := dk_42 (dk_at dksX2_text_0 13 rfl rfl)
theorem dX2_text_14 : decode cX2_text 14 = .ok (.invokevirtual 257, 3) := dk_182 1 1 (dk_at dksX2_text_0 14 rfl rfl)
theorem dX2_text_17 : decode cX2_text 17 = .ok (.putfield 22, 3) := dk_181 0 22 (dk_at dksX2_text_0 17 rfl rfl)
theorem dX2_text_20 : decode cX2_text 20 = .ok (.aload_n 0, 1) := dk_42 (dk_at dksX2_text_0 20 rfl rfl)
theorem dX2_text_21 : decode cX2_text 21 = .ok (.aload_n 0, 1) := dk_42 (dk_at dksX2_text_0 21 rfl rfl)
theorem dX2_text_22 : decode cX2_text 22 = .ok (.getfield 22, 3) := dk_180 0 22 (dk_at dksX2_text_1 0 rfl rfl)
theorem dX2_text_25 : decode cX2_text 25 = .ok (.ifCond .ne 7, 3) := dk_154 0 7 (dk_at dksX2_text_1 3 rfl rfl)
theorem dX2_text_28 : decode cX2_text 28 = .ok (.iconst (-1), 1) := dk_2 (dk_at dksX2_text_1 6 rfl rfl)
theorem dX2_text_29 : decode cX2_text 29 = .ok (.goto 7, 3) := dk_167 0 7 (dk_at dksX2_text_1 7 rfl rfl)
theorem dX2_text_32 : decode cX2_text 32 = .ok (.aload_n 0, 1) := dk_42 (dk_at dksX2_text_1 10 rfl rfl)
theorem dX2_text_33 : decode cX2_text 33 = .ok (.getfield 103, 3) := dk_180 0 103 (dk_at dksX2_text_1 11 rfl rfl)
theorem dX2_text_36 : decode cX2_text 36 = .ok (.putfield 26, 3) := dk_181 0 26 (dk_at dksX2_text_1 14 rfl rfl)
theorem dX2_text_39 : decode cX2_text 39 = .ok (.aload_n 0, 1) := dk_42 (dk_at dksX2_text_1 17 rfl rfl)
theorem dX2_text_40 : decode cX2_text 40 = .ok (.iconst 0, 1) := dk_3 (dk_at dksX2_text_1 18 rfl rfl)
theorem dX2_text_41 : decode cX2_text 41 = .ok (.putfield 90, 3) := dk_181 0 90 (dk_at dksX2_text_1 19 rfl rfl)
theorem dX2_text_44 : decode cX2_text 44 = .ok (.aload_n 0, 1) := dk_42 (dk_at dksX2_text_1 22 rfl rfl)
theorem dX2_text_45 : decode cX2_text 45 = .ok (.getfield 22, 3) := dk_180 0 22 (dk_at dksX2_text_2 0 rfl rfl)
theorem dX2_text_48 : decode cX2_text 48 = .ok (.ifCond .eq 5, 3) := dk_153 0 5 (dk_at dksX2_text_2 3 rfl rfl)
theorem dX2_text_51 : decode cX2_text 51 = .ok (.iconst (-1), 1) := dk_2 (dk_at dksX2_text_2 6 rfl rfl)
theorem dX2_text_52 : decode cX2_text 52 = .ok (.ireturn, 1) := dk_172 (dk_at dksX2_text_2 7 rfl rfl)
theorem dX2_text_53 : decode cX2_text 53 = .ok (.aload_n 0, 1) := dk_42 (dk_at dksX2_text_2 8 rfl rfl)
theorem dX2_text_54 : decode cX2_text 54 = .ok (.getfield 7, 3) := dk_180 0 7 (dk_at dksX2_text_2 9 rfl rfl)
theorem dX2_text_57 : decode cX2_text 57 = .ok (.iconst 2, 1) := dk_5 (dk_at dksX2_text_2 12 rfl rfl)
theorem dX2_text_58 : decode cX2_text 58 = .ok (.dup2, 1) := dk_92 (dk_at dksX2_text_2 13 rfl rfl)
theorem dX2_text_59 : decode cX2_text 59 = .ok (.iaload, 1) := dk_46 (dk_at dksX2_text_2 14 rfl rfl)
theorem dX2_text_60 : decode cX2_text 60 = .ok (.iconst 1, 1) := dk_4 (dk_at dksX2_text_2 15 rfl rfl)
theorem dX2_text_61 : decode cX2_text 61 = .ok (.iadd, 1) := dk_96 (dk_at dksX2_text_2 16 rfl rfl)
theorem dX2_text_62 : decode cX2_text 62 = .ok (.iastore, 1) := dk_79 (dk_at dksX2_text_2 17 rfl rfl)
theorem dX2_text_63 : decode cX2_text 63 = .ok (.aload_n 0, 1) := dk_42 (dk_at dksX2_text_2 18 rfl rfl)
theorem dX2_text_64 : decode cX2_text 64 = .ok (.getfield 7, 3) := dk_180 0 7 (dk_at dksX2_text_2 19 rfl rfl)
theorem dX2_text_67 : decode cX2_text 67 = .ok (.iconst 2, 1) := dk_5 (dk_at dksX2_text_2 22 rfl rfl)
theorem dX2_text_68 : decode cX2_text 68 = .ok (.iaload, 1) := dk_46 (dk_at dksX2_text_2 23 rfl rfl)
theorem dX2_text_69 : decode cX2_text 69 = .ok (.iconst 1, 1) := dk_4 (dk_at dksX2_text_3 0 rfl rfl)
theorem dX2_text_70 : decode cX2_text 70 = .ok (.isub, 1) := dk_100 (dk_at dksX2_text_3 1 rfl rfl)
theorem dX2_text_71 : decode cX2_text 71 = .ok (.ireturn, 1) := dk_172 (dk_at dksX2_text_3 2 rfl rfl)
abbrev cX2_readText : ByteArray := prog_20_method_56_code
def yX2_readText : MethodName := ⟨RX2, "readText", "()I"⟩
def dkwX2_readText_2 : List UInt8 := [153, 0, 17, 42, 182, 0, 254, 60, 27, 153, 0, 5, 27, 172, 167, 255, 238, 3, 172]
abbrev dktX2_readText_2 : List UInt8 := dkwX2_readText_2 ++ []
def dkwX2_readText_1 : List UInt8 := [42, 3, 181, 0, 147, 42, 3, 181, 0, 248, 42, 3, 181, 0, 96, 42, 182, 0, 177, 42, 180, 0, 106]
abbrev dktX2_readText_1 : List UInt8 := dkwX2_readText_1 ++ dktX2_readText_2
def dkwX2_readText_0 : List UInt8 := [42, 17, 2, 217, 42, 180, 0, 7, 5, 46, 104, 181, 0, 144, 42, 180, 0, 16, 42, 180, 0, 144, 3, 79]
abbrev dktX2_readText_0 : List UInt8 := dkwX2_readText_0 ++ dktX2_readText_1
theorem dksX2_readText_0 : cX2_readText.data.toList.drop 0 = dktX2_readText_0 := by decide +kernel
theorem dksX2_readText_1 : cX2_readText.data.toList.drop 24 = dktX2_readText_1 := dk_seg dksX2_readText_0 24 rfl rfl
theorem dksX2_readText_2 : cX2_readText.data.toList.drop 47 = dktX2_readText_2 := dk_seg dksX2_readText_1 23 rfl rfl
theorem dX2_readText_0 : decode cX2_readText 0 = .ok (.aload_n 0, 1) := dk_42 (dk_at dksX2_readText_0 0 rfl rfl)
theorem dX2_readText_1 : decode cX2_readText 1 = .ok (.sipush 729, 3) := dk_17 2 217 (dk_at dksX2_readText_0 1 rfl rfl)
theorem dX2_readText_4 : decode cX2_readText 4 = .ok (.aload_n 0, 1) := dk_42 (dk_at dksX2_readText_0 4 rfl rfl)
theorem dX2_readText_5 : decode cX2_readText 5 = .ok (.getfield 7, 3) := dk_180 0 7 (dk_at dksX2_readText_0 5 rfl rfl)
theorem dX2_readText_8 : decode cX2_readText 8 = .ok (.iconst 2, 1) := dk_5 (dk_at dksX2_readText_0 8 rfl rfl)
theorem dX2_readText_9 : decode cX2_readText 9 = .ok (.iaload, 1) := dk_46 (dk_at dksX2_readText_0 9 rfl rfl)
theorem dX2_readText_10 : decode cX2_readText 10 = .ok (.imul, 1) := dk_104 (dk_at dksX2_readText_0 10 rfl rfl)
theorem dX2_readText_11 : decode cX2_readText 11 = .ok (.putfield 144, 3) := dk_181 0 144 (dk_at dksX2_readText_0 11 rfl rfl)
theorem dX2_readText_14 : decode cX2_readText 14 = .ok (.aload_n 0, 1) := dk_42 (dk_at dksX2_readText_0 14 rfl rfl)
theorem dX2_readText_15 : decode cX2_readText 15 = .ok (.getfield 16, 3) := dk_180 0 16 (dk_at dksX2_readText_0 15 rfl rfl)
theorem dX2_readText_18 : decode cX2_readText 18 = .ok (.aload_n 0, 1) := dk_42 (dk_at dksX2_readText_0 18 rfl rfl)
theorem dX2_readText_19 : decode cX2_readText 19 = .ok (.getfield 144, 3) := dk_180 0 144 (dk_at dksX2_readText_0 19 rfl rfl)
theorem dX2_readText_22 : decode cX2_readText 22 = .ok (.iconst 0, 1) := dk_3 (dk_at dksX2_readText_0 22 rfl rfl)
theorem dX2_readText_23 : decode cX2_readText 23 = .ok (.iastore, 1) := dk_79 (dk_at dksX2_readText_0 23 rfl rfl)
theorem dX2_readText_24 : decode cX2_readText 24 = .ok (.aload_n 0, 1) := dk_42 (dk_at dksX2_readText_1 0 rfl rfl)
theorem dX2_readText_25 : decode cX2_readText 25 = .ok (.iconst 0, 1) := dk_3 (dk_at dksX2_readText_1 1 rfl rfl)
theorem dX2_readText_26 : decode cX2_readText 26 = .ok (.putfield 147, 3) := dk_181 0 147 (dk_at dksX2_readText_1 2 rfl rfl)
theorem dX2_readText_29 : decode cX2_readText 29 = .ok (.aload_n 0, 1) := dk_42 (dk_at dksX2_readText_1 5 rfl rfl)
theorem dX2_readText_30 : decode cX2_readText 30 = .ok (.iconst 0, 1) := dk_3 (dk_at dksX2_readText_1 6 rfl rfl)
theorem dX2_readText_31 : decode cX2_readText 31 = .ok (.putfield 248, 3) := dk_181 0 248 (dk_at dksX2_readText_1 7 rfl rfl)
theorem dX2_readText_34 : decode cX2_readText 34 = .ok (.aload_n 0, 1) := dk_42 (dk_at dksX2_readText_1 10 rfl rfl)
theorem dX2_readText_35 : decode cX2_readText 35 = .ok (.iconst 0, 1) := dk_3 (dk_at dksX2_readText_1 11 rfl rfl)
theorem dX2_readText_36 : decode cX2_readText 36 = .ok (.putfield 96, 3) := dk_181 0 96 (dk_at dksX2_readText_1 12 rfl rfl)
theorem dX2_readText_39 : decode cX2_readText 39 = .ok (.aload_n 0, 1) := dk_42 (dk_at dksX2_readText_1 15 rfl rfl)
theorem dX2_readText_40 : decode cX2_readText 40 = .ok (.invokevirtual 177, 3) := dk_182 0 177 (dk_at dksX2_readText_1 16 rfl rfl)
theorem dX2_readText_43 : decode cX2_readText 43 = .ok (.aload_n 0, 1) := dk_42 (dk_at dksX2_readText_1 19 rfl rfl)
theorem dX2_readText_44 : decode cX2_readText 44 = .ok (.getfield 106, 3) := dk_180 0 106 (dk_at dksX2_readText_1 20 rfl rfl)
theorem dX2_readText_47 : decode cX2_readText 47 = .ok (.ifCond .eq 17, 3) := dk_153 0 17 (dk_at dksX2_readText_2 0 rfl rfl)
theorem dX2_readText_50 : decode cX2_readText 50 = .ok (.aload_n 0, 1) := dk_42 (dk_at dksX2_readText_2 3 rfl rfl)
theorem dX2_readText_51 : decode cX2_readText 51 = .ok (.invokevirtual 254, 3) := dk_182 0 254 (dk_at dksX2_readText_2 4 rfl rfl)
theorem dX2_readText_54 : decode cX2_readText 54 = .ok (.istore_n 1, 1) := dk_60 (dk_at dksX2_readText_2 7 rfl rfl)
theorem dX2_readText_55 : decode cX2_readText 55 = .ok (.iload_n 1, 1) := dk_27 (dk_at dksX2_readText_2 8 rfl rfl)
theorem dX2_readText_56 : decode cX2_readText 56 = .ok (.ifCond .eq 5, 3) := dk_153 0 5 (dk_at dksX2_readText_2 9 rfl rfl)
theorem dX2_readText_59 : decode cX2_readText 59 = .ok (.iload_n 1, 1) := dk_27 (dk_at dksX2_readText_2 12 rfl rfl)
theorem dX2_readText_60 : decode cX2_readText 60 = .ok (.ireturn, 1) := dk_172 (dk_at dksX2_readText_2 13 rfl rfl)
theorem dX2_readText_61 : decode cX2_readText 61 = .ok (.goto (-18), 3) := dk_167 255 238 (dk_at dksX2_readText_2 14 rfl rfl)
theorem dX2_readText_64 : decode cX2_readText 64 = .ok (.iconst 0, 1) := dk_3 (dk_at dksX2_readText_2 17 rfl rfl)
theorem dX2_readText_65 : decode cX2_readText 65 = .ok (.ireturn, 1) := dk_172 (dk_at dksX2_readText_2 18 rfl rfl)
abbrev cX2_nextToken : ByteArray := prog_20_method_24_code
def yX2_nextToken : MethodName := ⟨RX2, "nextToken", "()V"⟩
def dkwX2_nextToken_13 : List UInt8 := [180, 0, 96, 4, 96, 181, 0, 96, 177]
abbrev dktX2_nextToken_13 : List UInt8 := dkwX2_nextToken_13 ++ []
def dkwX2_nextToken_12 : List UInt8 := [16, 61, 160, 0, 28, 42, 27, 16, 60, 160, 0, 7, 7, 167, 0, 4, 8, 181, 0, 106, 42, 89]
abbrev dktX2_nextToken_12 : List UInt8 := dkwX2_nextToken_12 ++ dktX2_nextToken_13
def dkwX2_nextToken_11 : List UInt8 := [181, 0, 96, 27, 16, 60, 159, 0, 9, 27, 16, 62, 160, 0, 41, 42, 42, 180, 0, 96, 182, 0, 99]
abbrev dktX2_nextToken_11 : List UInt8 := dkwX2_nextToken_11 ++ dktX2_nextToken_12
def dkwX2_nextToken_10 : List UInt8 := [42, 27, 184, 0, 125, 153, 0, 7, 27, 167, 0, 4, 6, 181, 0, 106, 42, 89, 180, 0, 96, 4, 96]
abbrev dktX2_nextToken_10 : List UInt8 := dkwX2_nextToken_10 ++ dktX2_nextToken_11
def dkwX2_nextToken_9 : List UInt8 := [180, 0, 96, 182, 0, 99, 133, 129, 181, 0, 119, 42, 89, 180, 0, 96, 4, 96, 181, 0, 96, 167, 255, 193]
abbrev dktX2_nextToken_9 : List UInt8 := dkwX2_nextToken_9 ++ dktX2_nextToken_10
def dkwX2_nextToken_8 : List UInt8 := [16, 48, 123, 9, 148, 153, 0, 9, 20, 0, 123, 167, 0, 20, 42, 180, 0, 119, 16, 8, 121, 42, 42]
abbrev dktX2_nextToken_8 : List UInt8 := dkwX2_nextToken_8 ++ dktX2_nextToken_9
def dkwX2_nextToken_7 : List UInt8 := [9, 181, 0, 119, 42, 42, 180, 0, 96, 182, 0, 99, 184, 0, 116, 153, 0, 131, 42, 42, 180, 0, 119]
abbrev dktX2_nextToken_7 : List UInt8 := dkwX2_nextToken_7 ++ dktX2_nextToken_8
def dkwX2_nextToken_6 : List UInt8 := [180, 0, 96, 4, 96, 181, 0, 96, 167, 255, 193, 27, 184, 0, 116, 153, 0, 79, 42, 5, 181, 0, 106, 42]
abbrev dktX2_nextToken_6 : List UInt8 := dkwX2_nextToken_6 ++ dktX2_nextToken_7
def dkwX2_nextToken_5 : List UInt8 := [16, 10, 42, 180, 0, 112, 104, 42, 42, 180, 0, 96, 182, 0, 99, 96, 16, 48, 100, 181, 0, 112, 42, 89]
abbrev dktX2_nextToken_5 : List UInt8 := dkwX2_nextToken_5 ++ dktX2_nextToken_6
def dkwX2_nextToken_4 : List UInt8 := [184, 0, 109, 153, 0, 214, 42, 42, 180, 0, 112, 18, 115, 164, 0, 10, 42, 180, 0, 112, 167, 0, 22]
abbrev dktX2_nextToken_4 : List UInt8 := dkwX2_nextToken_4 ++ dktX2_nextToken_5
def dkwX2_nextToken_3 : List UInt8 := [184, 0, 109, 153, 0, 79, 42, 4, 181, 0, 106, 42, 3, 181, 0, 112, 42, 42, 180, 0, 96, 182, 0, 99]
abbrev dktX2_nextToken_3 : List UInt8 := dkwX2_nextToken_3 ++ dktX2_nextToken_4
def dkwX2_nextToken_2 : List UInt8 := [42, 42, 180, 0, 96, 182, 0, 99, 60, 27, 156, 0, 11, 42, 3, 181, 0, 106, 167, 0, 245, 27]
abbrev dktX2_nextToken_2 : List UInt8 := dkwX2_nextToken_2 ++ dktX2_nextToken_3
def dkwX2_nextToken_1 : List UInt8 := [160, 0, 16, 42, 89, 180, 0, 96, 4, 96, 181, 0, 96, 167, 255, 220, 42, 42, 180, 0, 96, 181, 0, 103]
abbrev dktX2_nextToken_1 : List UInt8 := dkwX2_nextToken_1 ++ dktX2_nextToken_2
def dkwX2_nextToken_0 : List UInt8 := [42, 42, 180, 0, 96, 182, 0, 99, 16, 32, 159, 0, 16, 42, 42, 180, 0, 96, 182, 0, 99, 16, 10]
abbrev dktX2_nextToken_0 : List UInt8 := dkwX2_nextToken_0 ++ dktX2_nextToken_1
theorem dksX2_nextToken_0 : cX2_nextToken.data.toList.drop 0 = dktX2_nextToken_0 := by decide +kernel
theorem dksX2_nextToken_1 : cX2_nextToken.data.toList.drop 23 = dktX2_nextToken_1 := dk_seg dksX2_nextToken_0 23 rfl rfl
theorem dksX2_nextToken_2 : cX2_nextToken.data.toList.drop 47 = dktX2_nextToken_2 := dk_seg dksX2_nextToken_1 24 rfl rfl
theorem dksX2_nextToken_3 : cX2_nextToken.data.toList.drop 69 = dktX2_nextToken_3 := dk_seg dksX2_nextToken_2 22 rfl rfl
theorem dksX2_nextToken_4 : cX2_nextToken.data.toList.drop 93 = dktX2_nextToken_4 := dk_seg dksX2_nextToken_3 24 rfl rfl
theorem dksX2_nextToken_5 : cX2_nextToken.data.toList.drop 116 = dktX2_nextToken_5 := dk_seg dksX2_nextToken_4 23 rfl rfl
theorem dksX2_nextToken_6 : cX2_nextToken.data.toList.drop 140 = dktX2_nextToken_6 := dk_seg dksX2_nextToken_5 24 rfl rfl
theorem dksX2_nextToken_7 : cX2_nextToken.data.toList.drop 164 = dktX2_nextToken_7 := dk_seg dksX2_nextToken_6 24 rfl rfl
theorem dksX2_nextToken_8 : cX2_nextToken.data.toList.drop 187 = dktX2_nextToken_8 := dk_seg dksX2_nextToken_7 23 rfl rfl
theorem dksX2_nextToken_9 : cX2_nextToken.data.toList.drop 210 = dktX2_nextToken_9 := dk_seg dksX2_nextToken_8 23 rfl rfl
theorem dksX2_nextToken_10 : cX2_nextToken.data.toList.drop 234 = dktX2_nextToken_10 := dk_seg dksX2_nextToken_9 24 rfl rfl
theorem dksX2_nextToken_11 : cX2_nextToken.data.toList.drop 257 = dktX2_nextToken_11 := dk_seg dksX2_nextToken_10 23 rfl rfl
theorem dksX2_nextToken_12 : cX2_nextToken.data.toList.drop 280 = dktX2_nextToken_12 := dk_seg dksX2_nextToken_11 23 rfl rfl
theorem dksX2_nextToken_13 : cX2_nextToken.data.toList.drop 302 = dktX2_nextToken_13 := dk_seg dksX2_nextToken_12 22 rfl rfl
theorem dX2_nextToken_0 : decode cX2_nextToken 0 = .ok (.aload_n 0, 1) := dk_42 (dk_at dksX2_nextToken_0 0 rfl rfl)
theorem dX2_nextToken_1 : decode cX2_nextToken 1 = .ok (.aload_n 0, 1) := dk_42 (dk_at dksX2_nextToken_0 1 rfl rfl)
theorem dX2_nextToken_2 : decode cX2_nextToken 2 = .ok (.getfield 96, 3) := dk_180 0 96 (dk_at dksX2_nextToken_0 2 rfl rfl)
theorem dX2_nextToken_5 : decode cX2_nextToken 5 = .ok (.invokevirtual 99, 3) := dk_182 0 99 (dk_at dksX2_nextToken_0 5 rfl rfl)
theorem dX2_nextToken_8 : decode cX2_nextToken 8 = .ok (.bipush 32, 2) := dk_16 32 (dk_at dksX2_nextToken_0 8 rfl rfl)
theorem dX2_nextToken_10 : decode cX2_nextToken 10 = .ok (.if_icmp .eq 16, 3) := dk_159 0 16 (dk_at dksX2_nextToken_0 10 rfl rfl)
theorem dX2_nextToken_13 : decode cX2_nextToken 13 = .ok (.aload_n 0, 1) := dk_42 (dk_at dksX2_nextToken_0 13 rfl rfl)
theorem dX2_nextToken_14 : decode cX2_nextToken 14 = .ok (.aload_n 0, 1) := dk_42 (dk_at dksX2_nextToken_0 14 rfl rfl)
theorem dX2_nextToken_15 : decode cX2_nextToken 15 = .ok (.getfield 96, 3) := dk_180 0 96 (dk_at dksX2_nextToken_0 15 rfl rfl)
theorem dX2_nextToken_18 : decode cX2_nextToken 18 = .ok (.invokevirtual 99, 3) := dk_182 0 99 (dk_at dksX2_nextToken_0 18 rfl rfl)
theorem dX2_nextToken_21 : decode cX2_nextToken 21 = .ok (.bipush 10, 2) := dk_16 10 (dk_at dksX2_nextToken_0 21 rfl rfl)
theorem dX2_nextToken_23 : decode cX2_nextToken 23 = .ok (.if_icmp .ne 16, 3) := dk_160 0 16 (dk_at dksX2_nextToken_1 0 rfl rfl)
theorem dX2_nextToken_26 : decode cX2_nextToken 26 = .ok (.aload_n 0, 1) := dk_42 (dk_at dksX2_nextToken_1 3 rfl rfl)
theorem dX2_nextToken_27 : decode cX2_nextToken 27 = .ok (.dup, 1) := dk_89 (dk_at dksX2_nextToken_1 4 rfl rfl)
theorem dX2_nextToken_28 : decode cX2_nextToken 28 = .ok (.getfield 96, 3) := dk_180 0 96 (dk_at dksX2_nextToken_1 5 rfl rfl)
theorem dX2_nextToken_31 : decode cX2_nextToken 31 = .ok (.iconst 1, 1) := dk_4 (dk_at dksX2_nextToken_1 8 rfl rfl)
theorem dX2_nextToken_32 : decode cX2_nextToken 32 = .ok (.iadd, 1) := dk_96 (dk_at dksX2_nextToken_1 9 rfl rfl)
theorem dX2_nextToken_33 : decode cX2_nextToken 33 = .ok (.putfield 96, 3) := dk_181 0 96 (dk_at dksX2_nextToken_1 10 rfl rfl)
theorem dX2_nextToken_36 : decode cX2_nextToken 36 = .ok (.goto (-36), 3) := dk_167 255 220 (dk_at dksX2_nextToken_1 13 rfl rfl)
theorem dX2_nextToken_39 : decode cX2_nextToken 39 = .ok (.aload_n 0, 1) := dk_42 (dk_at dksX2_nextToken_1 16 rfl rfl)
theorem dX2_nextToken_40 : decode cX2_nextToken 40 = .ok (.aload_n 0, 1) := dk_42 (dk_at dksX2_nextToken_1 17 rfl rfl)
theorem dX2_nextToken_41 : decode cX2_nextToken 41 = .ok (.getfield 96, 3) := dk_180 0 96 (dk_at dksX2_nextToken_1 18 rfl rfl)
theorem dX2_nextToken_44 : decode cX2_nextToken 44 = .ok (.putfield 103, 3) := dk_181 0 103 (dk_at dksX2_nextToken_1 21 rfl rfl)
theorem dX2_nextToken_47 : decode cX2_nextToken 47 = .ok (.aload_n 0, 1) := dk_42 (dk_at dksX2_nextToken_2 0 rfl rfl)
theorem dX2_nextToken_48 : decode cX2_nextToken 48 = .ok (.aload_n 0, 1) := dk_42 (dk_at dksX2_nextToken_2 1 rfl rfl)
theorem dX2_nextToken_49 : decode cX2_nextToken 49 = .ok (.getfield 96, 3) := dk_180 0 96 (dk_at dksX2_nextToken_2 2 rfl rfl)
theorem dX2_nextToken_52 : decode cX2_nextToken 52 = .ok (.invokevirtual 99, 3) := dk_182 0 99 (dk_at dksX2_nextToken_2 5 rfl rfl)
theorem dX2_nextToken_55 : decode cX2_nextToken 55 = .ok (.istore_n 1, 1) := dk_60 (dk_at dksX2_nextToken_2 8 rfl rfl)
theorem dX2_nextToken_56 : decode cX2_nextToken 56 = .ok (.iload_n 1, 1) := dk_27 (dk_at dksX2_nextToken_2 9 rfl rfl)
theorem dX2_nextToken_57 : decode cX2_nextToken 57 = .ok (.ifCond .ge 11, 3) := dk_156 0 11 (dk_at dksX2_nextToken_2 10 rfl rfl)
theorem dX2_nextToken_60 : decode cX2_nextToken 60 = .ok (.aload_n 0, 1) := dk_42 (dk_at dksX2_nextToken_2 13 rfl rfl)
theorem dX2_nextToken_61 : decode cX2_nextToken 61 = .ok (.iconst 0, 1) := dk_3 (dk_at dksX2_nextToken_2 14 rfl rfl)
theorem dX2_nextToken_62 : decode cX2_nextToken 62 = .ok (.putfield 106, 3) := dk_181 0 106 (dk_at dksX2_nextToken_2 15 rfl rfl)
theorem dX2_nextToken_65 : decode cX2_nextToken 65 = .ok (.goto 245, 3) := dk_167 0 245 (dk_at dksX2_nextToken_2 18 rfl rfl)
theorem dX2_nextToken_68 : decode cX2_nextToken 68 = .ok (.iload_n 1, 1) := dk_27 (dk_at dksX2_nextToken_2 21 rfl rfl)
theorem dX2_nextToken_69 : decode cX2_nextToken 69 = .ok (.invokestatic 109, 3) := dk_184 0 109 (dk_at dksX2_nextToken_3 0 rfl rfl)
theorem dX2_nextToken_72 : decode cX2_nextToken 72 = .ok (.ifCond .eq 79, 3) := dk_153 0 79 (dk_at dksX2_nextToken_3 3 rfl rfl)
theorem dX2_nextToken_75 : decode cX2_nextToken 75 = .ok (.aload_n 0, 1) := dk_42 (dk_at dksX2_nextToken_3 6 rfl rfl)
theorem dX2_nextToken_76 : decode cX2_nextToken 76 = .ok (.iconst 1, 1) := dk_4 (dk_at dksX2_nextToken_3 7 rfl rfl)
theorem dX2_nextToken_77 : decode cX2_nextToken 77 = .ok (.putfield 106, 3) := dk_181 0 106 (dk_at dksX2_nextToken_3 8 rfl rfl)
theorem dX2_nextToken_80 : decode cX2_nextToken 80 = .ok (.aload_n 0, 1) := dk_42 (dk_at dksX2_nextToken_3 11 rfl rfl)
theorem dX2_nextToken_81 : decode cX2_nextToken 81 = .ok (.iconst 0, 1) := dk_3 (dk_at dksX2_nextToken_3 12 rfl rfl)
theorem dX2_nextToken_82 : decode cX2_nextToken 82 = .ok (.putfield 112, 3) := dk_181 0 112 (dk_at dksX2_nextToken_3 13 rfl rfl)
theorem dX2_nextToken_85 : decode cX2_nextToken 85 = .ok (.aload_n 0, 1) := dk_42 (dk_at dksX2_nextToken_3 16 rfl rfl)
theorem dX2_nextToken_86 : decode cX2_nextToken 86 = .ok (.aload_n 0, 1) := dk_42 (dk_at dksX2_nextToken_3 17 rfl rfl)
theorem dX2_nextToken_87 : decode cX2_nextToken 87 = .ok (.getfield 96, 3) := dk_180 0 96 (dk_at dksX2_nextToken_3 18 rfl rfl)
theorem dX2_nextToken_90 : decode cX2_nextToken 90 = .ok (.invokevirtual 99, 3) := dk_182 0 99 (dk_at dksX2_nextToken_3 21 rfl rfl)
theorem dX2_nextToken_93 : decode cX2_nextToken 93 = .ok (.invokestatic 109, 3) := dk_184 0 109 (dk_at dksX2_nextToken_4 0 rfl rfl)
theorem dX2_nextToken_96 : decode cX2_nextToken 96 = .ok (.ifCond .eq 214, 3) := dk_153 0 214 (dk_at dksX2_nextToken_4 3 rfl rfl)
theorem dX2_nextToken_99 : decode cX2_nextToken 99 = .ok (.aload_n 0, 1) := dk_42 (dk_at dksX2_nextToken_4 6 rfl rfl)
theorem dX2_nextToken_100 : decode cX2_nextToken 100 = .ok (.aload_n 0, 1) := dk_42 (dk_at dksX2_nextToken_4 7 rfl rfl)
theorem dX2_nextToken_101 : decode cX2_nextToken 101 = .ok (.getfield 112, 3) := dk_180 0 112 (dk_at dksX2_nextToken_4 8 rfl rfl)
theorem dX2_nextToken_104 : decode cX2_nextToken 104 = .ok (.ldc 115, 2) := dk_18 115 (dk_at dksX2_nextToken_4 11 rfl rfl)
theorem dX2_nextToken_106 : decode cX2_nextToken 106 = .ok (.if_icmp .le 10, 3) := dk_164 0 10 (dk_at dksX2_nextToken_4 13 rfl rfl)
theorem dX2_nextToken_109 : decode cX2_nextToken 109 = .ok (.aload_n 0, 1) := dk_42 (dk_at dksX2_nextToken_4 16 rfl rfl)
theorem dX2_nextToken_110 : decode cX2_nextToken 110 = .ok (.getfield 112, 3) := dk_180 0 112 (dk_at dksX2_nextToken_4 17 rfl rfl)
theorem dX2_nextToken_113 : decode cX2_nextToken 113 = .ok (.goto 22, 3) := dk_167 0 22 (dk_at dksX2_nextToken_4 20 rfl rfl)
theorem dX2_nextToken_116 : decode cX2_nextToken 116 = .ok (.bipush 10, 2) := dk_16 10 (dk_at dksX2_nextToken_5 0 rfl rfl)
theorem dX2_nextToken_118 : decode cX2_nextToken 118 = .ok (.aload_n 0, 1) := dk_42 (dk_at dksX2_nextToken_5 2 rfl rfl)
theorem dX2_nextToken_119 : decode cX2_nextToken 119 = .ok (.getfield 112, 3) := dk_180 0 112 (dk_at dksX2_nextToken_5 3 rfl rfl)
theorem dX2_nextToken_122 : decode cX2_nextToken 122 = .ok (.imul, 1) := dk_104 (dk_at dksX2_nextToken_5 6 rfl rfl)
theorem dX2_nextToken_123 : decode cX2_nextToken 123 = .ok (.aload_n 0, 1) := dk_42 (dk_at dksX2_nextToken_5 7 rfl rfl)
theorem dX2_nextToken_124 : decode cX2_nextToken 124 = .ok (.aload_n 0, 1) := dk_42 (dk_at dksX2_nextToken_5 8 rfl rfl)
theorem dX2_nextToken_125 : decode cX2_nextToken 125 = .ok (.getfield 96, 3) := dk_180 0 96 (dk_at dksX2_nextToken_5 9 rfl rfl)
theorem dX2_nextToken_128 : decode cX2_nextToken 128 = .ok (.invokevirtual 99, 3) := dk_182 0 99 (dk_at dksX2_nextToken_5 12 rfl rfl)
theorem dX2_nextToken_131 : decode cX2_nextToken 131 = .ok (.iadd, 1) := dk_96 (dk_at dksX2_nextToken_5 15 rfl rfl)
theorem dX2_nextToken_132 : decode cX2_nextToken 132 = .ok (.bipush 48, 2) := dk_16 48 (dk_at dksX2_nextToken_5 16 rfl rfl)
theorem dX2_nextToken_134 : decode cX2_nextToken 134 = .ok (.isub, 1) := dk_100 (dk_at dksX2_nextToken_5 18 rfl rfl)
theorem dX2_nextToken_135 : decode cX2_nextToken 135 = .ok (.putfield 112, 3) := dk_181 0 112 (dk_at dksX2_nextToken_5 19 rfl rfl)
theorem dX2_nextToken_138 : decode cX2_nextToken 138 = .ok (.aload_n 0, 1) := dk_42 (dk_at dksX2_nextToken_5 22 rfl rfl)
theorem dX2_nextToken_139 : decode cX2_nextToken 139 = .ok (.dup, 1) := dk_89 (dk_at dksX2_nextToken_5 23 rfl rfl)
theorem dX2_nextToken_140 : decode cX2_nextToken 140 = .ok (.getfield 96, 3) := dk_180 0 96 (dk_at dksX2_nextToken_6 0 rfl rfl)
theorem dX2_nextToken_143 : decode cX2_nextToken 143 = .ok (.iconst 1, 1) := dk_4 (dk_at dksX2_nextToken_6 3 rfl rfl)
theorem dX2_nextToken_144 : decode cX2_nextToken 144 = .ok (.iadd, 1) := dk_96 (dk_at dksX2_nextToken_6 4 rfl rfl)
theorem dX2_nextToken_145 : decode cX2_nextToken 145 = .ok (.putfield 96, 3) := dk_181 0 96 (dk_at dksX2_nextToken_6 5 rfl rfl)
theorem dX2_nextToken_148 : decode cX2_nextToken 148 = .ok (.goto (-63), 3) := dk_167 255 193 (dk_at dksX2_nextToken_6 8 rfl rfl)
theorem dX2_nextToken_151 : decode cX2_nextToken 151 = .ok (.iload_n 1, 1) := dk_27 (dk_at dksX2_nextToken_6 11 rfl rfl)
theorem dX2_nextToken_152 : decode cX2_nextToken 152 = .ok (.invokestatic 116, 3) := dk_184 0 116 (dk_at dksX2_nextToken_6 12 rfl rfl)
theorem dX2_nextToken_155 : decode cX2_nextToken 155 = .ok (.ifCond .eq 79, 3) := dk_153 0 79 (dk_at dksX2_nextToken_6 15 rfl rfl)
theorem dX2_nextToken_158 : decode cX2_nextToken 158 = .ok (.aload_n 0, 1) := dk_42 (dk_at dksX2_nextToken_6 18 rfl rfl)
theorem dX2_nextToken_159 : decode cX2_nextToken 159 = .ok (.iconst 2, 1) := dk_5 (dk_at dksX2_nextToken_6 19 rfl rfl)
theorem dX2_nextToken_160 : decode cX2_nextToken 160 = .ok (.putfield 106, 3) := dk_181 0 106 (dk_at dksX2_nextToken_6 20 rfl rfl)
theorem dX2_nextToken_163 : decode cX2_nextToken 163 = .ok (.aload_n 0, 1) := dk_42 (dk_at dksX2_nextToken_6 23 rfl rfl)
theorem dX2_nextToken_164 : decode cX2_nextToken 164 = .ok (.lconst 0, 1) := dk_9 (dk_at dksX2_nextToken_7 0 rfl rfl)
theorem dX2_nextToken_165 : decode cX2_nextToken 165 = .ok (.putfield 119, 3) := dk_181 0 119 (dk_at dksX2_nextToken_7 1 rfl rfl)
theorem dX2_nextToken_168 : decode cX2_nextToken 168 = .ok (.aload_n 0, 1) := dk_42 (dk_at dksX2_nextToken_7 4 rfl rfl)
theorem dX2_nextToken_169 : decode cX2_nextToken 169 = .ok (.aload_n 0, 1) := dk_42 (dk_at dksX2_nextToken_7 5 rfl rfl)
theorem dX2_nextToken_170 : decode cX2_nextToken 170 = .ok (.getfield 96, 3) := dk_180 0 96 (dk_at dksX2_nextToken_7 6 rfl rfl)
theorem dX2_nextToken_173 : decode cX2_nextToken 173 = .ok (.invokevirtual 99, 3) := dk_182 0 99 (dk_at dksX2_nextToken_7 9 rfl rfl)
theorem dX2_nextToken_176 : decode cX2_nextToken 176 = .ok (.invokestatic 116, 3) := dk_184 0 116 (dk_at dksX2_nextToken_7 12 rfl rfl)
theorem dX2_nextToken_179 : decode cX2_nextToken 179 = .ok (.ifCond .eq 131, 3) := dk_153 0 131 (dk_at dksX2_nextToken_7 15 rfl rfl)
theorem dX2_nextToken_182 : decode cX2_nextToken 182 = .ok (.aload_n 0, 1) := dk_42 (dk_at dksX2_nextToken_7 18 rfl rfl)
theorem dX2_nextToken_183 : decode cX2_nextToken 183 = .ok (.aload_n 0, 1) := dk_42 (dk_at dksX2_nextToken_7 19 rfl rfl)
theorem dX2_nextToken_184 : decode cX2_nextToken 184 = .ok (.getfield 119, 3) := dk_180 0 119 (dk_at dksX2_nextToken_7 20 rfl rfl)
theorem dX2_nextToken_187 : decode cX2_nextToken 187 = .ok (.bipush 48, 2) := dk_16 48 (dk_at dksX2_nextToken_8 0 rfl rfl)
theorem dX2_nextToken_189 : decode cX2_nextToken 189 = .ok (.lshr, 1) := dk_123 (dk_at dksX2_nextToken_8 2 rfl rfl)
theorem dX2_nextToken_190 : decode cX2_nextToken 190 = .ok (.lconst 0, 1) := dk_9 (dk_at dksX2_nextToken_8 3 rfl rfl)
theorem dX2_nextToken_191 : decode cX2_nextToken 191 = .ok (.lcmp, 1) := dk_148 (dk_at dksX2_nextToken_8 4 rfl rfl)
theorem dX2_nextToken_192 : decode cX2_nextToken 192 = .ok (.ifCond .eq 9, 3) := dk_153 0 9 (dk_at dksX2_nextToken_8 5 rfl rfl)
theorem dX2_nextToken_195 : decode cX2_nextToken 195 = .ok (.ldc2_w 123, 3) := dk_20 0 123 (dk_at dksX2_nextToken_8 8 rfl rfl)
theorem dX2_nextToken_198 : decode cX2_nextToken 198 = .ok (.goto 20, 3) := dk_167 0 20 (dk_at dksX2_nextToken_8 11 rfl rfl)
theorem dX2_nextToken_201 : decode cX2_nextToken 201 = .ok (.aload_n 0, 1) := dk_42 (dk_at dksX2_nextToken_8 14 rfl rfl)
theorem dX2_nextToken_202 : decode cX2_nextToken 202 = .ok (.getfield 119, 3) := dk_180 0 119 (dk_at dksX2_nextToken_8 15 rfl rfl)
theorem dX2_nextToken_205 : decode cX2_nextToken 205 = .ok (.bipush 8, 2) := dk_16 8 (dk_at dksX2_nextToken_8 18 rfl rfl)
theorem dX2_nextToken_207 : decode cX2_nextToken 207 = .ok (.lshl, 1) := dk_121 (dk_at dksX2_nextToken_8 20 rfl rfl)
theorem dX2_nextToken_208 : decode cX2_nextToken 208 = .ok (.aload_n 0, 1) := dk_42 (dk_at dksX2_nextToken_8 21 rfl rfl)
theorem dX2_nextToken_209 : decode cX2_nextToken 209 = .ok (.aload_n 0, 1) := dk_42 (dk_at dksX2_nextToken_8 22 rfl rfl)
theorem dX2_nextToken_210 : decode cX2_nextToken 210 = .ok (.getfield 96, 3) := dk_180 0 96 (dk_at dksX2_nextToken_9 0 rfl rfl)
theorem dX2_nextToken_213 : decode cX2_nextToken 213 = .ok (.invokevirtual 99, 3) := dk_182 0 99 (dk_at dksX2_nextToken_9 3 rfl rfl)
theorem dX2_nextToken_216 : decode cX2_nextToken 216 = .ok (.i2l, 1) := dk_133 (dk_at dksX2_nextToken_9 6 rfl rfl)
theorem dX2_nextToken_217 : decode cX2_nextToken 217 = .ok (.lor, 1) := dk_129 (dk_at dksX2_nextToken_9 7 rfl rfl)
theorem dX2_nextToken_218 : decode cX2_nextToken 218 = .ok (.putfield 119, 3) := dk_181 0 119 (dk_at dksX2_nextToken_9 8 rfl rfl)
theorem dX2_nextToken_221 : decode cX2_nextToken 221 = .ok (.aload_n 0, 1) := dk_42 (dk_at dksX2_nextToken_9 11 rfl rfl)
theorem dX2_nextToken_222 : decode cX2_nextToken 222 = .ok (.dup, 1) := dk_89 (dk_at dksX2_nextToken_9 12 rfl rfl)
theorem dX2_nextToken_223 : decode cX2_nextToken 223 = .ok (.getfield 96, 3) := dk_180 0 96 (dk_at dksX2_nextToken_9 13 rfl rfl)
theorem dX2_nextToken_226 : decode cX2_nextToken 226 = .ok (.iconst 1, 1) := dk_4 (dk_at dksX2_nextToken_9 16 rfl rfl)
theorem dX2_nextToken_227 : decode cX2_nextToken 227 = .ok (.iadd, 1) := dk_96 (dk_at dksX2_nextToken_9 17 rfl rfl)
theorem dX2_nextToken_228 : decode cX2_nextToken 228 = .ok (.putfield 96, 3) := dk_181 0 96 (dk_at dksX2_nextToken_9 18 rfl rfl)
theorem dX2_nextToken_231 : decode cX2_nextToken 231 = .ok (.goto (-63), 3) := dk_167 255 193 (dk_at dksX2_nextToken_9 21 rfl rfl)
theorem dX2_nextToken_234 : decode cX2_nextToken 234 = .ok (.aload_n 0, 1) := dk_42 (dk_at dksX2_nextToken_10 0 rfl rfl)
theorem dX2_nextToken_235 : decode cX2_nextToken 235 = .ok (.iload_n 1, 1) := dk_27 (dk_at dksX2_nextToken_10 1 rfl rfl)
theorem dX2_nextToken_236 : decode cX2_nextToken 236 = .ok (.invokestatic 125, 3) := dk_184 0 125 (dk_at dksX2_nextToken_10 2 rfl rfl)
theorem dX2_nextToken_239 : decode cX2_nextToken 239 = .ok (.ifCond .eq 7, 3) := dk_153 0 7 (dk_at dksX2_nextToken_10 5 rfl rfl)
theorem dX2_nextToken_242 : decode cX2_nextToken 242 = .ok (.iload_n 1, 1) := dk_27 (dk_at dksX2_nextToken_10 8 rfl rfl)
theorem dX2_nextToken_243 : decode cX2_nextToken 243 = .ok (.goto 4, 3) := dk_167 0 4 (dk_at dksX2_nextToken_10 9 rfl rfl)
theorem dX2_nextToken_246 : decode cX2_nextToken 246 = .ok (.iconst 3, 1) := dk_6 (dk_at dksX2_nextToken_10 12 rfl rfl)
theorem dX2_nextToken_247 : decode cX2_nextToken 247 = .ok (.putfield 106, 3) := dk_181 0 106 (dk_at dksX2_nextToken_10 13 rfl rfl)
theorem dX2_nextToken_250 : decode cX2_nextToken 250 = .ok (.aload_n 0, 1) := dk_42 (dk_at dksX2_nextToken_10 16 rfl rfl)
theorem dX2_nextToken_251 : decode cX2_nextToken 251 = .ok (.dup, 1) := dk_89 (dk_at dksX2_nextToken_10 17 rfl rfl)
theorem dX2_nextToken_252 : decode cX2_nextToken 252 = .ok (.getfield 96, 3) := dk_180 0 96 (dk_at dksX2_nextToken_10 18 rfl rfl)
theorem dX2_nextToken_255 : decode cX2_nextToken 255 = .ok (.iconst 1, 1) := dk_4 (dk_at dksX2_nextToken_10 21 rfl rfl)
theorem dX2_nextToken_256 : decode cX2_nextToken 256 = .ok (.iadd, 1) := dk_96 (dk_at dksX2_nextToken_10 22 rfl rfl)
theorem dX2_nextToken_257 : decode cX2_nextToken 257 = .ok (.putfield 96, 3) := dk_181 0 96 (dk_at dksX2_nextToken_11 0 rfl rfl)
theorem dX2_nextToken_260 : decode cX2_nextToken 260 = .ok (.iload_n 1, 1) := dk_27 (dk_at dksX2_nextToken_11 3 rfl rfl)
theorem dX2_nextToken_261 : decode cX2_nextToken 261 = .ok (.bipush 60, 2) := dk_16 60 (dk_at dksX2_nextToken_11 4 rfl rfl)
theorem dX2_nextToken_263 : decode cX2_nextToken 263 = .ok (.if_icmp .eq 9, 3) := dk_159 0 9 (dk_at dksX2_nextToken_11 6 rfl rfl)
theorem dX2_nextToken_266 : decode cX2_nextToken 266 = .ok (.iload_n 1, 1) := dk_27 (dk_at dksX2_nextToken_11 9 rfl rfl)
theorem dX2_nextToken_267 : decode cX2_nextToken 267 = .ok (.bipush 62, 2) := dk_16 62 (dk_at dksX2_nextToken_11 10 rfl rfl)
theorem dX2_nextToken_269 : decode cX2_nextToken 269 = .ok (.if_icmp .ne 41, 3) := dk_160 0 41 (dk_at dksX2_nextToken_11 12 rfl rfl)
theorem dX2_nextToken_272 : decode cX2_nextToken 272 = .ok (.aload_n 0, 1) := dk_42 (dk_at dksX2_nextToken_11 15 rfl rfl)
theorem dX2_nextToken_273 : decode cX2_nextToken 273 = .ok (.aload_n 0, 1) := dk_42 (dk_at dksX2_nextToken_11 16 rfl rfl)
theorem dX2_nextToken_274 : decode cX2_nextToken 274 = .ok (.getfield 96, 3) := dk_180 0 96 (dk_at dksX2_nextToken_11 17 rfl rfl)
theorem dX2_nextToken_277 : decode cX2_nextToken 277 = .ok (.invokevirtual 99, 3) := dk_182 0 99 (dk_at dksX2_nextToken_11 20 rfl rfl)
theorem dX2_nextToken_280 : decode cX2_nextToken 280 = .ok (.bipush 61, 2) := dk_16 61 (dk_at dksX2_nextToken_12 0 rfl rfl)
theorem dX2_nextToken_282 : decode cX2_nextToken 282 = .ok (.if_icmp .ne 28, 3) := dk_160 0 28 (dk_at dksX2_nextToken_12 2 rfl rfl)
theorem dX2_nextToken_285 : decode cX2_nextToken 285 = .ok (.aload_n 0, 1) := dk_42 (dk_at dksX2_nextToken_12 5 rfl rfl)
theorem dX2_nextToken_286 : decode cX2_nextToken 286 = .ok (.iload_n 1, 1) := dk_27 (dk_at dksX2_nextToken_12 6 rfl rfl)
theorem dX2_nextToken_287 : decode cX2_nextToken 287 = .ok (.bipush 60, 2) := dk_16 60 (dk_at dksX2_nextToken_12 7 rfl rfl)
theorem dX2_nextToken_289 : decode cX2_nextToken 289 = .ok (.if_icmp .ne 7, 3) := dk_160 0 7 (dk_at dksX2_nextToken_12 9 rfl rfl)
theorem dX2_nextToken_292 : decode cX2_nextToken 292 = .ok (.iconst 4, 1) := dk_7 (dk_at dksX2_nextToken_12 12 rfl rfl)
theorem dX2_nextToken_293 : decode cX2_nextToken 293 = .ok (.goto 4, 3) := dk_167 0 4 (dk_at dksX2_nextToken_12 13 rfl rfl)
theorem dX2_nextToken_296 : decode cX2_nextToken 296 = .ok (.iconst 5, 1) := dk_8 (dk_at dksX2_nextToken_12 16 rfl rfl)
theorem dX2_nextToken_297 : decode cX2_nextToken 297 = .ok (.putfield 106, 3) := dk_181 0 106 (dk_at dksX2_nextToken_12 17 rfl rfl)
theorem dX2_nextToken_300 : decode cX2_nextToken 300 = .ok (.aload_n 0, 1) := dk_42 (dk_at dksX2_nextToken_12 20 rfl rfl)
theorem dX2_nextToken_301 : decode cX2_nextToken 301 = .ok (.dup, 1) := dk_89 (dk_at dksX2_nextToken_12 21 rfl rfl)
theorem dX2_nextToken_302 : decode cX2_nextToken 302 = .ok (.getfield 96, 3) := dk_180 0 96 (dk_at dksX2_nextToken_13 0 rfl rfl)
theorem dX2_nextToken_305 : decode cX2_nextToken 305 = .ok (.iconst 1, 1) := dk_4 (dk_at dksX2_nextToken_13 3 rfl rfl)
theorem dX2_nextToken_306 : decode cX2_nextToken 306 = .ok (.iadd, 1) := dk_96 (dk_at dksX2_nextToken_13 4 rfl rfl)
theorem dX2_nextToken_307 : decode cX2_nextToken 307 = .ok (.putfield 96, 3) := dk_181 0 96 (dk_at dksX2_nextToken_13 5 rfl rfl)
theorem dX2_nextToken_310 : decode cX2_nextToken 310 = .ok (.return_, 1) := dk_177 (dk_at dksX2_nextToken_13 8 rfl rfl)
abbrev cX2_byteAt : ByteArray := prog_20_method_20_code
def yX2_byteAt : MethodName := ⟨RX2, "byteAt", "(I)I"⟩
def dkwX2_byteAt_0 : List UInt8 := [27, 42, 180, 0, 90, 162, 0, 12, 42, 180, 0, 19, 27, 46, 167, 0, 4, 2, 172]
abbrev dktX2_byteAt_0 : List UInt8 := dkwX2_byteAt_0 ++ []
theorem dksX2_byteAt_0 : cX2_byteAt.data.toList.drop 0 = dktX2_byteAt_0 := by decide +kernel
theorem dX2_byteAt_0 : decode cX2_byteAt 0 = .ok (.iload_n 1, 1) := dk_27 (dk_at dksX2_byteAt_0 0 rfl rfl)
theorem dX2_byteAt_1 : decode cX2_byteAt 1 = .ok (.aload_n 0, 1) := dk_42 (dk_at dksX2_byteAt_0 1 rfl rfl)
theorem dX2_byteAt_2 : decode cX2_byteAt 2 = .ok (.getfield 90, 3) := dk_180 0 90 (dk_at dksX2_byteAt_0 2 rfl rfl)
theorem dX2_byteAt_5 : decode cX2_byteAt 5 = .ok (.if_icmp .ge 12, 3) := dk_162 0 12 (dk_at dksX2_byteAt_0 5 rfl rfl)
theorem dX2_byteAt_8 : decode cX2_byteAt 8 = .ok (.aload_n 0, 1) := dk_42 (dk_at dksX2_byteAt_0 8 rfl rfl)
theorem dX2_byteAt_9 : decode cX2_byteAt 9 = .ok (.getfield 19, 3) := dk_180 0 19 (dk_at dksX2_byteAt_0 9 rfl rfl)
theorem dX2_byteAt_12 : decode cX2_byteAt 12 = .ok (.iload_n 1, 1) := dk_27 (dk_at dksX2_byteAt_0 12 rfl rfl)
theorem dX2_byteAt_13 : decode cX2_byteAt 13 = .ok (.iaload, 1) := dk_46 (dk_at dksX2_byteAt_0 13 rfl rfl)
theorem dX2_byteAt_14 : decode cX2_byteAt 14 = .ok (.goto 4, 3) := dk_167 0 4 (dk_at dksX2_byteAt_0 14 rfl rfl)
theorem dX2_byteAt_17 : decode cX2_byteAt 17 = .ok (.iconst (-1), 1) := dk_2 (dk_at dksX2_byteAt_0 17 rfl rfl)
theorem dX2_byteAt_18 : decode cX2_byteAt 18 = .ok (.ireturn, 1) := dk_172 (dk_at dksX2_byteAt_0 18 rfl rfl)
abbrev cX2_isFigure : ByteArray := prog_20_method_22_code
def yX2_isFigure : MethodName := ⟨RX2, "isFigure", "(I)Z"⟩
def dkwX2_isFigure_0 : List UInt8 := [26, 16, 48, 161, 0, 13, 26, 16, 57, 163, 0, 7, 4, 167, 0, 4, 3, 172]
abbrev dktX2_isFigure_0 : List UInt8 := dkwX2_isFigure_0 ++ []
theorem dksX2_isFigure_0 : cX2_isFigure.data.toList.drop 0 = dktX2_isFigure_0 := by decide +kernel
theorem dX2_isFigure_0 : decode cX2_isFigure 0 = .ok (.iload_n 0, 1) := dk_26 (dk_at dksX2_isFigure_0 0 rfl rfl)
theorem dX2_isFigure_1 : decode cX2_isFigure 1 = .ok (.bipush 48, 2) := dk_16 48 (dk_at dksX2_isFigure_0 1 rfl rfl)
theorem dX2_isFigure_3 : decode cX2_isFigure 3 = .ok (.if_icmp .lt 13, 3) := dk_161 0 13 (dk_at dksX2_isFigure_0 3 rfl rfl)
theorem dX2_isFigure_6 : decode cX2_isFigure 6 = .ok (.iload_n 0, 1) := dk_26 (dk_at dksX2_isFigure_0 6 rfl rfl)
theorem dX2_isFigure_7 : decode cX2_isFigure 7 = .ok (.bipush 57, 2) := dk_16 57 (dk_at dksX2_isFigure_0 7 rfl rfl)
theorem dX2_isFigure_9 : decode cX2_isFigure 9 = .ok (.if_icmp .gt 7, 3) := dk_163 0 7 (dk_at dksX2_isFigure_0 9 rfl rfl)
theorem dX2_isFigure_12 : decode cX2_isFigure 12 = .ok (.iconst 1, 1) := dk_4 (dk_at dksX2_isFigure_0 12 rfl rfl)
theorem dX2_isFigure_13 : decode cX2_isFigure 13 = .ok (.goto 4, 3) := dk_167 0 4 (dk_at dksX2_isFigure_0 13 rfl rfl)
theorem dX2_isFigure_16 : decode cX2_isFigure 16 = .ok (.iconst 0, 1) := dk_3 (dk_at dksX2_isFigure_0 16 rfl rfl)
theorem dX2_isFigure_17 : decode cX2_isFigure 17 = .ok (.ireturn, 1) := dk_172 (dk_at dksX2_isFigure_0 17 rfl rfl)
abbrev cX2_isLetterByte : ByteArray := prog_20_method_21_code
def yX2_isLetterByte : MethodName := ⟨RX2, "isLetterByte", "(I)Z"⟩
def dkwX2_isLetterByte_1 : List UInt8 := [4, 167, 0, 4, 3, 172]
abbrev dktX2_isLetterByte_1 : List UInt8 := dkwX2_isLetterByte_1 ++ []
def dkwX2_isLetterByte_0 : List UInt8 := [26, 16, 97, 161, 0, 9, 26, 16, 122, 164, 0, 15, 26, 16, 65, 161, 0, 13, 26, 16, 90, 163, 0, 7]
abbrev dktX2_isLetterByte_0 : List UInt8 := dkwX2_isLetterByte_0 ++ dktX2_isLetterByte_1
theorem dksX2_isLetterByte_0 : cX2_isLetterByte.data.toList.drop 0 = dktX2_isLetterByte_0 := by decide +kernel
theorem dksX2_isLetterByte_1 : cX2_isLetterByte.data.toList.drop 24 = dktX2_isLetterByte_1 := dk_seg dksX2_isLetterByte_0 24 rfl rfl
theorem dX2_isLetterByte_0 : decode cX2_isLetterByte 0 = .ok (.iload_n 0, 1) := dk_26 (dk_at dksX2_isLetterByte_0 0 rfl rfl)
theorem dX2_isLetterByte_1 : decode cX2_isLetterByte 1 = .ok (.bipush 97, 2) := dk_16 97 (dk_at dksX2_isLetterByte_0 1 rfl rfl)
theorem dX2_isLetterByte_3 : decode cX2_isLetterByte 3 = .ok (.if_icmp .lt 9, 3) := dk_161 0 9 (dk_at dksX2_isLetterByte_0 3 rfl rfl)
theorem dX2_isLetterByte_6 : decode cX2_isLetterByte 6 = .ok (.iload_n 0, 1) := dk_26 (dk_at dksX2_isLetterByte_0 6 rfl rfl)
theorem dX2_isLetterByte_7 : decode cX2_isLetterByte 7 = .ok (.bipush 122, 2) := dk_16 122 (dk_at dksX2_isLetterByte_0 7 rfl rfl)
theorem dX2_isLetterByte_9 : decode cX2_isLetterByte 9 = .ok (.if_icmp .le 15, 3) := dk_164 0 15 (dk_at dksX2_isLetterByte_0 9 rfl rfl)
theorem dX2_isLetterByte_12 : decode cX2_isLetterByte 12 = .ok (.iload_n 0, 1) := dk_26 (dk_at dksX2_isLetterByte_0 12 rfl rfl)
theorem dX2_isLetterByte_13 : decode cX2_isLetterByte 13 = .ok (.bipush 65, 2) := dk_16 65 (dk_at dksX2_isLetterByte_0 13 rfl rfl)
theorem dX2_isLetterByte_15 : decode cX2_isLetterByte 15 = .ok (.if_icmp .lt 13, 3) := dk_161 0 13 (dk_at dksX2_isLetterByte_0 15 rfl rfl)
theorem dX2_isLetterByte_18 : decode cX2_isLetterByte 18 = .ok (.iload_n 0, 1) := dk_26 (dk_at dksX2_isLetterByte_0 18 rfl rfl)
theorem dX2_isLetterByte_19 : decode cX2_isLetterByte 19 = .ok (.bipush 90, 2) := dk_16 90 (dk_at dksX2_isLetterByte_0 19 rfl rfl)
theorem dX2_isLetterByte_21 : decode cX2_isLetterByte 21 = .ok (.if_icmp .gt 7, 3) := dk_163 0 7 (dk_at dksX2_isLetterByte_0 21 rfl rfl)
theorem dX2_isLetterByte_24 : decode cX2_isLetterByte 24 = .ok (.iconst 1, 1) := dk_4 (dk_at dksX2_isLetterByte_1 0 rfl rfl)
theorem dX2_isLetterByte_25 : decode cX2_isLetterByte 25 = .ok (.goto 4, 3) := dk_167 0 4 (dk_at dksX2_isLetterByte_1 1 rfl rfl)
theorem dX2_isLetterByte_28 : decode cX2_isLetterByte 28 = .ok (.iconst 0, 1) := dk_3 (dk_at dksX2_isLetterByte_1 4 rfl rfl)
theorem dX2_isLetterByte_29 : decode cX2_isLetterByte 29 = .ok (.ireturn, 1) := dk_172 (dk_at dksX2_isLetterByte_1 5 rfl rfl)
abbrev cX2_isSign : ByteArray := prog_20_method_23_code
def yX2_isSign : MethodName := ⟨RX2, "isSign", "(I)Z"⟩
def dkwX2_isSign_2 : List UInt8 := [4, 172, 3, 172]
abbrev dktX2_isSign_2 : List UInt8 := dkwX2_isSign_2 ++ []
def dkwX2_isSign_1 : List UInt8 := [170, 0, 0, 0, 0, 0, 129, 0, 0, 0, 35, 0, 0, 0, 62, 0, 0, 0, 127, 0, 0, 0, 129, 0, 0, 0, 129, 0, 0, 0, 129, 0, 0, 0, 129, 0, 0, 0, 127, 0, 0, 0, 127, 0, 0, 0, 127, 0, 0, 0, 127, 0, 0, 0, 129, 0, 0, 0, 127, 0, 0, 0, 129, 0, 0, 0, 127, 0, 0, 0, 129, 0, 0, 0, 129, 0, 0, 0, 129, 0, 0, 0, 129, 0, 0, 0, 129, 0, 0, 0, 129, 0, 0, 0, 129, 0, 0, 0, 129, 0, 0, 0, 129, 0, 0, 0, 129, 0, 0, 0, 127, 0, 0, 0, 127, 0, 0, 0, 127, 0, 0, 0, 127, 0, 0, 0, 127]
abbrev dktX2_isSign_1 : List UInt8 := dkwX2_isSign_1 ++ dktX2_isSign_2
def dkwX2_isSign_0 : List UInt8 := [26]
abbrev dktX2_isSign_0 : List UInt8 := dkwX2_isSign_0 ++ dktX2_isSign_1
theorem dksX2_isSign_0 : cX2_isSign.data.toList.drop 0 = dktX2_isSign_0 := by decide +kernel
theorem dksX2_isSign_1 : cX2_isSign.data.toList.drop 1 = dktX2_isSign_1 := dk_seg dksX2_isSign_0 1 rfl rfl
theorem dksX2_isSign_2 : cX2_isSign.data.toList.drop 128 = dktX2_isSign_2 := dk_seg dksX2_isSign_1 127 rfl rfl
theorem dX2_isSign_0 : decode cX2_isSign 0 = .ok (.iload_n 0, 1) := dk_26 (dk_at dksX2_isSign_0 0 rfl rfl)
theorem dX2_isSign_1 : decode cX2_isSign 1 = .ok (.tableswitch 129 35 62 #[127, 129, 129, 129, 129, 127, 127, 127, 127, 129, 127, 129, 127, 129, 129, 129, 129, 129, 129, 129, 129, 129, 129, 127, 127, 127, 127, 127], 127) := by decide +kernel
theorem dX2_isSign_128 : decode cX2_isSign 128 = .ok (.iconst 1, 1) := dk_4 (dk_at dksX2_isSign_2 0 rfl rfl)
theorem dX2_isSign_129 : decode cX2_isSign 129 = .ok (.ireturn, 1) := dk_172 (dk_at dksX2_isSign_2 1 rfl rfl)
theorem dX2_isSign_130 : decode cX2_isSign 130 = .ok (.iconst 0, 1) := dk_3 (dk_at dksX2_isSign_2 2 rfl rfl)
theorem dX2_isSign_131 : decode cX2_isSign 131 = .ok (.ireturn, 1) := dk_172 (dk_at dksX2_isSign_2 3 rfl rfl)
abbrev cX2_clause : ByteArray := prog_20_method_55_code
def yX2_clause : MethodName := ⟨RX2, "clause", "()I"⟩
def dkwX2_clause_5 : List UInt8 := [96, 79, 42, 180, 0, 106, 16, 59, 159, 0, 5, 4, 172, 42, 182, 0, 177, 3, 172]
abbrev dktX2_clause_5 : List UInt8 := dkwX2_clause_5 ++ []
def dkwX2_clause_4 : List UInt8 := [182, 0, 251, 54, 4, 21, 4, 153, 0, 6, 21, 4, 172, 42, 180, 0, 16, 42, 180, 0, 144, 92, 46, 4]
abbrev dktX2_clause_4 : List UInt8 := dkwX2_clause_4 ++ dktX2_clause_5
def dkwX2_clause_3 : List UInt8 := [182, 0, 177, 42, 180, 0, 144, 4, 96, 8, 28, 104, 96, 62, 42, 180, 0, 16, 29, 27, 79, 42, 27, 29]
abbrev dktX2_clause_3 : List UInt8 := dkwX2_clause_3 ++ dktX2_clause_4
def dkwX2_clause_2 : List UInt8 := [27, 6, 163, 0, 15, 42, 89, 180, 0, 248, 4, 27, 120, 128, 181, 0, 248, 42, 27, 181, 0, 154, 42]
abbrev dktX2_clause_2 : List UInt8 := dkwX2_clause_2 ++ dktX2_clause_3
def dkwX2_clause_1 : List UInt8 := [153, 0, 5, 7, 172, 42, 180, 0, 16, 42, 180, 0, 144, 46, 61, 28, 16, 24, 160, 0, 6, 16, 6, 172]
abbrev dktX2_clause_1 : List UInt8 := dkwX2_clause_1 ++ dktX2_clause_2
def dkwX2_clause_0 : List UInt8 := [42, 182, 0, 245, 60, 27, 156, 0, 5, 4, 172, 27, 6, 163, 0, 16, 42, 180, 0, 248, 27, 184, 0, 78]
abbrev dktX2_clause_0 : List UInt8 := dkwX2_clause_0 ++ dktX2_clause_1
theorem dksX2_clause_0 : cX2_clause.data.toList.drop 0 = dktX2_clause_0 := by decide +kernel
theorem dksX2_clause_1 : cX2_clause.data.toList.drop 24 = dktX2_clause_1 := dk_seg dksX2_clause_0 24 rfl rfl
theorem dksX2_clause_2 : cX2_clause.data.toList.drop 48 = dktX2_clause_2 := dk_seg dksX2_clause_1 24 rfl rfl
theorem dksX2_clause_3 : cX2_clause.data.toList.drop 71 = dktX2_clause_3 := dk_seg dksX2_clause_2 23 rfl rfl
theorem dksX2_clause_4 : cX2_clause.data.toList.drop 95 = dktX2_clause_4 := dk_seg dksX2_clause_3 24 rfl rfl
theorem dksX2_clause_5 : cX2_clause.data.toList.drop 119 = dktX2_clause_5 := dk_seg dksX2_clause_4 24 rfl rfl
theorem dX2_clause_0 : decode cX2_clause 0 = .ok (.aload_n 0, 1) := dk_42 (dk_at dksX2_clause_0 0 rfl rfl)
theorem dX2_clause_1 : decode cX2_clause 1 = .ok (.invokevirtual 245, 3) := dk_182 0 245 (dk_at dksX2_clause_0 1 rfl rfl)
theorem dX2_clause_4 : decode cX2_clause 4 = .ok (.istore_n 1, 1) := dk_60 (dk_at dksX2_clause_0 4 rfl rfl)
theorem dX2_clause_5 : decode cX2_clause 5 = .ok (.iload_n 1, 1) := dk_27 (dk_at dksX2_clause_0 5 rfl rfl)
theorem dX2_clause_6 : decode cX2_clause 6 = .ok (.ifCond .ge 5, 3) := dk_156 0 5 (dk_at dksX2_clause_0 6 rfl rfl)
theorem dX2_clause_9 : decode cX2_clause 9 = .ok (.iconst 1, 1) := dk_4 (dk_at dksX2_clause_0 9 rfl rfl)
theorem dX2_clause_10 : decode cX2_clause 10 = .ok (.ireturn, 1) := dk_172 (dk_at dksX2_clause_0 10 rfl rfl)
theorem dX2_clause_11 : decode cX2_clause 11 = .ok (.iload_n 1, 1) := dk_27 (dk_at dksX2_clause_0 11 rfl rfl)
theorem dX2_clause_12 : decode cX2_clause 12 = .ok (.iconst 3, 1) := dk_6 (dk_at dksX2_clause_0 12 rfl rfl)
theorem dX2_clause_13 : decode cX2_clause 13 = .ok (.if_icmp .gt 16, 3) := dk_163 0 16 (dk_at dksX2_clause_0 13 rfl rfl)
theorem dX2_clause_16 : decode cX2_clause 16 = .ok (.aload_n 0, 1) := dk_42 (dk_at dksX2_clause_0 16 rfl rfl)
theorem dX2_clause_17 : decode cX2_clause 17 = .ok (.getfield 248, 3) := dk_180 0 248 (dk_at dksX2_clause_0 17 rfl rfl)
theorem dX2_clause_20 : decode cX2_clause 20 = .ok (.iload_n 1, 1) := dk_27 (dk_at dksX2_clause_0 20 rfl rfl)
theorem dX2_clause_21 : decode cX2_clause 21 = .ok (.invokestatic 78, 3) := dk_184 0 78 (dk_at dksX2_clause_0 21 rfl rfl)
theorem dX2_clause_24 : decode cX2_clause 24 = .ok (.ifCond .eq 5, 3) := dk_153 0 5 (dk_at dksX2_clause_1 0 rfl rfl)
theorem dX2_clause_27 : decode cX2_clause 27 = .ok (.iconst 4, 1) := dk_7 (dk_at dksX2_clause_1 3 rfl rfl)
theorem dX2_clause_28 : decode cX2_clause 28 = .ok (.ireturn, 1) := dk_172 (dk_at dksX2_clause_1 4 rfl rfl)
theorem dX2_clause_29 : decode cX2_clause 29 = .ok (.aload_n 0, 1) := dk_42 (dk_at dksX2_clause_1 5 rfl rfl)
theorem dX2_clause_30 : decode cX2_clause 30 = .ok (.getfield 16, 3) := dk_180 0 16 (dk_at dksX2_clause_1 6 rfl rfl)
theorem dX2_clause_33 : decode cX2_clause 33 = .ok (.aload_n 0, 1) := dk_42 (dk_at dksX2_clause_1 9 rfl rfl)
theorem dX2_clause_34 : decode cX2_clause 34 = .ok (.getfield 144, 3) := dk_180 0 144 (dk_at dksX2_clause_1 10 rfl rfl)
theorem dX2_clause_37 : decode cX2_clause 37 = .ok (.iaload, 1) := dk_46 (dk_at dksX2_clause_1 13 rfl rfl)
theorem dX2_clause_38 : decode cX2_clause 38 = .ok (.istore_n 2, 1) := dk_61 (dk_at dksX2_clause_1 14 rfl rfl)
theorem dX2_clause_39 : decode cX2_clause 39 = .ok (.iload_n 2, 1) := dk_28 (dk_at dksX2_clause_1 15 rfl rfl)
theorem dX2_clause_40 : decode cX2_clause 40 = .ok (.bipush 24, 2) := dk_16 24 (dk_at dksX2_clause_1 16 rfl rfl)
theorem dX2_clause_42 : decode cX2_clause 42 = .ok (.if_icmp .ne 6, 3) := dk_160 0 6 (dk_at dksX2_clause_1 18 rfl rfl)
theorem dX2_clause_45 : decode cX2_clause 45 = .ok (.bipush 6, 2) := dk_16 6 (dk_at dksX2_clause_1 21 rfl rfl)
theorem dX2_clause_47 : decode cX2_clause 47 = .ok (.ireturn, 1) := dk_172 (dk_at dksX2_clause_1 23 rfl rfl)
theorem dX2_clause_48 : decode cX2_clause 48 = .ok (.iload_n 1, 1) := dk_27 (dk_at dksX2_clause_2 0 rfl rfl)
theorem dX2_clause_49 : decode cX2_clause 49 = .ok (.iconst 3, 1) := dk_6 (dk_at dksX2_clause_2 1 rfl rfl)
theorem dX2_clause_50 : decode cX2_clause 50 = .ok (.if_icmp .gt 15, 3) := dk_163 0 15 (dk_at dksX2_clause_2 2 rfl rfl)
theorem dX2_clause_53 : decode cX2_clause 53 = .ok (.aload_n 0, 1) := dk_42 (dk_at dksX2_clause_2 5 rfl rfl)
theorem dX2_clause_54 : decode cX2_clause 54 = .ok (.dup, 1) := dk_89 (dk_at dksX2_clause_2 6 rfl rfl)
theorem dX2_clause_55 : decode cX2_clause 55 = .ok (.getfield 248, 3) := dk_180 0 248 (dk_at dksX2_clause_2 7 rfl rfl)
theorem dX2_clause_58 : decode cX2_clause 58 = .ok (.iconst 1, 1) := dk_4 (dk_at dksX2_clause_2 10 rfl rfl)
theorem dX2_clause_59 : decode cX2_clause 59 = .ok (.iload_n 1, 1) := dk_27 (dk_at dksX2_clause_2 11 rfl rfl)
theorem dX2_clause_60 : decode cX2_clause 60 = .ok (.ishl, 1) := dk_120 (dk_at dksX2_clause_2 12 rfl rfl)
theorem dX2_clause_61 : decode cX2_clause 61 = .ok (.ior, 1) := dk_128 (dk_at dksX2_clause_2 13 rfl rfl)
theorem dX2_clause_62 : decode cX2_clause 62 = .ok (.putfield 248, 3) := dk_181 0 248 (dk_at dksX2_clause_2 14 rfl rfl)
theorem dX2_clause_65 : decode cX2_clause 65 = .ok (.aload_n 0, 1) := dk_42 (dk_at dksX2_clause_2 17 rfl rfl)
theorem dX2_clause_66 : decode cX2_clause 66 = .ok (.iload_n 1, 1) := dk_27 (dk_at dksX2_clause_2 18 rfl rfl)
theorem dX2_clause_67 : decode cX2_clause 67 = .ok (.putfield 154, 3) := dk_181 0 154 (dk_at dksX2_clause_2 19 rfl rfl)
theorem dX2_clause_70 : decode cX2_clause 70 = .ok (.aload_n 0, 1) := dk_42 (dk_at dksX2_clause_2 22 rfl rfl)
theorem dX2_clause_71 : decode cX2_clause 71 = .ok (.invokevirtual 177, 3) := dk_182 0 177 (dk_at dksX2_clause_3 0 rfl rfl)
theorem dX2_clause_74 : decode cX2_clause 74 = .ok (.aload_n 0, 1) := dk_42 (dk_at dksX2_clause_3 3 rfl rfl)
theorem dX2_clause_75 : decode cX2_clause 75 = .ok (.getfield 144, 3) := dk_180 0 144 (dk_at dksX2_clause_3 4 rfl rfl)
theorem dX2_clause_78 : decode cX2_clause 78 = .ok (.iconst 1, 1) := dk_4 (dk_at dksX2_clause_3 7 rfl rfl)
theorem dX2_clause_79 : decode cX2_clause 79 = .ok (.iadd, 1) := dk_96 (dk_at dksX2_clause_3 8 rfl rfl)
theorem dX2_clause_80 : decode cX2_clause 80 = .ok (.iconst 5, 1) := dk_8 (dk_at dksX2_clause_3 9 rfl rfl)
theorem dX2_clause_81 : decode cX2_clause 81 = .ok (.iload_n 2, 1) := dk_28 (dk_at dksX2_clause_3 10 rfl rfl)
theorem dX2_clause_82 : decode cX2_clause 82 = .ok (.imul, 1) := dk_104 (dk_at dksX2_clause_3 11 rfl rfl)
theorem dX2_clause_83 : decode cX2_clause 83 = .ok (.iadd, 1) := dk_96 (dk_at dksX2_clause_3 12 rfl rfl)
theorem dX2_clause_84 : decode cX2_clause 84 = .ok (.istore_n 3, 1) := dk_62 (dk_at dksX2_clause_3 13 rfl rfl)
theorem dX2_clause_85 : decode cX2_clause 85 = .ok (.aload_n 0, 1) := dk_42 (dk_at dksX2_clause_3 14 rfl rfl)
theorem dX2_clause_86 : decode cX2_clause 86 = .ok (.getfield 16, 3) := dk_180 0 16 (dk_at dksX2_clause_3 15 rfl rfl)
theorem dX2_clause_89 : decode cX2_clause 89 = .ok (.iload_n 3, 1) := dk_29 (dk_at dksX2_clause_3 18 rfl rfl)
theorem dX2_clause_90 : decode cX2_clause 90 = .ok (.iload_n 1, 1) := dk_27 (dk_at dksX2_clause_3 19 rfl rfl)
theorem dX2_clause_91 : decode cX2_clause 91 = .ok (.iastore, 1) := dk_79 (dk_at dksX2_clause_3 20 rfl rfl)
theorem dX2_clause_92 : decode cX2_clause 92 = .ok (.aload_n 0, 1) := dk_42 (dk_at dksX2_clause_3 21 rfl rfl)
theorem dX2_clause_93 : decode cX2_clause 93 = .ok (.iload_n 1, 1) := dk_27 (dk_at dksX2_clause_3 22 rfl rfl)
theorem dX2_clause_94 : decode cX2_clause 94 = .ok (.iload_n 3, 1) := dk_29 (dk_at dksX2_clause_3 23 rfl rfl)
theorem dX2_clause_95 : decode cX2_clause 95 = .ok (.invokevirtual 251, 3) := dk_182 0 251 (dk_at dksX2_clause_4 0 rfl rfl)
theorem dX2_clause_98 : decode cX2_clause 98 = .ok (.istore 4, 2) := dk_54 4 (dk_at dksX2_clause_4 3 rfl rfl)
theorem dX2_clause_100 : decode cX2_clause 100 = .ok (.iload 4, 2) := dk_21 4 (dk_at dksX2_clause_4 5 rfl rfl)
theorem dX2_clause_102 : decode cX2_clause 102 = .ok (.ifCond .eq 6, 3) := dk_153 0 6 (dk_at dksX2_clause_4 7 rfl rfl)
theorem dX2_clause_105 : decode cX2_clause 105 = .ok (.iload 4, 2) := dk_21 4 (dk_at dksX2_clause_4 10 rfl rfl)
theorem dX2_clause_107 : decode cX2_clause 107 = .ok (.ireturn, 1) := dk_172 (dk_at dksX2_clause_4 12 rfl rfl)
theorem dX2_clause_108 : decode cX2_clause 108 = .ok (.aload_n 0, 1) := dk_42 (dk_at dksX2_clause_4 13 rfl rfl)
theorem dX2_clause_109 : decode cX2_clause 109 = .ok (.getfield 16, 3) := dk_180 0 16 (dk_at dksX2_clause_4 14 rfl rfl)
theorem dX2_clause_112 : decode cX2_clause 112 = .ok (.aload_n 0, 1) := dk_42 (dk_at dksX2_clause_4 17 rfl rfl)
theorem dX2_clause_113 : decode cX2_clause 113 = .ok (.getfield 144, 3) := dk_180 0 144 (dk_at dksX2_clause_4 18 rfl rfl)
theorem dX2_clause_116 : decode cX2_clause 116 = .ok (.dup2, 1) := dk_92 (dk_at dksX2_clause_4 21 rfl rfl)
theorem dX2_clause_117 : decode cX2_clause 117 = .ok (.iaload, 1) := dk_46 (dk_at dksX2_clause_4 22 rfl rfl)
theorem dX2_clause_118 : decode cX2_clause 118 = .ok (.iconst 1, 1) := dk_4 (dk_at dksX2_clause_4 23 rfl rfl)
theorem dX2_clause_119 : decode cX2_clause 119 = .ok (.iadd, 1) := dk_96 (dk_at dksX2_clause_5 0 rfl rfl)
theorem dX2_clause_120 : decode cX2_clause 120 = .ok (.iastore, 1) := dk_79 (dk_at dksX2_clause_5 1 rfl rfl)
theorem dX2_clause_121 : decode cX2_clause 121 = .ok (.aload_n 0, 1) := dk_42 (dk_at dksX2_clause_5 2 rfl rfl)
theorem dX2_clause_122 : decode cX2_clause 122 = .ok (.getfield 106, 3) := dk_180 0 106 (dk_at dksX2_clause_5 3 rfl rfl)
theorem dX2_clause_125 : decode cX2_clause 125 = .ok (.bipush 59, 2) := dk_16 59 (dk_at dksX2_clause_5 6 rfl rfl)
theorem dX2_clause_127 : decode cX2_clause 127 = .ok (.if_icmp .eq 5, 3) := dk_159 0 5 (dk_at dksX2_clause_5 8 rfl rfl)
theorem dX2_clause_130 : decode cX2_clause 130 = .ok (.iconst 1, 1) := dk_4 (dk_at dksX2_clause_5 11 rfl rfl)
theorem dX2_clause_131 : decode cX2_clause 131 = .ok (.ireturn, 1) := dk_172 (dk_at dksX2_clause_5 12 rfl rfl)
theorem dX2_clause_132 : decode cX2_clause 132 = .ok (.aload_n 0, 1) := dk_42 (dk_at dksX2_clause_5 13 rfl rfl)
theorem dX2_clause_133 : decode cX2_clause 133 = .ok (.invokevirtual 177, 3) := dk_182 0 177 (dk_at dksX2_clause_5 14 rfl rfl)
theorem dX2_clause_136 : decode cX2_clause 136 = .ok (.iconst 0, 1) := dk_3 (dk_at dksX2_clause_5 17 rfl rfl)
theorem dX2_clause_137 : decode cX2_clause 137 = .ok (.ireturn, 1) := dk_172 (dk_at dksX2_clause_5 18 rfl rfl)
abbrev cX2_sortOf : ByteArray := prog_20_method_54_code
def yX2_sortOf : MethodName := ⟨RX2, "sortOf", "()I"⟩
def dkwX2_sortOf_11 : List UInt8 := [16, 111, 16, 110, 16, 116, 16, 104, 184, 0, 140, 182, 0, 195, 153, 0, 8, 16, 12, 167, 0, 4, 2, 172]
abbrev dktX2_sortOf_11 : List UInt8 := dkwX2_sortOf_11 ++ []
def dkwX2_sortOf_10 : List UInt8 := [16, 100, 16, 111, 16, 110, 184, 0, 150, 182, 0, 195, 153, 0, 8, 16, 11, 167, 0, 29, 42, 16, 109]
abbrev dktX2_sortOf_10 : List UInt8 := dkwX2_sortOf_10 ++ dktX2_sortOf_11
def dkwX2_sortOf_9 : List UInt8 := [16, 108, 16, 108, 184, 0, 136, 182, 0, 195, 153, 0, 6, 16, 10, 172, 42, 16, 112, 16, 97, 16, 114]
abbrev dktX2_sortOf_9 : List UInt8 := dkwX2_sortOf_9 ++ dktX2_sortOf_10
def dkwX2_sortOf_8 : List UInt8 := [16, 101, 16, 101, 16, 100, 184, 0, 136, 182, 0, 195, 153, 0, 6, 16, 9, 172, 42, 16, 107, 16, 105]
abbrev dktX2_sortOf_8 : List UInt8 := dkwX2_sortOf_8 ++ dktX2_sortOf_9
def dkwX2_sortOf_7 : List UInt8 := [42, 16, 109, 16, 111, 16, 118, 16, 101, 184, 0, 136, 182, 0, 195, 153, 0, 6, 16, 8, 172, 42, 16, 102]
abbrev dktX2_sortOf_7 : List UInt8 := dkwX2_sortOf_7 ++ dktX2_sortOf_8
def dkwX2_sortOf_6 : List UInt8 := [16, 6, 172, 42, 16, 99, 16, 97, 16, 108, 16, 108, 184, 0, 136, 182, 0, 195, 153, 0, 6, 16, 7, 172]
abbrev dktX2_sortOf_6 : List UInt8 := dkwX2_sortOf_6 ++ dktX2_sortOf_7
def dkwX2_sortOf_5 : List UInt8 := [172, 42, 16, 112, 16, 101, 16, 114, 16, 115, 16, 111, 16, 110, 184, 0, 150, 182, 0, 195, 153, 0, 6]
abbrev dktX2_sortOf_5 : List UInt8 := dkwX2_sortOf_5 ++ dktX2_sortOf_6
def dkwX2_sortOf_4 : List UInt8 := [153, 0, 5, 7, 172, 42, 16, 114, 16, 111, 16, 97, 16, 100, 184, 0, 136, 182, 0, 195, 153, 0, 5, 8]
abbrev dktX2_sortOf_4 : List UInt8 := dkwX2_sortOf_4 ++ dktX2_sortOf_5
def dkwX2_sortOf_3 : List UInt8 := [182, 0, 195, 153, 0, 5, 6, 172, 42, 16, 108, 16, 97, 16, 110, 16, 100, 184, 0, 136, 182, 0, 195]
abbrev dktX2_sortOf_3 : List UInt8 := dkwX2_sortOf_3 ++ dktX2_sortOf_4
def dkwX2_sortOf_2 : List UInt8 := [182, 0, 195, 153, 0, 5, 5, 172, 42, 16, 101, 16, 97, 16, 114, 16, 110, 16, 115, 184, 0, 140]
abbrev dktX2_sortOf_2 : List UInt8 := dkwX2_sortOf_2 ++ dktX2_sortOf_3
def dkwX2_sortOf_1 : List UInt8 := [182, 0, 195, 153, 0, 5, 4, 172, 42, 16, 112, 16, 114, 16, 105, 16, 99, 16, 101, 184, 0, 140]
abbrev dktX2_sortOf_1 : List UInt8 := dkwX2_sortOf_1 ++ dktX2_sortOf_2
def dkwX2_sortOf_0 : List UInt8 := [42, 182, 0, 242, 153, 0, 5, 3, 172, 42, 16, 102, 16, 105, 16, 110, 16, 100, 16, 115, 184, 0, 140]
abbrev dktX2_sortOf_0 : List UInt8 := dkwX2_sortOf_0 ++ dktX2_sortOf_1
theorem dksX2_sortOf_0 : cX2_sortOf.data.toList.drop 0 = dktX2_sortOf_0 := by decide +kernel
theorem dksX2_sortOf_1 : cX2_sortOf.data.toList.drop 23 = dktX2_sortOf_1 := dk_seg dksX2_sortOf_0 23 rfl rfl
theorem dksX2_sortOf_2 : cX2_sortOf.data.toList.drop 45 = dktX2_sortOf_2 := dk_seg dksX2_sortOf_1 22 rfl rfl
theorem dksX2_sortOf_3 : cX2_sortOf.data.toList.drop 67 = dktX2_sortOf_3 := dk_seg dksX2_sortOf_2 22 rfl rfl
theorem dksX2_sortOf_4 : cX2_sortOf.data.toList.drop 90 = dktX2_sortOf_4 := dk_seg dksX2_sortOf_3 23 rfl rfl
theorem dksX2_sortOf_5 : cX2_sortOf.data.toList.drop 114 = dktX2_sortOf_5 := dk_seg dksX2_sortOf_4 24 rfl rfl
theorem dksX2_sortOf_6 : cX2_sortOf.data.toList.drop 137 = dktX2_sortOf_6 := dk_seg dksX2_sortOf_5 23 rfl rfl
theorem dksX2_sortOf_7 : cX2_sortOf.data.toList.drop 161 = dktX2_sortOf_7 := dk_seg dksX2_sortOf_6 24 rfl rfl
theorem dksX2_sortOf_8 : cX2_sortOf.data.toList.drop 185 = dktX2_sortOf_8 := dk_seg dksX2_sortOf_7 24 rfl rfl
theorem dksX2_sortOf_9 : cX2_sortOf.data.toList.drop 208 = dktX2_sortOf_9 := dk_seg dksX2_sortOf_8 23 rfl rfl
theorem dksX2_sortOf_10 : cX2_sortOf.data.toList.drop 231 = dktX2_sortOf_10 := dk_seg dksX2_sortOf_9 23 rfl rfl
theorem dksX2_sortOf_11 : cX2_sortOf.data.toList.drop 254 = dktX2_sortOf_11 := dk_seg dksX2_sortOf_10 23 rfl rfl
theorem dX2_sortOf_0 : decode cX2_sortOf 0 = .ok (.aload_n 0, 1) := dk_42 (dk_at dksX2_sortOf_0 0 rfl rfl)
theorem dX2_sortOf_1 : decode cX2_sortOf 1 = .ok (.invokevirtual 242, 3) := dk_182 0 242 (dk_at dksX2_sortOf_0 1 rfl rfl)
theorem dX2_sortOf_4 : decode cX2_sortOf 4 = .ok (.ifCond .eq 5, 3) := dk_153 0 5 (dk_at dksX2_sortOf_0 4 rfl rfl)
theorem dX2_sortOf_7 : decode cX2_sortOf 7 = .ok (.iconst 0, 1) := dk_3 (dk_at dksX2_sortOf_0 7 rfl rfl)
theorem dX2_sortOf_8 : decode cX2_sortOf 8 = .ok (.ireturn, 1) := dk_172 (dk_at dksX2_sortOf_0 8 rfl rfl)
theorem dX2_sortOf_9 : decode cX2_sortOf 9 = .ok (.aload_n 0, 1) := dk_42 (dk_at dksX2_sortOf_0 9 rfl rfl)
theorem dX2_sortOf_10 : decode cX2_sortOf 10 = .ok (.bipush 102, 2) := dk_16 102 (dk_at dksX2_sortOf_0 10 rfl rfl)
theorem dX2_sortOf_12 : decode cX2_sortOf 12 = .ok (.bipush 105, 2) := dk_16 105 (dk_at dksX2_sortOf_0 12 rfl rfl)
theorem dX2_sortOf_14 : decode cX2_sortOf 14 = .ok (.bipush 110, 2) := dk_16 110 (dk_at dksX2_sortOf_0 14 rfl rfl)
theorem dX2_sortOf_16 : decode cX2_sortOf 16 = .ok (.bipush 100, 2) := dk_16 100 (dk_at dksX2_sortOf_0 16 rfl rfl)
theorem dX2_sortOf_18 : decode cX2_sortOf 18 = .ok (.bipush 115, 2) := dk_16 115 (dk_at dksX2_sortOf_0 18 rfl rfl)
theorem dX2_sortOf_20 : decode cX2_sortOf 20 = .ok (.invokestatic 140, 3) := dk_184 0 140 (dk_at dksX2_sortOf_0 20 rfl rfl)
theorem dX2_sortOf_23 : decode cX2_sortOf 23 = .ok (.invokevirtual 195, 3) := dk_182 0 195 (dk_at dksX2_sortOf_1 0 rfl rfl)
theorem dX2_sortOf_26 : decode cX2_sortOf 26 = .ok (.ifCond .eq 5, 3) := dk_153 0 5 (dk_at dksX2_sortOf_1 3 rfl rfl)
theorem dX2_sortOf_29 : decode cX2_sortOf 29 = .ok (.iconst 1, 1) := dk_4 (dk_at dksX2_sortOf_1 6 rfl rfl)
theorem dX2_sortOf_30 : decode cX2_sortOf 30 = .ok (.ireturn, 1) := dk_172 (dk_at dksX2_sortOf_1 7 rfl rfl)
theorem dX2_sortOf_31 : decode cX2_sortOf 31 = .ok (.aload_n 0, 1) := dk_42 (dk_at dksX2_sortOf_1 8 rfl rfl)
theorem dX2_sortOf_32 : decode cX2_sortOf 32 = .ok (.bipush 112, 2) := dk_16 112 (dk_at dksX2_sortOf_1 9 rfl rfl)
theorem dX2_sortOf_34 : decode cX2_sortOf 34 = .ok (.bipush 114, 2) := dk_16 114 (dk_at dksX2_sortOf_1 11 rfl rfl)
theorem dX2_sortOf_36 : decode cX2_sortOf 36 = .ok (.bipush 105, 2) := dk_16 105 (dk_at dksX2_sortOf_1 13 rfl rfl)
theorem dX2_sortOf_38 : decode cX2_sortOf 38 = .ok (.bipush 99, 2) := dk_16 99 (dk_at dksX2_sortOf_1 15 rfl rfl)
theorem dX2_sortOf_40 : decode cX2_sortOf 40 = .ok (.bipush 101, 2) := dk_16 101 (dk_at dksX2_sortOf_1 17 rfl rfl)
theorem dX2_sortOf_42 : decode cX2_sortOf 42 = .ok (.invokestatic 140, 3) := dk_184 0 140 (dk_at dksX2_sortOf_1 19 rfl rfl)
theorem dX2_sortOf_45 : decode cX2_sortOf 45 = .ok (.invokevirtual 195, 3) := dk_182 0 195 (dk_at dksX2_sortOf_2 0 rfl rfl)
theorem dX2_sortOf_48 : decode cX2_sortOf 48 = .ok (.ifCond .eq 5, 3) := dk_153 0 5 (dk_at dksX2_sortOf_2 3 rfl rfl)
theorem dX2_sortOf_51 : decode cX2_sortOf 51 = .ok (.iconst 2, 1) := dk_5 (dk_at dksX2_sortOf_2 6 rfl rfl)
theorem dX2_sortOf_52 : decode cX2_sortOf 52 = .ok (.ireturn, 1) := dk_172 (dk_at dksX2_sortOf_2 7 rfl rfl)
theorem dX2_sortOf_53 : decode cX2_sortOf 53 = .ok (.aload_n 0, 1) := dk_42 (dk_at dksX2_sortOf_2 8 rfl rfl)
theorem dX2_sortOf_54 : decode cX2_sortOf 54 = .ok (.bipush 101, 2) := dk_16 101 (dk_at dksX2_sortOf_2 9 rfl rfl)
theorem dX2_sortOf_56 : decode cX2_sortOf 56 = .ok (.bipush 97, 2) := dk_16 97 (dk_at dksX2_sortOf_2 11 rfl rfl)
theorem dX2_sortOf_58 : decode cX2_sortOf 58 = .ok (.bipush 114, 2) := dk_16 114 (dk_at dksX2_sortOf_2 13 rfl rfl)
theorem dX2_sortOf_60 : decode cX2_sortOf 60 = .ok (.bipush 110, 2) := dk_16 110 (dk_at dksX2_sortOf_2 15 rfl rfl)
theorem dX2_sortOf_62 : decode cX2_sortOf 62 = .ok (.bipush 115, 2) := dk_16 115 (dk_at dksX2_sortOf_2 17 rfl rfl)
theorem dX2_sortOf_64 : decode cX2_sortOf 64 = .ok (.invokestatic 140, 3) := dk_184 0 140 (dk_at dksX2_sortOf_2 19 rfl rfl)
theorem dX2_sortOf_67 : decode cX2_sortOf 67 = .ok (.invokevirtual 195, 3) := dk_182 0 195 (dk_at dksX2_sortOf_3 0 rfl rfl)
theorem dX2_sortOf_70 : decode cX2_sortOf 70 = .ok (.ifCond .eq 5, 3) := dk_153 0 5 (dk_at dksX2_sortOf_3 3 rfl rfl)
theorem dX2_sortOf_73 : decode cX2_sortOf 73 = .ok (.iconst 3, 1) := dk_6 (dk_at dksX2_sortOf_3 6 rfl rfl)
theorem dX2_sortOf_74 : decode cX2_sortOf 74 = .ok (.ireturn, 1) := dk_172 (dk_at dksX2_sortOf_3 7 rfl rfl)
theorem dX2_sortOf_75 : decode cX2_sortOf 75 = .ok (.aload_n 0, 1) := dk_42 (dk_at dksX2_sortOf_3 8 rfl rfl)
theorem dX2_sortOf_76 : decode cX2_sortOf 76 = .ok (.bipush 108, 2) := dk_16 108 (dk_at dksX2_sortOf_3 9 rfl rfl)
theorem dX2_sortOf_78 : decode cX2_sortOf 78 = .ok (.bipush 97, 2) := dk_16 97 (dk_at dksX2_sortOf_3 11 rfl rfl)
theorem dX2_sortOf_80 : decode cX2_sortOf 80 = .ok (.bipush 110, 2) := dk_16 110 (dk_at dksX2_sortOf_3 13 rfl rfl)
theorem dX2_sortOf_82 : decode cX2_sortOf 82 = .ok (.bipush 100, 2) := dk_16 100 (dk_at dksX2_sortOf_3 15 rfl rfl)
theorem dX2_sortOf_84 : decode cX2_sortOf 84 = .ok (.invokestatic 136, 3) := dk_184 0 136 (dk_at dksX2_sortOf_3 17 rfl rfl)
theorem dX2_sortOf_87 : decode cX2_sortOf 87 = .ok (.invokevirtual 195, 3) := dk_182 0 195 (dk_at dksX2_sortOf_3 20 rfl rfl)
theorem dX2_sortOf_90 : decode cX2_sortOf 90 = .ok (.ifCond .eq 5, 3) := dk_153 0 5 (dk_at dksX2_sortOf_4 0 rfl rfl)
theorem dX2_sortOf_93 : decode cX2_sortOf 93 = .ok (.iconst 4, 1) := dk_7 (dk_at dksX2_sortOf_4 3 rfl rfl)
theorem dX2_sortOf_94 : decode cX2_sortOf 94 = .ok (.ireturn, 1) := dk_172 (dk_at dksX2_sortOf_4 4 rfl rfl)
theorem dX2_sortOf_95 : decode cX2_sortOf 95 = .ok (.aload_n 0, 1) := dk_42 (dk_at dksX2_sortOf_4 5 rfl rfl)
theorem dX2_sortOf_96 : decode cX2_sortOf 96 = .ok (.bipush 114, 2) := dk_16 114 (dk_at dksX2_sortOf_4 6 rfl rfl)
theorem dX2_sortOf_98 : decode cX2_sortOf 98 = .ok (.bipush 111, 2) := dk_16 111 (dk_at dksX2_sortOf_4 8 rfl rfl)
theorem dX2_sortOf_100 : decode cX2_sortOf 100 = .ok (.bipush 97, 2) := dk_16 97 (dk_at dksX2_sortOf_4 10 rfl rfl)
theorem dX2_sortOf_102 : decode cX2_sortOf 102 = .ok (.bipush 100, 2) := dk_16 100 (dk_at dksX2_sortOf_4 12 rfl rfl)
theorem dX2_sortOf_104 : decode cX2_sortOf 104 = .ok (.invokestatic 136, 3) := dk_184 0 136 (dk_at dksX2_sortOf_4 14 rfl rfl)
theorem dX2_sortOf_107 : decode cX2_sortOf 107 = .ok (.invokevirtual 195, 3) := dk_182 0 195 (dk_at dksX2_sortOf_4 17 rfl rfl)
theorem dX2_sortOf_110 : decode cX2_sortOf 110 = .ok (.ifCond .eq 5, 3) := dk_153 0 5 (dk_at dksX2_sortOf_4 20 rfl rfl)
theorem dX2_sortOf_113 : decode cX2_sortOf 113 = .ok (.iconst 5, 1) := dk_8 (dk_at dksX2_sortOf_4 23 rfl rfl)
theorem dX2_sortOf_114 : decode cX2_sortOf 114 = .ok (.ireturn, 1) := dk_172 (dk_at dksX2_sortOf_5 0 rfl rfl)
theorem dX2_sortOf_115 : decode cX2_sortOf 115 = .ok (.aload_n 0, 1) := dk_42 (dk_at dksX2_sortOf_5 1 rfl rfl)
theorem dX2_sortOf_116 : decode cX2_sortOf 116 = .ok (.bipush 112, 2) := dk_16 112 (dk_at dksX2_sortOf_5 2 rfl rfl)
theorem dX2_sortOf_118 : decode cX2_sortOf 118 = .ok (.bipush 101, 2) := dk_16 101 (dk_at dksX2_sortOf_5 4 rfl rfl)
theorem dX2_sortOf_120 : decode cX2_sortOf 120 = .ok (.bipush 114, 2) := dk_16 114 (dk_at dksX2_sortOf_5 6 rfl rfl)
theorem dX2_sortOf_122 : decode cX2_sortOf 122 = .ok (.bipush 115, 2) := dk_16 115 (dk_at dksX2_sortOf_5 8 rfl rfl)
theorem dX2_sortOf_124 : decode cX2_sortOf 124 = .ok (.bipush 111, 2) := dk_16 111 (dk_at dksX2_sortOf_5 10 rfl rfl)
theorem dX2_sortOf_126 : decode cX2_sortOf 126 = .ok (.bipush 110, 2) := dk_16 110 (dk_at dksX2_sortOf_5 12 rfl rfl)
theorem dX2_sortOf_128 : decode cX2_sortOf 128 = .ok (.invokestatic 150, 3) := dk_184 0 150 (dk_at dksX2_sortOf_5 14 rfl rfl)
theorem dX2_sortOf_131 : decode cX2_sortOf 131 = .ok (.invokevirtual 195, 3) := dk_182 0 195 (dk_at dksX2_sortOf_5 17 rfl rfl)
theorem dX2_sortOf_134 : decode cX2_sortOf 134 = .ok (.ifCond .eq 6, 3) := dk_153 0 6 (dk_at dksX2_sortOf_5 20 rfl rfl)
theorem dX2_sortOf_137 : decode cX2_sortOf 137 = .ok (.bipush 6, 2) := dk_16 6 (dk_at dksX2_sortOf_6 0 rfl rfl)
theorem dX2_sortOf_139 : decode cX2_sortOf 139 = .ok (.ireturn, 1) := dk_172 (dk_at dksX2_sortOf_6 2 rfl rfl)
theorem dX2_sortOf_140 : decode cX2_sortOf 140 = .ok (.aload_n 0, 1) := dk_42 (dk_at dksX2_sortOf_6 3 rfl rfl)
theorem dX2_sortOf_141 : decode cX2_sortOf 141 = .ok (.bipush 99, 2) := dk_16 99 (dk_at dksX2_sortOf_6 4 rfl rfl)
theorem dX2_sortOf_143 : decode cX2_sortOf 143 = .ok (.bipush 97, 2) := dk_16 97 (dk_at dksX2_sortOf_6 6 rfl rfl)
theorem dX2_sortOf_145 : decode cX2_sortOf 145 = .ok (.bipush 108, 2) := dk_16 108 (dk_at dksX2_sortOf_6 8 rfl rfl)
theorem dX2_sortOf_147 : decode cX2_sortOf 147 = .ok (.bipush 108, 2) := dk_16 108 (dk_at dksX2_sortOf_6 10 rfl rfl)
theorem dX2_sortOf_149 : decode cX2_sortOf 149 = .ok (.invokestatic 136, 3) := dk_184 0 136 (dk_at dksX2_sortOf_6 12 rfl rfl)
theorem dX2_sortOf_152 : decode cX2_sortOf 152 = .ok (.invokevirtual 195, 3) := dk_182 0 195 (dk_at dksX2_sortOf_6 15 rfl rfl)
theorem dX2_sortOf_155 : decode cX2_sortOf 155 = .ok (.ifCond .eq 6, 3) := dk_153 0 6 (dk_at dksX2_sortOf_6 18 rfl rfl)
theorem dX2_sortOf_158 : decode cX2_sortOf 158 = .ok (.bipush 7, 2) := dk_16 7 (dk_at dksX2_sortOf_6 21 rfl rfl)
theorem dX2_sortOf_160 : decode cX2_sortOf 160 = .ok (.ireturn, 1) := dk_172 (dk_at dksX2_sortOf_6 23 rfl rfl)
theorem dX2_sortOf_161 : decode cX2_sortOf 161 = .ok (.aload_n 0, 1) := dk_42 (dk_at dksX2_sortOf_7 0 rfl rfl)
theorem dX2_sortOf_162 : decode cX2_sortOf 162 = .ok (.bipush 109, 2) := dk_16 109 (dk_at dksX2_sortOf_7 1 rfl rfl)
theorem dX2_sortOf_164 : decode cX2_sortOf 164 = .ok (.bipush 111, 2) := dk_16 111 (dk_at dksX2_sortOf_7 3 rfl rfl)
theorem dX2_sortOf_166 : decode cX2_sortOf 166 = .ok (.bipush 118, 2) := dk_16 118 (dk_at dksX2_sortOf_7 5 rfl rfl)
theorem dX2_sortOf_168 : decode cX2_sortOf 168 = .ok (.bipush 101, 2) := dk_16 101 (dk_at dksX2_sortOf_7 7 rfl rfl)
theorem dX2_sortOf_170 : decode cX2_sortOf 170 = .ok (.invokestatic 136, 3) := dk_184 0 136 (dk_at dksX2_sortOf_7 9 rfl rfl)
theorem dX2_sortOf_173 : decode cX2_sortOf 173 = .ok (.invokevirtual 195, 3) := dk_182 0 195 (dk_at dksX2_sortOf_7 12 rfl rfl)
theorem dX2_sortOf_176 : decode cX2_sortOf 176 = .ok (.ifCond .eq 6, 3) := dk_153 0 6 (dk_at dksX2_sortOf_7 15 rfl rfl)
theorem dX2_sortOf_179 : decode cX2_sortOf 179 = .ok (.bipush 8, 2) := dk_16 8 (dk_at dksX2_sortOf_7 18 rfl rfl)
theorem dX2_sortOf_181 : decode cX2_sortOf 181 = .ok (.ireturn, 1) := dk_172 (dk_at dksX2_sortOf_7 20 rfl rfl)
theorem dX2_sortOf_182 : decode cX2_sortOf 182 = .ok (.aload_n 0, 1) := dk_42 (dk_at dksX2_sortOf_7 21 rfl rfl)
theorem dX2_sortOf_183 : decode cX2_sortOf 183 = .ok (.bipush 102, 2) := dk_16 102 (dk_at dksX2_sortOf_7 22 rfl rfl)
theorem dX2_sortOf_185 : decode cX2_sortOf 185 = .ok (.bipush 101, 2) := dk_16 101 (dk_at dksX2_sortOf_8 0 rfl rfl)
theorem dX2_sortOf_187 : decode cX2_sortOf 187 = .ok (.bipush 101, 2) := dk_16 101 (dk_at dksX2_sortOf_8 2 rfl rfl)
theorem dX2_sortOf_189 : decode cX2_sortOf 189 = .ok (.bipush 100, 2) := dk_16 100 (dk_at dksX2_sortOf_8 4 rfl rfl)
theorem dX2_sortOf_191 : decode cX2_sortOf 191 = .ok (.invokestatic 136, 3) := dk_184 0 136 (dk_at dksX2_sortOf_8 6 rfl rfl)
theorem dX2_sortOf_194 : decode cX2_sortOf 194 = .ok (.invokevirtual 195, 3) := dk_182 0 195 (dk_at dksX2_sortOf_8 9 rfl rfl)
theorem dX2_sortOf_197 : decode cX2_sortOf 197 = .ok (.ifCond .eq 6, 3) := dk_153 0 6 (dk_at dksX2_sortOf_8 12 rfl rfl)
theorem dX2_sortOf_200 : decode cX2_sortOf 200 = .ok (.bipush 9, 2) := dk_16 9 (dk_at dksX2_sortOf_8 15 rfl rfl)
theorem dX2_sortOf_202 : decode cX2_sortOf 202 = .ok (.ireturn, 1) := dk_172 (dk_at dksX2_sortOf_8 17 rfl rfl)
theorem dX2_sortOf_203 : decode cX2_sortOf 203 = .ok (.aload_n 0, 1) := dk_42 (dk_at dksX2_sortOf_8 18 rfl rfl)
theorem dX2_sortOf_204 : decode cX2_sortOf 204 = .ok (.bipush 107, 2) := dk_16 107 (dk_at dksX2_sortOf_8 19 rfl rfl)
theorem dX2_sortOf_206 : decode cX2_sortOf 206 = .ok (.bipush 105, 2) := dk_16 105 (dk_at dksX2_sortOf_8 21 rfl rfl)
theorem dX2_sortOf_208 : decode cX2_sortOf 208 = .ok (.bipush 108, 2) := dk_16 108 (dk_at dksX2_sortOf_9 0 rfl rfl)
theorem dX2_sortOf_210 : decode cX2_sortOf 210 = .ok (.bipush 108, 2) := dk_16 108 (dk_at dksX2_sortOf_9 2 rfl rfl)
theorem dX2_sortOf_212 : decode cX2_sortOf 212 = .ok (.invokestatic 136, 3) := dk_184 0 136 (dk_at dksX2_sortOf_9 4 rfl rfl)
theorem dX2_sortOf_215 : decode cX2_sortOf 215 = .ok (.invokevirtual 195, 3) := dk_182 0 195 (dk_at dksX2_sortOf_9 7 rfl rfl)
theorem dX2_sortOf_218 : decode cX2_sortOf 218 = .ok (.ifCond .eq 6, 3) := dk_153 0 6 (dk_at dksX2_sortOf_9 10 rfl rfl)
theorem dX2_sortOf_221 : decode cX2_sortOf 221 = .ok (.bipush 10, 2) := dk_16 10 (dk_at dksX2_sortOf_9 13 rfl rfl)
theorem dX2_sortOf_223 : decode cX2_sortOf 223 = .ok (.ireturn, 1) := dk_172 (dk_at dksX2_sortOf_9 15 rfl rfl)
theorem dX2_sortOf_224 : decode cX2_sortOf 224 = .ok (.aload_n 0, 1) := dk_42 (dk_at dksX2_sortOf_9 16 rfl rfl)
theorem dX2_sortOf_225 : decode cX2_sortOf 225 = .ok (.bipush 112, 2) := dk_16 112 (dk_at dksX2_sortOf_9 17 rfl rfl)
theorem dX2_sortOf_227 : decode cX2_sortOf 227 = .ok (.bipush 97, 2) := dk_16 97 (dk_at dksX2_sortOf_9 19 rfl rfl)
theorem dX2_sortOf_229 : decode cX2_sortOf 229 = .ok (.bipush 114, 2) := dk_16 114 (dk_at dksX2_sortOf_9 21 rfl rfl)
theorem dX2_sortOf_231 : decode cX2_sortOf 231 = .ok (.bipush 100, 2) := dk_16 100 (dk_at dksX2_sortOf_10 0 rfl rfl)
theorem dX2_sortOf_233 : decode cX2_sortOf 233 = .ok (.bipush 111, 2) := dk_16 111 (dk_at dksX2_sortOf_10 2 rfl rfl)
theorem dX2_sortOf_235 : decode cX2_sortOf 235 = .ok (.bipush 110, 2) := dk_16 110 (dk_at dksX2_sortOf_10 4 rfl rfl)
theorem dX2_sortOf_237 : decode cX2_sortOf 237 = .ok (.invokestatic 150, 3) := dk_184 0 150 (dk_at dksX2_sortOf_10 6 rfl rfl)
theorem dX2_sortOf_240 : decode cX2_sortOf 240 = .ok (.invokevirtual 195, 3) := dk_182 0 195 (dk_at dksX2_sortOf_10 9 rfl rfl)
theorem dX2_sortOf_243 : decode cX2_sortOf 243 = .ok (.ifCond .eq 8, 3) := dk_153 0 8 (dk_at dksX2_sortOf_10 12 rfl rfl)
theorem dX2_sortOf_246 : decode cX2_sortOf 246 = .ok (.bipush 11, 2) := dk_16 11 (dk_at dksX2_sortOf_10 15 rfl rfl)
theorem dX2_sortOf_248 : decode cX2_sortOf 248 = .ok (.goto 29, 3) := dk_167 0 29 (dk_at dksX2_sortOf_10 17 rfl rfl)
theorem dX2_sortOf_251 : decode cX2_sortOf 251 = .ok (.aload_n 0, 1) := dk_42 (dk_at dksX2_sortOf_10 20 rfl rfl)
theorem dX2_sortOf_252 : decode cX2_sortOf 252 = .ok (.bipush 109, 2) := dk_16 109 (dk_at dksX2_sortOf_10 21 rfl rfl)
theorem dX2_sortOf_254 : decode cX2_sortOf 254 = .ok (.bipush 111, 2) := dk_16 111 (dk_at dksX2_sortOf_11 0 rfl rfl)
theorem dX2_sortOf_256 : decode cX2_sortOf 256 = .ok (.bipush 110, 2) := dk_16 110 (dk_at dksX2_sortOf_11 2 rfl rfl)
theorem dX2_sortOf_258 : decode cX2_sortOf 258 = .ok (.bipush 116, 2) := dk_16 116 (dk_at dksX2_sortOf_11 4 rfl rfl)
theorem dX2_sortOf_260 : decode cX2_sortOf 260 = .ok (.bipush 104, 2) := dk_16 104 (dk_at dksX2_sortOf_11 6 rfl rfl)
theorem dX2_sortOf_262 : decode cX2_sortOf 262 = .ok (.invokestatic 140, 3) := dk_184 0 140 (dk_at dksX2_sortOf_11 8 rfl rfl)
theorem dX2_sortOf_265 : decode cX2_sortOf 265 = .ok (.invokevirtual 195, 3) := dk_182 0 195 (dk_at dksX2_sortOf_11 11 rfl rfl)
theorem dX2_sortOf_268 : decode cX2_sortOf 268 = .ok (.ifCond .eq 8, 3) := dk_153 0 8 (dk_at dksX2_sortOf_11 14 rfl rfl)
theorem dX2_sortOf_271 : decode cX2_sortOf 271 = .ok (.bipush 12, 2) := dk_16 12 (dk_at dksX2_sortOf_11 17 rfl rfl)
theorem dX2_sortOf_273 : decode cX2_sortOf 273 = .ok (.goto 4, 3) := dk_167 0 4 (dk_at dksX2_sortOf_11 19 rfl rfl)
theorem dX2_sortOf_276 : decode cX2_sortOf 276 = .ok (.iconst (-1), 1) := dk_2 (dk_at dksX2_sortOf_11 22 rfl rfl)
theorem dX2_sortOf_277 : decode cX2_sortOf 277 = .ok (.ireturn, 1) := dk_172 (dk_at dksX2_sortOf_11 23 rfl rfl)
abbrev cX2_isHungers : ByteArray := prog_20_method_53_code
def yX2_isHungers : MethodName := ⟨RX2, "isHungers", "()Z"⟩
def dkwX2_isHungers_5 : List UInt8 := [184, 0, 132, 148, 154, 0, 7, 4, 167, 0, 4, 3, 172]
abbrev dktX2_isHungers_5 : List UInt8 := dkwX2_isHungers_5 ++ []
def dkwX2_isHungers_4 : List UInt8 := [182, 0, 99, 42, 42, 180, 0, 103, 16, 6, 96, 182, 0, 99, 184, 0, 132, 16, 101, 16, 114, 16, 115]
abbrev dktX2_isHungers_4 : List UInt8 := dkwX2_isHungers_4 ++ dktX2_isHungers_5
def dkwX2_isHungers_3 : List UInt8 := [184, 0, 136, 148, 154, 0, 54, 42, 42, 180, 0, 103, 7, 96, 182, 0, 99, 42, 42, 180, 0, 103, 8, 96]
abbrev dktX2_isHungers_3 : List UInt8 := dkwX2_isHungers_3 ++ dktX2_isHungers_4
def dkwX2_isHungers_2 : List UInt8 := [182, 0, 99, 42, 42, 180, 0, 103, 6, 96, 182, 0, 99, 184, 0, 136, 16, 104, 16, 117, 16, 110, 16, 103]
abbrev dktX2_isHungers_2 : List UInt8 := dkwX2_isHungers_2 ++ dktX2_isHungers_3
def dkwX2_isHungers_1 : List UInt8 := [180, 0, 103, 182, 0, 99, 42, 42, 180, 0, 103, 4, 96, 182, 0, 99, 42, 42, 180, 0, 103, 5, 96]
abbrev dktX2_isHungers_1 : List UInt8 := dkwX2_isHungers_1 ++ dktX2_isHungers_2
def dkwX2_isHungers_0 : List UInt8 := [42, 180, 0, 106, 5, 160, 0, 124, 42, 180, 0, 96, 42, 180, 0, 103, 100, 16, 7, 160, 0, 110, 42, 42]
abbrev dktX2_isHungers_0 : List UInt8 := dkwX2_isHungers_0 ++ dktX2_isHungers_1
theorem dksX2_isHungers_0 : cX2_isHungers.data.toList.drop 0 = dktX2_isHungers_0 := by decide +kernel
theorem dksX2_isHungers_1 : cX2_isHungers.data.toList.drop 24 = dktX2_isHungers_1 := dk_seg dksX2_isHungers_0 24 rfl rfl
theorem dksX2_isHungers_2 : cX2_isHungers.data.toList.drop 47 = dktX2_isHungers_2 := dk_seg dksX2_isHungers_1 23 rfl rfl
theorem dksX2_isHungers_3 : cX2_isHungers.data.toList.drop 71 = dktX2_isHungers_3 := dk_seg dksX2_isHungers_2 24 rfl rfl
theorem dksX2_isHungers_4 : cX2_isHungers.data.toList.drop 95 = dktX2_isHungers_4 := dk_seg dksX2_isHungers_3 24 rfl rfl
theorem dksX2_isHungers_5 : cX2_isHungers.data.toList.drop 118 = dktX2_isHungers_5 := dk_seg dksX2_isHungers_4 23 rfl rfl
theorem dX2_isHungers_0 : decode cX2_isHungers 0 = .ok (.aload_n 0, 1) := dk_42 (dk_at dksX2_isHungers_0 0 rfl rfl)
theorem dX2_isHungers_1 : decode cX2_isHungers 1 = .ok (.getfield 106, 3) := dk_180 0 106 (dk_at dksX2_isHungers_0 1 rfl rfl)
theorem dX2_isHungers_4 : decode cX2_isHungers 4 = .ok (.iconst 2, 1) := dk_5 (dk_at dksX2_isHungers_0 4 rfl rfl)
theorem dX2_isHungers_5 : decode cX2_isHungers 5 = .ok (.if_icmp .ne 124, 3) := dk_160 0 124 (dk_at dksX2_isHungers_0 5 rfl rfl)
theorem dX2_isHungers_8 : decode cX2_isHungers 8 = .ok (.aload_n 0, 1) := dk_42 (dk_at dksX2_isHungers_0 8 rfl rfl)
theorem dX2_isHungers_9 : decode cX2_isHungers 9 = .ok (.getfield 96, 3) := dk_180 0 96 (dk_at dksX2_isHungers_0 9 rfl rfl)
theorem dX2_isHungers_12 : decode cX2_isHungers 12 = .ok (.aload_n 0, 1) := dk_42 (dk_at dksX2_isHungers_0 12 rfl rfl)
theorem dX2_isHungers_13 : decode cX2_isHungers 13 = .ok (.getfield 103, 3) := dk_180 0 103 (dk_at dksX2_isHungers_0 13 rfl rfl)
theorem dX2_isHungers_16 : decode cX2_isHungers 16 = .ok (.isub, 1) := dk_100 (dk_at dksX2_isHungers_0 16 rfl rfl)
theorem dX2_isHungers_17 : decode cX2_isHungers 17 = .ok (.bipush 7, 2) := dk_16 7 (dk_at dksX2_isHungers_0 17 rfl rfl)
theorem dX2_isHungers_19 : decode cX2_isHungers 19 = .ok (.if_icmp .ne 110, 3) := dk_160 0 110 (dk_at dksX2_isHungers_0 19 rfl rfl)
theorem dX2_isHungers_22 : decode cX2_isHungers 22 = .ok (.aload_n 0, 1) := dk_42 (dk_at dksX2_isHungers_0 22 rfl rfl)
theorem dX2_isHungers_23 : decode cX2_isHungers 23 = .ok (.aload_n 0, 1) := dk_42 (dk_at dksX2_isHungers_0 23 rfl rfl)
theorem dX2_isHungers_24 : decode cX2_isHungers 24 = .ok (.getfield 103, 3) := dk_180 0 103 (dk_at dksX2_isHungers_1 0 rfl rfl)
theorem dX2_isHungers_27 : decode cX2_isHungers 27 = .ok (.invokevirtual 99, 3) := dk_182 0 99 (dk_at dksX2_isHungers_1 3 rfl rfl)
theorem dX2_isHungers_30 : decode cX2_isHungers 30 = .ok (.aload_n 0, 1) := dk_42 (dk_at dksX2_isHungers_1 6 rfl rfl)
theorem dX2_isHungers_31 : decode cX2_isHungers 31 = .ok (.aload_n 0, 1) := dk_42 (dk_at dksX2_isHungers_1 7 rfl rfl)
theorem dX2_isHungers_32 : decode cX2_isHungers 32 = .ok (.getfield 103, 3) := dk_180 0 103 (dk_at dksX2_isHungers_1 8 rfl rfl)
theorem dX2_isHungers_35 : decode cX2_isHungers 35 = .ok (.iconst 1, 1) := dk_4 (dk_at dksX2_isHungers_1 11 rfl rfl)
theorem dX2_isHungers_36 : decode cX2_isHungers 36 = .ok (.iadd, 1) := dk_96 (dk_at dksX2_isHungers_1 12 rfl rfl)
theorem dX2_isHungers_37 : decode cX2_isHungers 37 = .ok (.invokevirtual 99, 3) := dk_182 0 99 (dk_at dksX2_isHungers_1 13 rfl rfl)
theorem dX2_isHungers_40 : decode cX2_isHungers 40 = .ok (.aload_n 0, 1) := dk_42 (dk_at dksX2_isHungers_1 16 rfl rfl)
theorem dX2_isHungers_41 : decode cX2_isHungers 41 = .ok (.aload_n 0, 1) := dk_42 (dk_at dksX2_isHungers_1 17 rfl rfl)
theorem dX2_isHungers_42 : decode cX2_isHungers 42 = .ok (.getfield 103, 3) := dk_180 0 103 (dk_at dksX2_isHungers_1 18 rfl rfl)
theorem dX2_isHungers_45 : decode cX2_isHungers 45 = .ok (.iconst 2, 1) := dk_5 (dk_at dksX2_isHungers_1 21 rfl rfl)
theorem dX2_isHungers_46 : decode cX2_isHungers 46 = .ok (.iadd, 1) := dk_96 (dk_at dksX2_isHungers_1 22 rfl rfl)
theorem dX2_isHungers_47 : decode cX2_isHungers 47 = .ok (.invokevirtual 99, 3) := dk_182 0 99 (dk_at dksX2_isHungers_2 0 rfl rfl)
theorem dX2_isHungers_50 : decode cX2_isHungers 50 = .ok (.aload_n 0, 1) := dk_42 (dk_at dksX2_isHungers_2 3 rfl rfl)
theorem dX2_isHungers_51 : decode cX2_isHungers 51 = .ok (.aload_n 0, 1) := dk_42 (dk_at dksX2_isHungers_2 4 rfl rfl)
theorem dX2_isHungers_52 : decode cX2_isHungers 52 = .ok (.getfield 103, 3) := dk_180 0 103 (dk_at dksX2_isHungers_2 5 rfl rfl)
theorem dX2_isHungers_55 : decode cX2_isHungers 55 = .ok (.iconst 3, 1) := dk_6 (dk_at dksX2_isHungers_2 8 rfl rfl)
theorem dX2_isHungers_56 : decode cX2_isHungers 56 = .ok (.iadd, 1) := dk_96 (dk_at dksX2_isHungers_2 9 rfl rfl)
theorem dX2_isHungers_57 : decode cX2_isHungers 57 = .ok (.invokevirtual 99, 3) := dk_182 0 99 (dk_at dksX2_isHungers_2 10 rfl rfl)
theorem dX2_isHungers_60 : decode cX2_isHungers 60 = .ok (.invokestatic 136, 3) := dk_184 0 136 (dk_at dksX2_isHungers_2 13 rfl rfl)
theorem dX2_isHungers_63 : decode cX2_isHungers 63 = .ok (.bipush 104, 2) := dk_16 104 (dk_at dksX2_isHungers_2 16 rfl rfl)
theorem dX2_isHungers_65 : decode cX2_isHungers 65 = .ok (.bipush 117, 2) := dk_16 117 (dk_at dksX2_isHungers_2 18 rfl rfl)
theorem dX2_isHungers_67 : decode cX2_isHungers 67 = .ok (.bipush 110, 2) := dk_16 110 (dk_at dksX2_isHungers_2 20 rfl rfl)
theorem dX2_isHungers_69 : decode cX2_isHungers 69 = .ok (.bipush 103, 2) := dk_16 103 (dk_at dksX2_isHungers_2 22 rfl rfl)
theorem dX2_isHungers_71 : decode cX2_isHungers 71 = .ok (.invokestatic 136, 3) := dk_184 0 136 (dk_at dksX2_isHungers_3 0 rfl rfl)
theorem dX2_isHungers_74 : decode cX2_isHungers 74 = .ok (.lcmp, 1) := dk_148 (dk_at dksX2_isHungers_3 3 rfl rfl)
theorem dX2_isHungers_75 : decode cX2_isHungers 75 = .ok (.ifCond .ne 54, 3) := dk_154 0 54 (dk_at dksX2_isHungers_3 4 rfl rfl)
theorem dX2_isHungers_78 : decode cX2_isHungers 78 = .ok (.aload_n 0, 1) := dk_42 (dk_at dksX2_isHungers_3 7 rfl rfl)
theorem dX2_isHungers_79 : decode cX2_isHungers 79 = .ok (.aload_n 0, 1) := dk_42 (dk_at dksX2_isHungers_3 8 rfl rfl)
theorem dX2_isHungers_80 : decode cX2_isHungers 80 = .ok (.getfield 103, 3) := dk_180 0 103 (dk_at dksX2_isHungers_3 9 rfl rfl)
theorem dX2_isHungers_83 : decode cX2_isHungers 83 = .ok (.iconst 4, 1) := dk_7 (dk_at dksX2_isHungers_3 12 rfl rfl)
theorem dX2_isHungers_84 : decode cX2_isHungers 84 = .ok (.iadd, 1) := dk_96 (dk_at dksX2_isHungers_3 13 rfl rfl)
theorem dX2_isHungers_85 : decode cX2_isHungers 85 = .ok (.invokevirtual 99, 3) := dk_182 0 99 (dk_at dksX2_isHungers_3 14 rfl rfl)
theorem dX2_isHungers_88 : decode cX2_isHungers 88 = .ok (.aload_n 0, 1) := dk_42 (dk_at dksX2_isHungers_3 17 rfl rfl)
theorem dX2_isHungers_89 : decode cX2_isHungers 89 = .ok (.aload_n 0, 1) := dk_42 (dk_at dksX2_isHungers_3 18 rfl rfl)
theorem dX2_isHungers_90 : decode cX2_isHungers 90 = .ok (.getfield 103, 3) := dk_180 0 103 (dk_at dksX2_isHungers_3 19 rfl rfl)
theorem dX2_isHungers_93 : decode cX2_isHungers 93 = .ok (.iconst 5, 1) := dk_8 (dk_at dksX2_isHungers_3 22 rfl rfl)
theorem dX2_isHungers_94 : decode cX2_isHungers 94 = .ok (.iadd, 1) := dk_96 (dk_at dksX2_isHungers_3 23 rfl rfl)
theorem dX2_isHungers_95 : decode cX2_isHungers 95 = .ok (.invokevirtual 99, 3) := dk_182 0 99 (dk_at dksX2_isHungers_4 0 rfl rfl)
theorem dX2_isHungers_98 : decode cX2_isHungers 98 = .ok (.aload_n 0, 1) := dk_42 (dk_at dksX2_isHungers_4 3 rfl rfl)
theorem dX2_isHungers_99 : decode cX2_isHungers 99 = .ok (.aload_n 0, 1) := dk_42 (dk_at dksX2_isHungers_4 4 rfl rfl)
theorem dX2_isHungers_100 : decode cX2_isHungers 100 = .ok (.getfield 103, 3) := dk_180 0 103 (dk_at dksX2_isHungers_4 5 rfl rfl)
theorem dX2_isHungers_103 : decode cX2_isHungers 103 = .ok (.bipush 6, 2) := dk_16 6 (dk_at dksX2_isHungers_4 8 rfl rfl)
theorem dX2_isHungers_105 : decode cX2_isHungers 105 = .ok (.iadd, 1) := dk_96 (dk_at dksX2_isHungers_4 10 rfl rfl)
theorem dX2_isHungers_106 : decode cX2_isHungers 106 = .ok (.invokevirtual 99, 3) := dk_182 0 99 (dk_at dksX2_isHungers_4 11 rfl rfl)
theorem dX2_isHungers_109 : decode cX2_isHungers 109 = .ok (.invokestatic 132, 3) := dk_184 0 132 (dk_at dksX2_isHungers_4 14 rfl rfl)
theorem dX2_isHungers_112 : decode cX2_isHungers 112 = .ok (.bipush 101, 2) := dk_16 101 (dk_at dksX2_isHungers_4 17 rfl rfl)
theorem dX2_isHungers_114 : decode cX2_isHungers 114 = .ok (.bipush 114, 2) := dk_16 114 (dk_at dksX2_isHungers_4 19 rfl rfl)
theorem dX2_isHungers_116 : decode cX2_isHungers 116 = .ok (.bipush 115, 2) := dk_16 115 (dk_at dksX2_isHungers_4 21 rfl rfl)
theorem dX2_isHungers_118 : decode cX2_isHungers 118 = .ok (.invokestatic 132, 3) := dk_184 0 132 (dk_at dksX2_isHungers_5 0 rfl rfl)
theorem dX2_isHungers_121 : decode cX2_isHungers 121 = .ok (.lcmp, 1) := dk_148 (dk_at dksX2_isHungers_5 3 rfl rfl)
theorem dX2_isHungers_122 : decode cX2_isHungers 122 = .ok (.ifCond .ne 7, 3) := dk_154 0 7 (dk_at dksX2_isHungers_5 4 rfl rfl)
theorem dX2_isHungers_125 : decode cX2_isHungers 125 = .ok (.iconst 1, 1) := dk_4 (dk_at dksX2_isHungers_5 7 rfl rfl)
theorem dX2_isHungers_126 : decode cX2_isHungers 126 = .ok (.goto 4, 3) := dk_167 0 4 (dk_at dksX2_isHungers_5 8 rfl rfl)
theorem dX2_isHungers_129 : decode cX2_isHungers 129 = .ok (.iconst 0, 1) := dk_3 (dk_at dksX2_isHungers_5 11 rfl rfl)
theorem dX2_isHungers_130 : decode cX2_isHungers 130 = .ok (.ireturn, 1) := dk_172 (dk_at dksX2_isHungers_5 12 rfl rfl)
abbrev cX2_w4 : ByteArray := prog_20_method_27_code
def yX2_w4 : MethodName := ⟨RX2, "w4", "(IIII)J"⟩
def dkwX2_w4_0 : List UInt8 := [26, 27, 28, 184, 0, 132, 16, 8, 121, 29, 133, 129, 173]
abbrev dktX2_w4_0 : List UInt8 := dkwX2_w4_0 ++ []
theorem dksX2_w4_0 : cX2_w4.data.toList.drop 0 = dktX2_w4_0 := by decide +kernel
theorem dX2_w4_0 : decode cX2_w4 0 = .ok (.iload_n 0, 1) := dk_26 (dk_at dksX2_w4_0 0 rfl rfl)
theorem dX2_w4_1 : decode cX2_w4 1 = .ok (.iload_n 1, 1) := dk_27 (dk_at dksX2_w4_0 1 rfl rfl)
theorem dX2_w4_2 : decode cX2_w4 2 = .ok (.iload_n 2, 1) := dk_28 (dk_at dksX2_w4_0 2 rfl rfl)
theorem dX2_w4_3 : decode cX2_w4 3 = .ok (.invokestatic 132, 3) := dk_184 0 132 (dk_at dksX2_w4_0 3 rfl rfl)
theorem dX2_w4_6 : decode cX2_w4 6 = .ok (.bipush 8, 2) := dk_16 8 (dk_at dksX2_w4_0 6 rfl rfl)
theorem dX2_w4_8 : decode cX2_w4 8 = .ok (.lshl, 1) := dk_121 (dk_at dksX2_w4_0 8 rfl rfl)
theorem dX2_w4_9 : decode cX2_w4 9 = .ok (.iload_n 3, 1) := dk_29 (dk_at dksX2_w4_0 9 rfl rfl)
theorem dX2_w4_10 : decode cX2_w4 10 = .ok (.i2l, 1) := dk_133 (dk_at dksX2_w4_0 10 rfl rfl)
theorem dX2_w4_11 : decode cX2_w4 11 = .ok (.lor, 1) := dk_129 (dk_at dksX2_w4_0 11 rfl rfl)
theorem dX2_w4_12 : decode cX2_w4 12 = .ok (.lreturn, 1) := dk_173 (dk_at dksX2_w4_0 12 rfl rfl)
abbrev cX2_w3 : ByteArray := prog_20_method_26_code
def yX2_w3 : MethodName := ⟨RX2, "w3", "(III)J"⟩
def dkwX2_w3_0 : List UInt8 := [26, 27, 184, 0, 128, 16, 8, 121, 28, 133, 129, 173]
abbrev dktX2_w3_0 : List UInt8 := dkwX2_w3_0 ++ []
theorem dksX2_w3_0 : cX2_w3.data.toList.drop 0 = dktX2_w3_0 := by decide +kernel
theorem dX2_w3_0 : decode cX2_w3 0 = .ok (.iload_n 0, 1) := dk_26 (dk_at dksX2_w3_0 0 rfl rfl)
theorem dX2_w3_1 : decode cX2_w3 1 = .ok (.iload_n 1, 1) := dk_27 (dk_at dksX2_w3_0 1 rfl rfl)
theorem dX2_w3_2 : decode cX2_w3 2 = .ok (.invokestatic 128, 3) := dk_184 0 128 (dk_at dksX2_w3_0 2 rfl rfl)
theorem dX2_w3_5 : decode cX2_w3 5 = .ok (.bipush 8, 2) := dk_16 8 (dk_at dksX2_w3_0 5 rfl rfl)
theorem dX2_w3_7 : decode cX2_w3 7 = .ok (.lshl, 1) := dk_121 (dk_at dksX2_w3_0 7 rfl rfl)
theorem dX2_w3_8 : decode cX2_w3 8 = .ok (.iload_n 2, 1) := dk_28 (dk_at dksX2_w3_0 8 rfl rfl)
theorem dX2_w3_9 : decode cX2_w3 9 = .ok (.i2l, 1) := dk_133 (dk_at dksX2_w3_0 9 rfl rfl)
theorem dX2_w3_10 : decode cX2_w3 10 = .ok (.lor, 1) := dk_129 (dk_at dksX2_w3_0 10 rfl rfl)
theorem dX2_w3_11 : decode cX2_w3 11 = .ok (.lreturn, 1) := dk_173 (dk_at dksX2_w3_0 11 rfl rfl)
abbrev cX2_w2 : ByteArray := prog_20_method_25_code
def yX2_w2 : MethodName := ⟨RX2, "w2", "(II)J"⟩
def dkwX2_w2_0 : List UInt8 := [26, 133, 16, 8, 121, 27, 133, 129, 173]
abbrev dktX2_w2_0 : List UInt8 := dkwX2_w2_0 ++ []
theorem dksX2_w2_0 : cX2_w2.data.toList.drop 0 = dktX2_w2_0 := by decide +kernel
theorem dX2_w2_0 : decode cX2_w2 0 = .ok (.iload_n 0, 1) := dk_26 (dk_at dksX2_w2_0 0 rfl rfl)
theorem dX2_w2_1 : decode cX2_w2 1 = .ok (.i2l, 1) := dk_133 (dk_at dksX2_w2_0 1 rfl rfl)
theorem dX2_w2_2 : decode cX2_w2 2 = .ok (.bipush 8, 2) := dk_16 8 (dk_at dksX2_w2_0 2 rfl rfl)
theorem dX2_w2_4 : decode cX2_w2 4 = .ok (.lshl, 1) := dk_121 (dk_at dksX2_w2_0 4 rfl rfl)
theorem dX2_w2_5 : decode cX2_w2 5 = .ok (.iload_n 1, 1) := dk_27 (dk_at dksX2_w2_0 5 rfl rfl)
theorem dX2_w2_6 : decode cX2_w2 6 = .ok (.i2l, 1) := dk_133 (dk_at dksX2_w2_0 6 rfl rfl)
theorem dX2_w2_7 : decode cX2_w2 7 = .ok (.lor, 1) := dk_129 (dk_at dksX2_w2_0 7 rfl rfl)
theorem dX2_w2_8 : decode cX2_w2 8 = .ok (.lreturn, 1) := dk_173 (dk_at dksX2_w2_0 8 rfl rfl)
abbrev cX2_w5 : ByteArray := prog_20_method_28_code
def yX2_w5 : MethodName := ⟨RX2, "w5", "(IIIII)J"⟩
def dkwX2_w5_0 : List UInt8 := [26, 27, 28, 29, 184, 0, 136, 16, 8, 121, 21, 4, 133, 129, 173]
abbrev dktX2_w5_0 : List UInt8 := dkwX2_w5_0 ++ []
theorem dksX2_w5_0 : cX2_w5.data.toList.drop 0 = dktX2_w5_0 := by decide +kernel
theorem dX2_w5_0 : decode cX2_w5 0 = .ok (.iload_n 0, 1) := dk_26 (dk_at dksX2_w5_0 0 rfl rfl)
theorem dX2_w5_1 : decode cX2_w5 1 = .ok (.iload_n 1, 1) := dk_27 (dk_at dksX2_w5_0 1 rfl rfl)
theorem dX2_w5_2 : decode cX2_w5 2 = .ok (.iload_n 2, 1) := dk_28 (dk_at dksX2_w5_0 2 rfl rfl)
theorem dX2_w5_3 : decode cX2_w5 3 = .ok (.iload_n 3, 1) := dk_29 (dk_at dksX2_w5_0 3 rfl rfl)
theorem dX2_w5_4 : decode cX2_w5 4 = .ok (.invokestatic 136, 3) := dk_184 0 136 (dk_at dksX2_w5_0 4 rfl rfl)
theorem dX2_w5_7 : decode cX2_w5 7 = .ok (.bipush 8, 2) := dk_16 8 (dk_at dksX2_w5_0 7 rfl rfl)
theorem dX2_w5_9 : decode cX2_w5 9 = .ok (.lshl, 1) := dk_121 (dk_at dksX2_w5_0 9 rfl rfl)
theorem dX2_w5_10 : decode cX2_w5 10 = .ok (.iload 4, 2) := dk_21 4 (dk_at dksX2_w5_0 10 rfl rfl)
theorem dX2_w5_12 : decode cX2_w5 12 = .ok (.i2l, 1) := dk_133 (dk_at dksX2_w5_0 12 rfl rfl)
theorem dX2_w5_13 : decode cX2_w5 13 = .ok (.lor, 1) := dk_129 (dk_at dksX2_w5_0 13 rfl rfl)
theorem dX2_w5_14 : decode cX2_w5 14 = .ok (.lreturn, 1) := dk_173 (dk_at dksX2_w5_0 14 rfl rfl)
abbrev cX2_isWord : ByteArray := prog_20_method_30_code
def yX2_isWord : MethodName := ⟨RX2, "isWord", "(J)Z"⟩
def dkwX2_isWord_0 : List UInt8 := [42, 180, 0, 106, 5, 160, 0, 16, 42, 180, 0, 119, 31, 148, 154, 0, 7, 4, 167, 0, 4, 3, 172]
abbrev dktX2_isWord_0 : List UInt8 := dkwX2_isWord_0 ++ []
theorem dksX2_isWord_0 : cX2_isWord.data.toList.drop 0 = dktX2_isWord_0 := by decide +kernel
theorem dX2_isWord_0 : decode cX2_isWord 0 = .ok (.aload_n 0, 1) := dk_42 (dk_at dksX2_isWord_0 0 rfl rfl)
theorem dX2_isWord_1 : decode cX2_isWord 1 = .ok (.getfield 106, 3) := dk_180 0 106 (dk_at dksX2_isWord_0 1 rfl rfl)
theorem dX2_isWord_4 : decode cX2_isWord 4 = .ok (.iconst 2, 1) := dk_5 (dk_at dksX2_isWord_0 4 rfl rfl)
theorem dX2_isWord_5 : decode cX2_isWord 5 = .ok (.if_icmp .ne 16, 3) := dk_160 0 16 (dk_at dksX2_isWord_0 5 rfl rfl)
theorem dX2_isWord_8 : decode cX2_isWord 8 = .ok (.aload_n 0, 1) := dk_42 (dk_at dksX2_isWord_0 8 rfl rfl)
theorem dX2_isWord_9 : decode cX2_isWord 9 = .ok (.getfield 119, 3) := dk_180 0 119 (dk_at dksX2_isWord_0 9 rfl rfl)
theorem dX2_isWord_12 : decode cX2_isWord 12 = .ok (.lload_n 1, 1) := dk_31 (dk_at dksX2_isWord_0 12 rfl rfl)
theorem dX2_isWord_13 : decode cX2_isWord 13 = .ok (.lcmp, 1) := dk_148 (dk_at dksX2_isWord_0 13 rfl rfl)
theorem dX2_isWord_14 : decode cX2_isWord 14 = .ok (.ifCond .ne 7, 3) := dk_154 0 7 (dk_at dksX2_isWord_0 14 rfl rfl)
theorem dX2_isWord_17 : decode cX2_isWord 17 = .ok (.iconst 1, 1) := dk_4 (dk_at dksX2_isWord_0 17 rfl rfl)
theorem dX2_isWord_18 : decode cX2_isWord 18 = .ok (.goto 4, 3) := dk_167 0 4 (dk_at dksX2_isWord_0 18 rfl rfl)
theorem dX2_isWord_21 : decode cX2_isWord 21 = .ok (.iconst 0, 1) := dk_3 (dk_at dksX2_isWord_0 21 rfl rfl)
theorem dX2_isWord_22 : decode cX2_isWord 22 = .ok (.ireturn, 1) := dk_172 (dk_at dksX2_isWord_0 22 rfl rfl)
abbrev cX2_w6 : ByteArray := prog_20_method_29_code
def yX2_w6 : MethodName := ⟨RX2, "w6", "(IIIIII)J"⟩
def dkwX2_w6_0 : List UInt8 := [26, 27, 28, 29, 21, 4, 184, 0, 140, 16, 8, 121, 21, 5, 133, 129, 173]
abbrev dktX2_w6_0 : List UInt8 := dkwX2_w6_0 ++ []
theorem dksX2_w6_0 : cX2_w6.data.toList.drop 0 = dktX2_w6_0 := by decide +kernel
theorem dX2_w6_0 : decode cX2_w6 0 = .ok (.iload_n 0, 1) := dk_26 (dk_at dksX2_w6_0 0 rfl rfl)
theorem dX2_w6_1 : decode cX2_w6 1 = .ok (.iload_n 1, 1) := dk_27 (dk_at dksX2_w6_0 1 rfl rfl)
theorem dX2_w6_2 : decode cX2_w6 2 = .ok (.iload_n 2, 1) := dk_28 (dk_at dksX2_w6_0 2 rfl rfl)
theorem dX2_w6_3 : decode cX2_w6 3 = .ok (.iload_n 3, 1) := dk_29 (dk_at dksX2_w6_0 3 rfl rfl)
theorem dX2_w6_4 : decode cX2_w6 4 = .ok (.iload 4, 2) := dk_21 4 (dk_at dksX2_w6_0 4 rfl rfl)
theorem dX2_w6_6 : decode cX2_w6 6 = .ok (.invokestatic 140, 3) := dk_184 0 140 (dk_at dksX2_w6_0 6 rfl rfl)
theorem dX2_w6_9 : decode cX2_w6 9 = .ok (.bipush 8, 2) := dk_16 8 (dk_at dksX2_w6_0 9 rfl rfl)
theorem dX2_w6_11 : decode cX2_w6 11 = .ok (.lshl, 1) := dk_121 (dk_at dksX2_w6_0 11 rfl rfl)
theorem dX2_w6_12 : decode cX2_w6 12 = .ok (.iload 5, 2) := dk_21 5 (dk_at dksX2_w6_0 12 rfl rfl)
theorem dX2_w6_14 : decode cX2_w6 14 = .ok (.i2l, 1) := dk_133 (dk_at dksX2_w6_0 14 rfl rfl)
theorem dX2_w6_15 : decode cX2_w6 15 = .ok (.lor, 1) := dk_129 (dk_at dksX2_w6_0 15 rfl rfl)
theorem dX2_w6_16 : decode cX2_w6 16 = .ok (.lreturn, 1) := dk_173 (dk_at dksX2_w6_0 16 rfl rfl)
abbrev cX2_body : ByteArray := prog_20_method_52_code
def yX2_body : MethodName := ⟨RX2, "body", "(II)I"⟩
def dkwX2_body_6 : List UInt8 := [16, 98, 16, 121, 184, 0, 128, 8, 182, 0, 232, 172]
abbrev dktX2_body_6 : List UInt8 := dkwX2_body_6 ++ []
def dkwX2_body_5 : List UInt8 := [4, 16, 60, 182, 0, 221, 172, 27, 6, 163, 0, 11, 42, 28, 182, 0, 239, 167, 0, 17, 42, 28, 8]
abbrev dktX2_body_5 : List UInt8 := dkwX2_body_5 ++ dktX2_body_6
def dkwX2_body_4 : List UInt8 := [182, 0, 232, 172, 42, 28, 8, 16, 116, 16, 111, 184, 0, 128, 16, 7, 182, 0, 232, 172, 42, 28, 4, 96]
abbrev dktX2_body_4 : List UInt8 := dkwX2_body_4 ++ dktX2_body_5
def dkwX2_body_3 : List UInt8 := [182, 0, 232, 172, 42, 28, 182, 0, 236, 172, 42, 28, 8, 16, 105, 16, 110, 184, 0, 128, 16, 7]
abbrev dktX2_body_3 : List UInt8 := dkwX2_body_3 ++ dktX2_body_4
def dkwX2_body_2 : List UInt8 := [42, 28, 4, 96, 3, 16, 9, 182, 0, 221, 172, 42, 28, 16, 7, 16, 116, 16, 111, 184, 0, 128, 16, 7]
abbrev dktX2_body_2 : List UInt8 := dkwX2_body_2 ++ dktX2_body_3
def dkwX2_body_1 : List UInt8 := [170, 0, 0, 0, 0, 0, 128, 0, 0, 0, 4, 0, 0, 0, 12, 0, 0, 0, 51, 0, 0, 0, 62, 0, 0, 0, 79, 0, 0, 0, 85, 0, 0, 0, 101, 0, 0, 0, 128, 0, 0, 0, 128, 0, 0, 0, 128, 0, 0, 0, 117]
abbrev dktX2_body_1 : List UInt8 := dkwX2_body_1 ++ dktX2_body_2
def dkwX2_body_0 : List UInt8 := [27]
abbrev dktX2_body_0 : List UInt8 := dkwX2_body_0 ++ dktX2_body_1
theorem dksX2_body_0 : cX2_body.data.toList.drop 0 = dktX2_body_0 := by decide +kernel
theorem dksX2_body_1 : cX2_body.data.toList.drop 1 = dktX2_body_1 := dk_seg dksX2_body_0 1 rfl rfl
theorem dksX2_body_2 : cX2_body.data.toList.drop 52 = dktX2_body_2 := dk_seg dksX2_body_1 51 rfl rfl
theorem dksX2_body_3 : cX2_body.data.toList.drop 76 = dktX2_body_3 := dk_seg dksX2_body_2 24 rfl rfl
theorem dksX2_body_4 : cX2_body.data.toList.drop 98 = dktX2_body_4 := dk_seg dksX2_body_3 22 rfl rfl
theorem dksX2_body_5 : cX2_body.data.toList.drop 122 = dktX2_body_5 := dk_seg dksX2_body_4 24 rfl rfl
theorem dksX2_body_6 : cX2_body.data.toList.drop 145 = dktX2_body_6 := dk_seg dksX2_body_5 23 rfl rfl
theorem dX2_body_0 : decode cX2_body 0 = .ok (.iload_n 1, 1) := dk_27 (dk_at dksX2_body_0 0 rfl rfl)
theorem dX2_body_1 : decode cX2_body 1 = .ok (.tableswitch 128 4 12 #[51, 62, 79, 85, 101, 128, 128, 128, 117], 51) := by decide +kernel
theorem dX2_body_52 : decode cX2_body 52 = .ok (.aload_n 0, 1) := dk_42 (dk_at dksX2_body_2 0 rfl rfl)
theorem dX2_body_53 : decode cX2_body 53 = .ok (.iload_n 2, 1) := dk_28 (dk_at dksX2_body_2 1 rfl rfl)
theorem dX2_body_54 : decode cX2_body 54 = .ok (.iconst 1, 1) := dk_4 (dk_at dksX2_body_2 2 rfl rfl)
theorem dX2_body_55 : decode cX2_body 55 = .ok (.iadd, 1) := dk_96 (dk_at dksX2_body_2 3 rfl rfl)
theorem dX2_body_56 : decode cX2_body 56 = .ok (.iconst 0, 1) := dk_3 (dk_at dksX2_body_2 4 rfl rfl)
theorem dX2_body_57 : decode cX2_body 57 = .ok (.bipush 9, 2) := dk_16 9 (dk_at dksX2_body_2 5 rfl rfl)
theorem dX2_body_59 : decode cX2_body 59 = .ok (.invokevirtual 221, 3) := dk_182 0 221 (dk_at dksX2_body_2 7 rfl rfl)
theorem dX2_body_62 : decode cX2_body 62 = .ok (.ireturn, 1) := dk_172 (dk_at dksX2_body_2 10 rfl rfl)
theorem dX2_body_63 : decode cX2_body 63 = .ok (.aload_n 0, 1) := dk_42 (dk_at dksX2_body_2 11 rfl rfl)
theorem dX2_body_64 : decode cX2_body 64 = .ok (.iload_n 2, 1) := dk_28 (dk_at dksX2_body_2 12 rfl rfl)
theorem dX2_body_65 : decode cX2_body 65 = .ok (.bipush 7, 2) := dk_16 7 (dk_at dksX2_body_2 13 rfl rfl)
theorem dX2_body_67 : decode cX2_body 67 = .ok (.bipush 116, 2) := dk_16 116 (dk_at dksX2_body_2 15 rfl rfl)
theorem dX2_body_69 : decode cX2_body 69 = .ok (.bipush 111, 2) := dk_16 111 (dk_at dksX2_body_2 17 rfl rfl)
theorem dX2_body_71 : decode cX2_body 71 = .ok (.invokestatic 128, 3) := dk_184 0 128 (dk_at dksX2_body_2 19 rfl rfl)
theorem dX2_body_74 : decode cX2_body 74 = .ok (.bipush 7, 2) := dk_16 7 (dk_at dksX2_body_2 22 rfl rfl)
theorem dX2_body_76 : decode cX2_body 76 = .ok (.invokevirtual 232, 3) := dk_182 0 232 (dk_at dksX2_body_3 0 rfl rfl)
theorem dX2_body_79 : decode cX2_body 79 = .ok (.ireturn, 1) := dk_172 (dk_at dksX2_body_3 3 rfl rfl)
theorem dX2_body_80 : decode cX2_body 80 = .ok (.aload_n 0, 1) := dk_42 (dk_at dksX2_body_3 4 rfl rfl)
theorem dX2_body_81 : decode cX2_body 81 = .ok (.iload_n 2, 1) := dk_28 (dk_at dksX2_body_3 5 rfl rfl)
theorem dX2_body_82 : decode cX2_body 82 = .ok (.invokevirtual 236, 3) := dk_182 0 236 (dk_at dksX2_body_3 6 rfl rfl)
theorem dX2_body_85 : decode cX2_body 85 = .ok (.ireturn, 1) := dk_172 (dk_at dksX2_body_3 9 rfl rfl)
theorem dX2_body_86 : decode cX2_body 86 = .ok (.aload_n 0, 1) := dk_42 (dk_at dksX2_body_3 10 rfl rfl)
theorem dX2_body_87 : decode cX2_body 87 = .ok (.iload_n 2, 1) := dk_28 (dk_at dksX2_body_3 11 rfl rfl)
theorem dX2_body_88 : decode cX2_body 88 = .ok (.iconst 5, 1) := dk_8 (dk_at dksX2_body_3 12 rfl rfl)
theorem dX2_body_89 : decode cX2_body 89 = .ok (.bipush 105, 2) := dk_16 105 (dk_at dksX2_body_3 13 rfl rfl)
theorem dX2_body_91 : decode cX2_body 91 = .ok (.bipush 110, 2) := dk_16 110 (dk_at dksX2_body_3 15 rfl rfl)
theorem dX2_body_93 : decode cX2_body 93 = .ok (.invokestatic 128, 3) := dk_184 0 128 (dk_at dksX2_body_3 17 rfl rfl)
theorem dX2_body_96 : decode cX2_body 96 = .ok (.bipush 7, 2) := dk_16 7 (dk_at dksX2_body_3 20 rfl rfl)
theorem dX2_body_98 : decode cX2_body 98 = .ok (.invokevirtual 232, 3) := dk_182 0 232 (dk_at dksX2_body_4 0 rfl rfl)
theorem dX2_body_101 : decode cX2_body 101 = .ok (.ireturn, 1) := dk_172 (dk_at dksX2_body_4 3 rfl rfl)
theorem dX2_body_102 : decode cX2_body 102 = .ok (.aload_n 0, 1) := dk_42 (dk_at dksX2_body_4 4 rfl rfl)
theorem dX2_body_103 : decode cX2_body 103 = .ok (.iload_n 2, 1) := dk_28 (dk_at dksX2_body_4 5 rfl rfl)
theorem dX2_body_104 : decode cX2_body 104 = .ok (.iconst 5, 1) := dk_8 (dk_at dksX2_body_4 6 rfl rfl)
theorem dX2_body_105 : decode cX2_body 105 = .ok (.bipush 116, 2) := dk_16 116 (dk_at dksX2_body_4 7 rfl rfl)
theorem dX2_body_107 : decode cX2_body 107 = .ok (.bipush 111, 2) := dk_16 111 (dk_at dksX2_body_4 9 rfl rfl)
theorem dX2_body_109 : decode cX2_body 109 = .ok (.invokestatic 128, 3) := dk_184 0 128 (dk_at dksX2_body_4 11 rfl rfl)
theorem dX2_body_112 : decode cX2_body 112 = .ok (.bipush 7, 2) := dk_16 7 (dk_at dksX2_body_4 14 rfl rfl)
theorem dX2_body_114 : decode cX2_body 114 = .ok (.invokevirtual 232, 3) := dk_182 0 232 (dk_at dksX2_body_4 16 rfl rfl)
theorem dX2_body_117 : decode cX2_body 117 = .ok (.ireturn, 1) := dk_172 (dk_at dksX2_body_4 19 rfl rfl)
theorem dX2_body_118 : decode cX2_body 118 = .ok (.aload_n 0, 1) := dk_42 (dk_at dksX2_body_4 20 rfl rfl)
theorem dX2_body_119 : decode cX2_body 119 = .ok (.iload_n 2, 1) := dk_28 (dk_at dksX2_body_4 21 rfl rfl)
theorem dX2_body_120 : decode cX2_body 120 = .ok (.iconst 1, 1) := dk_4 (dk_at dksX2_body_4 22 rfl rfl)
theorem dX2_body_121 : decode cX2_body 121 = .ok (.iadd, 1) := dk_96 (dk_at dksX2_body_4 23 rfl rfl)
theorem dX2_body_122 : decode cX2_body 122 = .ok (.iconst 1, 1) := dk_4 (dk_at dksX2_body_5 0 rfl rfl)
theorem dX2_body_123 : decode cX2_body 123 = .ok (.bipush 60, 2) := dk_16 60 (dk_at dksX2_body_5 1 rfl rfl)
theorem dX2_body_125 : decode cX2_body 125 = .ok (.invokevirtual 221, 3) := dk_182 0 221 (dk_at dksX2_body_5 3 rfl rfl)
theorem dX2_body_128 : decode cX2_body 128 = .ok (.ireturn, 1) := dk_172 (dk_at dksX2_body_5 6 rfl rfl)
theorem dX2_body_129 : decode cX2_body 129 = .ok (.iload_n 1, 1) := dk_27 (dk_at dksX2_body_5 7 rfl rfl)
theorem dX2_body_130 : decode cX2_body 130 = .ok (.iconst 3, 1) := dk_6 (dk_at dksX2_body_5 8 rfl rfl)
theorem dX2_body_131 : decode cX2_body 131 = .ok (.if_icmp .gt 11, 3) := dk_163 0 11 (dk_at dksX2_body_5 9 rfl rfl)
theorem dX2_body_134 : decode cX2_body 134 = .ok (.aload_n 0, 1) := dk_42 (dk_at dksX2_body_5 12 rfl rfl)
theorem dX2_body_135 : decode cX2_body 135 = .ok (.iload_n 2, 1) := dk_28 (dk_at dksX2_body_5 13 rfl rfl)
theorem dX2_body_136 : decode cX2_body 136 = .ok (.invokevirtual 239, 3) := dk_182 0 239 (dk_at dksX2_body_5 14 rfl rfl)
theorem dX2_body_139 : decode cX2_body 139 = .ok (.goto 17, 3) := dk_167 0 17 (dk_at dksX2_body_5 17 rfl rfl)
theorem dX2_body_142 : decode cX2_body 142 = .ok (.aload_n 0, 1) := dk_42 (dk_at dksX2_body_5 20 rfl rfl)
theorem dX2_body_143 : decode cX2_body 143 = .ok (.iload_n 2, 1) := dk_28 (dk_at dksX2_body_5 21 rfl rfl)
theorem dX2_body_144 : decode cX2_body 144 = .ok (.iconst 5, 1) := dk_8 (dk_at dksX2_body_5 22 rfl rfl)
theorem dX2_body_145 : decode cX2_body 145 = .ok (.bipush 98, 2) := dk_16 98 (dk_at dksX2_body_6 0 rfl rfl)
theorem dX2_body_147 : decode cX2_body 147 = .ok (.bipush 121, 2) := dk_16 121 (dk_at dksX2_body_6 2 rfl rfl)
theorem dX2_body_149 : decode cX2_body 149 = .ok (.invokestatic 128, 3) := dk_184 0 128 (dk_at dksX2_body_6 4 rfl rfl)
theorem dX2_body_152 : decode cX2_body 152 = .ok (.iconst 5, 1) := dk_8 (dk_at dksX2_body_6 7 rfl rfl)
theorem dX2_body_153 : decode cX2_body 153 = .ok (.invokevirtual 232, 3) := dk_182 0 232 (dk_at dksX2_body_6 8 rfl rfl)
theorem dX2_body_156 : decode cX2_body 156 = .ok (.ireturn, 1) := dk_172 (dk_at dksX2_body_6 11 rfl rfl)
abbrev cX2_figure : ByteArray := prog_20_method_47_code
def yX2_figure : MethodName := ⟨RX2, "figure", "(III)I"⟩
def dkwX2_figure_1 : List UInt8 := [42, 180, 0, 16, 27, 42, 180, 0, 112, 79, 42, 182, 0, 177, 3, 172]
abbrev dktX2_figure_1 : List UInt8 := dkwX2_figure_1 ++ []
def dkwX2_figure_0 : List UInt8 := [42, 180, 0, 106, 4, 159, 0, 5, 4, 172, 42, 180, 0, 112, 28, 29, 184, 0, 63, 154, 0, 5, 5, 172]
abbrev dktX2_figure_0 : List UInt8 := dkwX2_figure_0 ++ dktX2_figure_1
theorem dksX2_figure_0 : cX2_figure.data.toList.drop 0 = dktX2_figure_0 := by decide +kernel
theorem dksX2_figure_1 : cX2_figure.data.toList.drop 24 = dktX2_figure_1 := dk_seg dksX2_figure_0 24 rfl rfl
theorem dX2_figure_0 : decode cX2_figure 0 = .ok (.aload_n 0, 1) := dk_42 (dk_at dksX2_figure_0 0 rfl rfl)
theorem dX2_figure_1 : decode cX2_figure 1 = .ok (.getfield 106, 3) := dk_180 0 106 (dk_at dksX2_figure_0 1 rfl rfl)
theorem dX2_figure_4 : decode cX2_figure 4 = .ok (.iconst 1, 1) := dk_4 (dk_at dksX2_figure_0 4 rfl rfl)
theorem dX2_figure_5 : decode cX2_figure 5 = .ok (.if_icmp .eq 5, 3) := dk_159 0 5 (dk_at dksX2_figure_0 5 rfl rfl)
theorem dX2_figure_8 : decode cX2_figure 8 = .ok (.iconst 1, 1) := dk_4 (dk_at dksX2_figure_0 8 rfl rfl)
theorem dX2_figure_9 : decode cX2_figure 9 = .ok (.ireturn, 1) := dk_172 (dk_at dksX2_figure_0 9 rfl rfl)
theorem dX2_figure_10 : decode cX2_figure 10 = .ok (.aload_n 0, 1) := dk_42 (dk_at dksX2_figure_0 10 rfl rfl)
theorem dX2_figure_11 : decode cX2_figure 11 = .ok (.getfield 112, 3) := dk_180 0 112 (dk_at dksX2_figure_0 11 rfl rfl)
theorem dX2_figure_14 : decode cX2_figure 14 = .ok (.iload_n 2, 1) := dk_28 (dk_at dksX2_figure_0 14 rfl rfl)
theorem dX2_figure_15 : decode cX2_figure 15 = .ok (.iload_n 3, 1) := dk_29 (dk_at dksX2_figure_0 15 rfl rfl)
theorem dX2_figure_16 : decode cX2_figure 16 = .ok (.invokestatic 63, 3) := dk_184 0 63 (dk_at dksX2_figure_0 16 rfl rfl)
theorem dX2_figure_19 : decode cX2_figure 19 = .ok (.ifCond .ne 5, 3) := dk_154 0 5 (dk_at dksX2_figure_0 19 rfl rfl)
theorem dX2_figure_22 : decode cX2_figure 22 = .ok (.iconst 2, 1) := dk_5 (dk_at dksX2_figure_0 22 rfl rfl)
theorem dX2_figure_23 : decode cX2_figure 23 = .ok (.ireturn, 1) := dk_172 (dk_at dksX2_figure_0 23 rfl rfl)
theorem dX2_figure_24 : decode cX2_figure 24 = .ok (.aload_n 0, 1) := dk_42 (dk_at dksX2_figure_1 0 rfl rfl)
theorem dX2_figure_25 : decode cX2_figure 25 = .ok (.getfield 16, 3) := dk_180 0 16 (dk_at dksX2_figure_1 1 rfl rfl)
theorem dX2_figure_28 : decode cX2_figure 28 = .ok (.iload_n 1, 1) := dk_27 (dk_at dksX2_figure_1 4 rfl rfl)
theorem dX2_figure_29 : decode cX2_figure 29 = .ok (.aload_n 0, 1) := dk_42 (dk_at dksX2_figure_1 5 rfl rfl)
theorem dX2_figure_30 : decode cX2_figure 30 = .ok (.getfield 112, 3) := dk_180 0 112 (dk_at dksX2_figure_1 6 rfl rfl)
theorem dX2_figure_33 : decode cX2_figure 33 = .ok (.iastore, 1) := dk_79 (dk_at dksX2_figure_1 9 rfl rfl)
theorem dX2_figure_34 : decode cX2_figure 34 = .ok (.aload_n 0, 1) := dk_42 (dk_at dksX2_figure_1 10 rfl rfl)
theorem dX2_figure_35 : decode cX2_figure 35 = .ok (.invokevirtual 177, 3) := dk_182 0 177 (dk_at dksX2_figure_1 11 rfl rfl)
theorem dX2_figure_38 : decode cX2_figure 38 = .ok (.iconst 0, 1) := dk_3 (dk_at dksX2_figure_1 14 rfl rfl)
theorem dX2_figure_39 : decode cX2_figure 39 = .ok (.ireturn, 1) := dk_172 (dk_at dksX2_figure_1 15 rfl rfl)
abbrev cX2_pair : ByteArray := prog_20_method_51_code
def yX2_pair : MethodName := ⟨RX2, "pair", "(IIJI)I"⟩
def dkwX2_pair_1 : List UInt8 := [5, 96, 21, 5, 182, 0, 228, 172]
abbrev dktX2_pair_1 : List UInt8 := dkwX2_pair_1 ++ []
def dkwX2_pair_0 : List UInt8 := [42, 27, 4, 96, 3, 28, 182, 0, 221, 54, 6, 21, 6, 153, 0, 8, 21, 6, 167, 0, 13, 42, 33, 27]
abbrev dktX2_pair_0 : List UInt8 := dkwX2_pair_0 ++ dktX2_pair_1
theorem dksX2_pair_0 : cX2_pair.data.toList.drop 0 = dktX2_pair_0 := by decide +kernel
theorem dksX2_pair_1 : cX2_pair.data.toList.drop 24 = dktX2_pair_1 := dk_seg dksX2_pair_0 24 rfl rfl
theorem dX2_pair_0 : decode cX2_pair 0 = .ok (.aload_n 0, 1) := dk_42 (dk_at dksX2_pair_0 0 rfl rfl)
theorem dX2_pair_1 : decode cX2_pair 1 = .ok (.iload_n 1, 1) := dk_27 (dk_at dksX2_pair_0 1 rfl rfl)
theorem dX2_pair_2 : decode cX2_pair 2 = .ok (.iconst 1, 1) := dk_4 (dk_at dksX2_pair_0 2 rfl rfl)
theorem dX2_pair_3 : decode cX2_pair 3 = .ok (.iadd, 1) := dk_96 (dk_at dksX2_pair_0 3 rfl rfl)
theorem dX2_pair_4 : decode cX2_pair 4 = .ok (.iconst 0, 1) := dk_3 (dk_at dksX2_pair_0 4 rfl rfl)
theorem dX2_pair_5 : decode cX2_pair 5 = .ok (.iload_n 2, 1) := dk_28 (dk_at dksX2_pair_0 5 rfl rfl)
theorem dX2_pair_6 : decode cX2_pair 6 = .ok (.invokevirtual 221, 3) := dk_182 0 221 (dk_at dksX2_pair_0 6 rfl rfl)
theorem dX2_pair_9 : decode cX2_pair 9 = .ok (.istore 6, 2) := dk_54 6 (dk_at dksX2_pair_0 9 rfl rfl)
theorem dX2_pair_11 : decode cX2_pair 11 = .ok (.iload 6, 2) := dk_21 6 (dk_at dksX2_pair_0 11 rfl rfl)
theorem dX2_pair_13 : decode cX2_pair 13 = .ok (.ifCond .eq 8, 3) := dk_153 0 8 (dk_at dksX2_pair_0 13 rfl rfl)
theorem dX2_pair_16 : decode cX2_pair 16 = .ok (.iload 6, 2) := dk_21 6 (dk_at dksX2_pair_0 16 rfl rfl)
theorem dX2_pair_18 : decode cX2_pair 18 = .ok (.goto 13, 3) := dk_167 0 13 (dk_at dksX2_pair_0 18 rfl rfl)
theorem dX2_pair_21 : decode cX2_pair 21 = .ok (.aload_n 0, 1) := dk_42 (dk_at dksX2_pair_0 21 rfl rfl)
theorem dX2_pair_22 : decode cX2_pair 22 = .ok (.lload_n 3, 1) := dk_33 (dk_at dksX2_pair_0 22 rfl rfl)
theorem dX2_pair_23 : decode cX2_pair 23 = .ok (.iload_n 1, 1) := dk_27 (dk_at dksX2_pair_0 23 rfl rfl)
theorem dX2_pair_24 : decode cX2_pair 24 = .ok (.iconst 2, 1) := dk_5 (dk_at dksX2_pair_1 0 rfl rfl)
theorem dX2_pair_25 : decode cX2_pair 25 = .ok (.iadd, 1) := dk_96 (dk_at dksX2_pair_1 1 rfl rfl)
theorem dX2_pair_26 : decode cX2_pair 26 = .ok (.iload 5, 2) := dk_21 5 (dk_at dksX2_pair_1 2 rfl rfl)
theorem dX2_pair_28 : decode cX2_pair 28 = .ok (.invokevirtual 228, 3) := dk_182 0 228 (dk_at dksX2_pair_1 4 rfl rfl)
theorem dX2_pair_31 : decode cX2_pair 31 = .ok (.ireturn, 1) := dk_172 (dk_at dksX2_pair_1 7 rfl rfl)
abbrev cX2_worded : ByteArray := prog_20_method_48_code
def yX2_worded : MethodName := ⟨RX2, "worded", "(JII)I"⟩
def dkwX2_worded_0 : List UInt8 := [42, 31, 182, 0, 195, 154, 0, 5, 4, 172, 42, 182, 0, 177, 42, 29, 3, 21, 4, 182, 0, 221, 172]
abbrev dktX2_worded_0 : List UInt8 := dkwX2_worded_0 ++ []
theorem dksX2_worded_0 : cX2_worded.data.toList.drop 0 = dktX2_worded_0 := by decide +kernel
theorem dX2_worded_0 : decode cX2_worded 0 = .ok (.aload_n 0, 1) := dk_42 (dk_at dksX2_worded_0 0 rfl rfl)
theorem dX2_worded_1 : decode cX2_worded 1 = .ok (.lload_n 1, 1) := dk_31 (dk_at dksX2_worded_0 1 rfl rfl)
theorem dX2_worded_2 : decode cX2_worded 2 = .ok (.invokevirtual 195, 3) := dk_182 0 195 (dk_at dksX2_worded_0 2 rfl rfl)
theorem dX2_worded_5 : decode cX2_worded 5 = .ok (.ifCond .ne 5, 3) := dk_154 0 5 (dk_at dksX2_worded_0 5 rfl rfl)
theorem dX2_worded_8 : decode cX2_worded 8 = .ok (.iconst 1, 1) := dk_4 (dk_at dksX2_worded_0 8 rfl rfl)
theorem dX2_worded_9 : decode cX2_worded 9 = .ok (.ireturn, 1) := dk_172 (dk_at dksX2_worded_0 9 rfl rfl)
theorem dX2_worded_10 : decode cX2_worded 10 = .ok (.aload_n 0, 1) := dk_42 (dk_at dksX2_worded_0 10 rfl rfl)
theorem dX2_worded_11 : decode cX2_worded 11 = .ok (.invokevirtual 177, 3) := dk_182 0 177 (dk_at dksX2_worded_0 11 rfl rfl)
theorem dX2_worded_14 : decode cX2_worded 14 = .ok (.aload_n 0, 1) := dk_42 (dk_at dksX2_worded_0 14 rfl rfl)
theorem dX2_worded_15 : decode cX2_worded 15 = .ok (.iload_n 3, 1) := dk_29 (dk_at dksX2_worded_0 15 rfl rfl)
theorem dX2_worded_16 : decode cX2_worded 16 = .ok (.iconst 0, 1) := dk_3 (dk_at dksX2_worded_0 16 rfl rfl)
theorem dX2_worded_17 : decode cX2_worded 17 = .ok (.iload 4, 2) := dk_21 4 (dk_at dksX2_worded_0 17 rfl rfl)
theorem dX2_worded_19 : decode cX2_worded 19 = .ok (.invokevirtual 221, 3) := dk_182 0 221 (dk_at dksX2_worded_0 19 rfl rfl)
theorem dX2_worded_22 : decode cX2_worded 22 = .ok (.ireturn, 1) := dk_172 (dk_at dksX2_worded_0 22 rfl rfl)
abbrev cX2_personClause : ByteArray := prog_20_method_50_code
def yX2_personClause : MethodName := ⟨RX2, "personClause", "(I)I"⟩
def dkwX2_personClause_4 : List UInt8 := [182, 0, 228, 172]
abbrev dktX2_personClause_4 : List UInt8 := dkwX2_personClause_4 ++ []
def dkwX2_personClause_3 : List UInt8 := [167, 0, 26, 42, 16, 100, 16, 101, 16, 98, 16, 116, 16, 115, 184, 0, 140, 27, 7, 96, 17, 39, 15]
abbrev dktX2_personClause_3 : List UInt8 := dkwX2_personClause_3 ++ dktX2_personClause_4
def dkwX2_personClause_2 : List UInt8 := [16, 100, 16, 115, 184, 0, 140, 27, 6, 96, 17, 39, 15, 182, 0, 228, 61, 28, 153, 0, 7, 28]
abbrev dktX2_personClause_2 : List UInt8 := dkwX2_personClause_2 ++ dktX2_personClause_3
def dkwX2_personClause_1 : List UInt8 := [184, 0, 136, 27, 5, 96, 16, 9, 182, 0, 228, 61, 28, 154, 0, 27, 42, 16, 103, 16, 111, 16, 111]
abbrev dktX2_personClause_1 : List UInt8 := dkwX2_personClause_1 ++ dktX2_personClause_2
def dkwX2_personClause_0 : List UInt8 := [42, 27, 4, 96, 3, 16, 7, 182, 0, 221, 61, 28, 154, 0, 24, 42, 16, 102, 16, 101, 16, 97, 16, 114]
abbrev dktX2_personClause_0 : List UInt8 := dkwX2_personClause_0 ++ dktX2_personClause_1
theorem dksX2_personClause_0 : cX2_personClause.data.toList.drop 0 = dktX2_personClause_0 := by decide +kernel
theorem dksX2_personClause_1 : cX2_personClause.data.toList.drop 24 = dktX2_personClause_1 := dk_seg dksX2_personClause_0 24 rfl rfl
theorem dksX2_personClause_2 : cX2_personClause.data.toList.drop 47 = dktX2_personClause_2 := dk_seg dksX2_personClause_1 23 rfl rfl
theorem dksX2_personClause_3 : cX2_personClause.data.toList.drop 69 = dktX2_personClause_3 := dk_seg dksX2_personClause_2 22 rfl rfl
theorem dksX2_personClause_4 : cX2_personClause.data.toList.drop 92 = dktX2_personClause_4 := dk_seg dksX2_personClause_3 23 rfl rfl
theorem dX2_personClause_0 : decode cX2_personClause 0 = .ok (.aload_n 0, 1) := dk_42 (dk_at dksX2_personClause_0 0 rfl rfl)
theorem dX2_personClause_1 : decode cX2_personClause 1 = .ok (.iload_n 1, 1) := dk_27 (dk_at dksX2_personClause_0 1 rfl rfl)
theorem dX2_personClause_2 : decode cX2_personClause 2 = .ok (.iconst 1, 1) := dk_4 (dk_at dksX2_personClause_0 2 rfl rfl)
theorem dX2_personClause_3 : decode cX2_personClause 3 = .ok (.iadd, 1) := dk_96 (dk_at dksX2_personClause_0 3 rfl rfl)
theorem dX2_personClause_4 : decode cX2_personClause 4 = .ok (.iconst 0, 1) := dk_3 (dk_at dksX2_personClause_0 4 rfl rfl)
theorem dX2_personClause_5 : decode cX2_personClause 5 = .ok (.bipush 7, 2) := dk_16 7 (dk_at dksX2_personClause_0 5 rfl rfl)
theorem dX2_personClause_7 : decode cX2_personClause 7 = .ok (.invokevirtual 221, 3) := dk_182 0 221 (dk_at dksX2_personClause_0 7 rfl rfl)
theorem dX2_personClause_10 : decode cX2_personClause 10 = .ok (.istore_n 2, 1) := dk_61 (dk_at dksX2_personClause_0 10 rfl rfl)
theorem dX2_personClause_11 : decode cX2_personClause 11 = .ok (.iload_n 2, 1) := dk_28 (dk_at dksX2_personClause_0 11 rfl rfl)
theorem dX2_personClause_12 : decode cX2_personClause 12 = .ok (.ifCond .ne 24, 3) := dk_154 0 24 (dk_at dksX2_personClause_0 12 rfl rfl)
theorem dX2_personClause_15 : decode cX2_personClause 15 = .ok (.aload_n 0, 1) := dk_42 (dk_at dksX2_personClause_0 15 rfl rfl)
theorem dX2_personClause_16 : decode cX2_personClause 16 = .ok (.bipush 102, 2) := dk_16 102 (dk_at dksX2_personClause_0 16 rfl rfl)
theorem dX2_personClause_18 : decode cX2_personClause 18 = .ok (.bipush 101, 2) := dk_16 101 (dk_at dksX2_personClause_0 18 rfl rfl)
theorem dX2_personClause_20 : decode cX2_personClause 20 = .ok (.bipush 97, 2) := dk_16 97 (dk_at dksX2_personClause_0 20 rfl rfl)
theorem dX2_personClause_22 : decode cX2_personClause 22 = .ok (.bipush 114, 2) := dk_16 114 (dk_at dksX2_personClause_0 22 rfl rfl)
theorem dX2_personClause_24 : decode cX2_personClause 24 = .ok (.invokestatic 136, 3) := dk_184 0 136 (dk_at dksX2_personClause_1 0 rfl rfl)
theorem dX2_personClause_27 : decode cX2_personClause 27 = .ok (.iload_n 1, 1) := dk_27 (dk_at dksX2_personClause_1 3 rfl rfl)
theorem dX2_personClause_28 : decode cX2_personClause 28 = .ok (.iconst 2, 1) := dk_5 (dk_at dksX2_personClause_1 4 rfl rfl)
theorem dX2_personClause_29 : decode cX2_personClause 29 = .ok (.iadd, 1) := dk_96 (dk_at dksX2_personClause_1 5 rfl rfl)
theorem dX2_personClause_30 : decode cX2_personClause 30 = .ok (.bipush 9, 2) := dk_16 9 (dk_at dksX2_personClause_1 6 rfl rfl)
theorem dX2_personClause_32 : decode cX2_personClause 32 = .ok (.invokevirtual 228, 3) := dk_182 0 228 (dk_at dksX2_personClause_1 8 rfl rfl)
theorem dX2_personClause_35 : decode cX2_personClause 35 = .ok (.istore_n 2, 1) := dk_61 (dk_at dksX2_personClause_1 11 rfl rfl)
theorem dX2_personClause_36 : decode cX2_personClause 36 = .ok (.iload_n 2, 1) := dk_28 (dk_at dksX2_personClause_1 12 rfl rfl)
theorem dX2_personClause_37 : decode cX2_personClause 37 = .ok (.ifCond .ne 27, 3) := dk_154 0 27 (dk_at dksX2_personClause_1 13 rfl rfl)
theorem dX2_personClause_40 : decode cX2_personClause 40 = .ok (.aload_n 0, 1) := dk_42 (dk_at dksX2_personClause_1 16 rfl rfl)
theorem dX2_personClause_41 : decode cX2_personClause 41 = .ok (.bipush 103, 2) := dk_16 103 (dk_at dksX2_personClause_1 17 rfl rfl)
theorem dX2_personClause_43 : decode cX2_personClause 43 = .ok (.bipush 111, 2) := dk_16 111 (dk_at dksX2_personClause_1 19 rfl rfl)
theorem dX2_personClause_45 : decode cX2_personClause 45 = .ok (.bipush 111, 2) := dk_16 111 (dk_at dksX2_personClause_1 21 rfl rfl)
theorem dX2_personClause_47 : decode cX2_personClause 47 = .ok (.bipush 100, 2) := dk_16 100 (dk_at dksX2_personClause_2 0 rfl rfl)
theorem dX2_personClause_49 : decode cX2_personClause 49 = .ok (.bipush 115, 2) := dk_16 115 (dk_at dksX2_personClause_2 2 rfl rfl)
theorem dX2_personClause_51 : decode cX2_personClause 51 = .ok (.invokestatic 140, 3) := dk_184 0 140 (dk_at dksX2_personClause_2 4 rfl rfl)
theorem dX2_personClause_54 : decode cX2_personClause 54 = .ok (.iload_n 1, 1) := dk_27 (dk_at dksX2_personClause_2 7 rfl rfl)
theorem dX2_personClause_55 : decode cX2_personClause 55 = .ok (.iconst 3, 1) := dk_6 (dk_at dksX2_personClause_2 8 rfl rfl)
theorem dX2_personClause_56 : decode cX2_personClause 56 = .ok (.iadd, 1) := dk_96 (dk_at dksX2_personClause_2 9 rfl rfl)
theorem dX2_personClause_57 : decode cX2_personClause 57 = .ok (.sipush 9999, 3) := dk_17 39 15 (dk_at dksX2_personClause_2 10 rfl rfl)
theorem dX2_personClause_60 : decode cX2_personClause 60 = .ok (.invokevirtual 228, 3) := dk_182 0 228 (dk_at dksX2_personClause_2 13 rfl rfl)
theorem dX2_personClause_63 : decode cX2_personClause 63 = .ok (.istore_n 2, 1) := dk_61 (dk_at dksX2_personClause_2 16 rfl rfl)
theorem dX2_personClause_64 : decode cX2_personClause 64 = .ok (.iload_n 2, 1) := dk_28 (dk_at dksX2_personClause_2 17 rfl rfl)
theorem dX2_personClause_65 : decode cX2_personClause 65 = .ok (.ifCond .eq 7, 3) := dk_153 0 7 (dk_at dksX2_personClause_2 18 rfl rfl)
theorem dX2_personClause_68 : decode cX2_personClause 68 = .ok (.iload_n 2, 1) := dk_28 (dk_at dksX2_personClause_2 21 rfl rfl)
theorem dX2_personClause_69 : decode cX2_personClause 69 = .ok (.goto 26, 3) := dk_167 0 26 (dk_at dksX2_personClause_3 0 rfl rfl)
theorem dX2_personClause_72 : decode cX2_personClause 72 = .ok (.aload_n 0, 1) := dk_42 (dk_at dksX2_personClause_3 3 rfl rfl)
theorem dX2_personClause_73 : decode cX2_personClause 73 = .ok (.bipush 100, 2) := dk_16 100 (dk_at dksX2_personClause_3 4 rfl rfl)
theorem dX2_personClause_75 : decode cX2_personClause 75 = .ok (.bipush 101, 2) := dk_16 101 (dk_at dksX2_personClause_3 6 rfl rfl)
theorem dX2_personClause_77 : decode cX2_personClause 77 = .ok (.bipush 98, 2) := dk_16 98 (dk_at dksX2_personClause_3 8 rfl rfl)
theorem dX2_personClause_79 : decode cX2_personClause 79 = .ok (.bipush 116, 2) := dk_16 116 (dk_at dksX2_personClause_3 10 rfl rfl)
theorem dX2_personClause_81 : decode cX2_personClause 81 = .ok (.bipush 115, 2) := dk_16 115 (dk_at dksX2_personClause_3 12 rfl rfl)
theorem dX2_personClause_83 : decode cX2_personClause 83 = .ok (.invokestatic 140, 3) := dk_184 0 140 (dk_at dksX2_personClause_3 14 rfl rfl)
theorem dX2_personClause_86 : decode cX2_personClause 86 = .ok (.iload_n 1, 1) := dk_27 (dk_at dksX2_personClause_3 17 rfl rfl)
theorem dX2_personClause_87 : decode cX2_personClause 87 = .ok (.iconst 4, 1) := dk_7 (dk_at dksX2_personClause_3 18 rfl rfl)
theorem dX2_personClause_88 : decode cX2_personClause 88 = .ok (.iadd, 1) := dk_96 (dk_at dksX2_personClause_3 19 rfl rfl)
theorem dX2_personClause_89 : decode cX2_personClause 89 = .ok (.sipush 9999, 3) := dk_17 39 15 (dk_at dksX2_personClause_3 20 rfl rfl)
theorem dX2_personClause_92 : decode cX2_personClause 92 = .ok (.invokevirtual 228, 3) := dk_182 0 228 (dk_at dksX2_personClause_4 0 rfl rfl)
theorem dX2_personClause_95 : decode cX2_personClause 95 = .ok (.ireturn, 1) := dk_172 (dk_at dksX2_personClause_4 3 rfl rfl)
abbrev cX2_lawClause : ByteArray := prog_20_method_49_code
def yX2_lawClause : MethodName := ⟨RX2, "lawClause", "(I)I"⟩
def dkwX2_lawClause_1 : List UInt8 := [42, 180, 0, 147, 79, 28, 172]
abbrev dktX2_lawClause_1 : List UInt8 := dkwX2_lawClause_1 ++ []
def dkwX2_lawClause_0 : List UInt8 := [42, 180, 0, 16, 27, 4, 96, 42, 180, 0, 147, 79, 42, 182, 0, 225, 61, 42, 180, 0, 16, 27, 5, 96]
abbrev dktX2_lawClause_0 : List UInt8 := dkwX2_lawClause_0 ++ dktX2_lawClause_1
theorem dksX2_lawClause_0 : cX2_lawClause.data.toList.drop 0 = dktX2_lawClause_0 := by decide +kernel
theorem dksX2_lawClause_1 : cX2_lawClause.data.toList.drop 24 = dktX2_lawClause_1 := dk_seg dksX2_lawClause_0 24 rfl rfl
theorem dX2_lawClause_0 : decode cX2_lawClause 0 = .ok (.aload_n 0, 1) := dk_42 (dk_at dksX2_lawClause_0 0 rfl rfl)
theorem dX2_lawClause_1 : decode cX2_lawClause 1 = .ok (.getfield 16, 3) := dk_180 0 16 (dk_at dksX2_lawClause_0 1 rfl rfl)
theorem dX2_lawClause_4 : decode cX2_lawClause 4 = .ok (.iload_n 1, 1) := dk_27 (dk_at dksX2_lawClause_0 4 rfl rfl)
theorem dX2_lawClause_5 : decode cX2_lawClause 5 = .ok (.iconst 1, 1) := dk_4 (dk_at dksX2_lawClause_0 5 rfl rfl)
theorem dX2_lawClause_6 : decode cX2_lawClause 6 = .ok (.iadd, 1) := dk_96 (dk_at dksX2_lawClause_0 6 rfl rfl)
theorem dX2_lawClause_7 : decode cX2_lawClause 7 = .ok (.aload_n 0, 1) := dk_42 (dk_at dksX2_lawClause_0 7 rfl rfl)
theorem dX2_lawClause_8 : decode cX2_lawClause 8 = .ok (.getfield 147, 3) := dk_180 0 147 (dk_at dksX2_lawClause_0 8 rfl rfl)
theorem dX2_lawClause_11 : decode cX2_lawClause 11 = .ok (.iastore, 1) := dk_79 (dk_at dksX2_lawClause_0 11 rfl rfl)
theorem dX2_lawClause_12 : decode cX2_lawClause 12 = .ok (.aload_n 0, 1) := dk_42 (dk_at dksX2_lawClause_0 12 rfl rfl)
theorem dX2_lawClause_13 : decode cX2_lawClause 13 = .ok (.invokevirtual 225, 3) := dk_182 0 225 (dk_at dksX2_lawClause_0 13 rfl rfl)
theorem dX2_lawClause_16 : decode cX2_lawClause 16 = .ok (.istore_n 2, 1) := dk_61 (dk_at dksX2_lawClause_0 16 rfl rfl)
theorem dX2_lawClause_17 : decode cX2_lawClause 17 = .ok (.aload_n 0, 1) := dk_42 (dk_at dksX2_lawClause_0 17 rfl rfl)
theorem dX2_lawClause_18 : decode cX2_lawClause 18 = .ok (.getfield 16, 3) := dk_180 0 16 (dk_at dksX2_lawClause_0 18 rfl rfl)
theorem dX2_lawClause_21 : decode cX2_lawClause 21 = .ok (.iload_n 1, 1) := dk_27 (dk_at dksX2_lawClause_0 21 rfl rfl)
theorem dX2_lawClause_22 : decode cX2_lawClause 22 = .ok (.iconst 2, 1) := dk_5 (dk_at dksX2_lawClause_0 22 rfl rfl)
theorem dX2_lawClause_23 : decode cX2_lawClause 23 = .ok (.iadd, 1) := dk_96 (dk_at dksX2_lawClause_0 23 rfl rfl)
theorem dX2_lawClause_24 : decode cX2_lawClause 24 = .ok (.aload_n 0, 1) := dk_42 (dk_at dksX2_lawClause_1 0 rfl rfl)
theorem dX2_lawClause_25 : decode cX2_lawClause 25 = .ok (.getfield 147, 3) := dk_180 0 147 (dk_at dksX2_lawClause_1 1 rfl rfl)
theorem dX2_lawClause_28 : decode cX2_lawClause 28 = .ok (.iastore, 1) := dk_79 (dk_at dksX2_lawClause_1 4 rfl rfl)
theorem dX2_lawClause_29 : decode cX2_lawClause 29 = .ok (.iload_n 2, 1) := dk_28 (dk_at dksX2_lawClause_1 5 rfl rfl)
theorem dX2_lawClause_30 : decode cX2_lawClause 30 = .ok (.ireturn, 1) := dk_172 (dk_at dksX2_lawClause_1 6 rfl rfl)
abbrev cX2_summed : ByteArray := prog_20_method_46_code
def yX2_summed : MethodName := ⟨RX2, "summed", "()I"⟩
def dkwX2_summed_2 : List UInt8 := [172, 42, 182, 0, 218, 60, 27, 153, 0, 5, 27, 172, 167, 255, 212]
abbrev dktX2_summed_2 : List UInt8 := dkwX2_summed_2 ++ []
def dkwX2_summed_1 : List UInt8 := [182, 0, 215, 153, 0, 6, 167, 255, 242, 42, 182, 0, 174, 155, 0, 5, 4, 172, 42, 4, 182, 0, 189, 3]
abbrev dktX2_summed_1 : List UInt8 := dkwX2_summed_1 ++ dktX2_summed_2
def dkwX2_summed_0 : List UInt8 := [42, 3, 181, 0, 157, 42, 3, 181, 0, 167, 42, 3, 181, 0, 186, 42, 180, 0, 186, 153, 0, 29, 42]
abbrev dktX2_summed_0 : List UInt8 := dkwX2_summed_0 ++ dktX2_summed_1
theorem dksX2_summed_0 : cX2_summed.data.toList.drop 0 = dktX2_summed_0 := by decide +kernel
theorem dksX2_summed_1 : cX2_summed.data.toList.drop 23 = dktX2_summed_1 := dk_seg dksX2_summed_0 23 rfl rfl
theorem dksX2_summed_2 : cX2_summed.data.toList.drop 47 = dktX2_summed_2 := dk_seg dksX2_summed_1 24 rfl rfl
theorem dX2_summed_0 : decode cX2_summed 0 = .ok (.aload_n 0, 1) := dk_42 (dk_at dksX2_summed_0 0 rfl rfl)
theorem dX2_summed_1 : decode cX2_summed 1 = .ok (.iconst 0, 1) := dk_3 (dk_at dksX2_summed_0 1 rfl rfl)
theorem dX2_summed_2 : decode cX2_summed 2 = .ok (.putfield 157, 3) := dk_181 0 157 (dk_at dksX2_summed_0 2 rfl rfl)
theorem dX2_summed_5 : decode cX2_summed 5 = .ok (.aload_n 0, 1) := dk_42 (dk_at dksX2_summed_0 5 rfl rfl)
theorem dX2_summed_6 : decode cX2_summed 6 = .ok (.iconst 0, 1) := dk_3 (dk_at dksX2_summed_0 6 rfl rfl)
theorem dX2_summed_7 : decode cX2_summed 7 = .ok (.putfield 167, 3) := dk_181 0 167 (dk_at dksX2_summed_0 7 rfl rfl)
theorem dX2_summed_10 : decode cX2_summed 10 = .ok (.aload_n 0, 1) := dk_42 (dk_at dksX2_summed_0 10 rfl rfl)
theorem dX2_summed_11 : decode cX2_summed 11 = .ok (.iconst 0, 1) := dk_3 (dk_at dksX2_summed_0 11 rfl rfl)
theorem dX2_summed_12 : decode cX2_summed 12 = .ok (.putfield 186, 3) := dk_181 0 186 (dk_at dksX2_summed_0 12 rfl rfl)
theorem dX2_summed_15 : decode cX2_summed 15 = .ok (.aload_n 0, 1) := dk_42 (dk_at dksX2_summed_0 15 rfl rfl)
theorem dX2_summed_16 : decode cX2_summed 16 = .ok (.getfield 186, 3) := dk_180 0 186 (dk_at dksX2_summed_0 16 rfl rfl)
theorem dX2_summed_19 : decode cX2_summed 19 = .ok (.ifCond .eq 29, 3) := dk_153 0 29 (dk_at dksX2_summed_0 19 rfl rfl)
theorem dX2_summed_22 : decode cX2_summed 22 = .ok (.aload_n 0, 1) := dk_42 (dk_at dksX2_summed_0 22 rfl rfl)
theorem dX2_summed_23 : decode cX2_summed 23 = .ok (.invokevirtual 215, 3) := dk_182 0 215 (dk_at dksX2_summed_1 0 rfl rfl)
theorem dX2_summed_26 : decode cX2_summed 26 = .ok (.ifCond .eq 6, 3) := dk_153 0 6 (dk_at dksX2_summed_1 3 rfl rfl)
theorem dX2_summed_29 : decode cX2_summed 29 = .ok (.goto (-14), 3) := dk_167 255 242 (dk_at dksX2_summed_1 6 rfl rfl)
theorem dX2_summed_32 : decode cX2_summed 32 = .ok (.aload_n 0, 1) := dk_42 (dk_at dksX2_summed_1 9 rfl rfl)
theorem dX2_summed_33 : decode cX2_summed 33 = .ok (.invokevirtual 174, 3) := dk_182 0 174 (dk_at dksX2_summed_1 10 rfl rfl)
theorem dX2_summed_36 : decode cX2_summed 36 = .ok (.ifCond .lt 5, 3) := dk_155 0 5 (dk_at dksX2_summed_1 13 rfl rfl)
theorem dX2_summed_39 : decode cX2_summed 39 = .ok (.iconst 1, 1) := dk_4 (dk_at dksX2_summed_1 16 rfl rfl)
theorem dX2_summed_40 : decode cX2_summed 40 = .ok (.ireturn, 1) := dk_172 (dk_at dksX2_summed_1 17 rfl rfl)
theorem dX2_summed_41 : decode cX2_summed 41 = .ok (.aload_n 0, 1) := dk_42 (dk_at dksX2_summed_1 18 rfl rfl)
theorem dX2_summed_42 : decode cX2_summed 42 = .ok (.iconst 1, 1) := dk_4 (dk_at dksX2_summed_1 19 rfl rfl)
theorem dX2_summed_43 : decode cX2_summed 43 = .ok (.invokevirtual 189, 3) := dk_182 0 189 (dk_at dksX2_summed_1 20 rfl rfl)
theorem dX2_summed_46 : decode cX2_summed 46 = .ok (.iconst 0, 1) := dk_3 (dk_at dksX2_summed_1 23 rfl rfl)
theorem dX2_summed_47 : decode cX2_summed 47 = .ok (.ireturn, 1) := dk_172 (dk_at dksX2_summed_2 0 rfl rfl)
theorem dX2_summed_48 : decode cX2_summed 48 = .ok (.aload_n 0, 1) := dk_42 (dk_at dksX2_summed_2 1 rfl rfl)
theorem dX2_summed_49 : decode cX2_summed 49 = .ok (.invokevirtual 218, 3) := dk_182 0 218 (dk_at dksX2_summed_2 2 rfl rfl)
theorem dX2_summed_52 : decode cX2_summed 52 = .ok (.istore_n 1, 1) := dk_60 (dk_at dksX2_summed_2 5 rfl rfl)
theorem dX2_summed_53 : decode cX2_summed 53 = .ok (.iload_n 1, 1) := dk_27 (dk_at dksX2_summed_2 6 rfl rfl)
theorem dX2_summed_54 : decode cX2_summed 54 = .ok (.ifCond .eq 5, 3) := dk_153 0 5 (dk_at dksX2_summed_2 7 rfl rfl)
theorem dX2_summed_57 : decode cX2_summed 57 = .ok (.iload_n 1, 1) := dk_27 (dk_at dksX2_summed_2 10 rfl rfl)
theorem dX2_summed_58 : decode cX2_summed 58 = .ok (.ireturn, 1) := dk_172 (dk_at dksX2_summed_2 11 rfl rfl)
theorem dX2_summed_59 : decode cX2_summed 59 = .ok (.goto (-44), 3) := dk_167 255 212 (dk_at dksX2_summed_2 12 rfl rfl)
abbrev cX2_behindOne : ByteArray := prog_20_method_45_code
def yX2_behindOne : MethodName := ⟨RX2, "behindOne", "()Z"⟩
def dkwX2_behindOne_6 : List UInt8 := [182, 0, 189, 4, 172]
abbrev dktX2_behindOne_6 : List UInt8 := dkwX2_behindOne_6 ++ []
def dkwX2_behindOne_5 : List UInt8 := [89, 180, 0, 157, 4, 100, 181, 0, 157, 28, 16, 43, 160, 0, 9, 42, 7, 3, 182, 0, 163, 42, 16, 7]
abbrev dktX2_behindOne_5 : List UInt8 := dkwX2_behindOne_5 ++ dktX2_behindOne_6
def dkwX2_behindOne_4 : List UInt8 := [42, 182, 0, 170, 29, 79, 42, 3, 181, 0, 186, 4, 172, 42, 89, 180, 0, 167, 4, 100, 181, 0, 167, 42]
abbrev dktX2_behindOne_4 : List UInt8 := dkwX2_behindOne_4 ++ dktX2_behindOne_5
def dkwX2_behindOne_3 : List UInt8 := [62, 29, 156, 0, 5, 3, 172, 42, 4, 182, 0, 189, 42, 182, 0, 177, 29, 158, 0, 20, 42, 180, 0, 29]
abbrev dktX2_behindOne_3 : List UInt8 := dkwX2_behindOne_3 ++ dktX2_behindOne_4
def dkwX2_behindOne_2 : List UInt8 := [181, 0, 157, 42, 3, 181, 0, 186, 42, 182, 0, 177, 4, 172, 42, 182, 0, 174, 61, 42, 28, 182, 0, 212]
abbrev dktX2_behindOne_2 : List UInt8 := dkwX2_behindOne_2 ++ dktX2_behindOne_3
def dkwX2_behindOne_1 : List UInt8 := [184, 0, 160, 182, 0, 189, 42, 180, 0, 29, 42, 180, 0, 157, 27, 79, 42, 89, 180, 0, 157, 4, 96]
abbrev dktX2_behindOne_1 : List UInt8 := dkwX2_behindOne_1 ++ dktX2_behindOne_2
def dkwX2_behindOne_0 : List UInt8 := [42, 182, 0, 209, 60, 27, 155, 0, 54, 42, 27, 184, 0, 160, 7, 160, 0, 7, 8, 167, 0, 7, 27]
abbrev dktX2_behindOne_0 : List UInt8 := dkwX2_behindOne_0 ++ dktX2_behindOne_1
theorem dksX2_behindOne_0 : cX2_behindOne.data.toList.drop 0 = dktX2_behindOne_0 := by decide +kernel
theorem dksX2_behindOne_1 : cX2_behindOne.data.toList.drop 23 = dktX2_behindOne_1 := dk_seg dksX2_behindOne_0 23 rfl rfl
theorem dksX2_behindOne_2 : cX2_behindOne.data.toList.drop 46 = dktX2_behindOne_2 := dk_seg dksX2_behindOne_1 23 rfl rfl
theorem dksX2_behindOne_3 : cX2_behindOne.data.toList.drop 70 = dktX2_behindOne_3 := dk_seg dksX2_behindOne_2 24 rfl rfl
theorem dksX2_behindOne_4 : cX2_behindOne.data.toList.drop 94 = dktX2_behindOne_4 := dk_seg dksX2_behindOne_3 24 rfl rfl
theorem dksX2_behindOne_5 : cX2_behindOne.data.toList.drop 118 = dktX2_behindOne_5 := dk_seg dksX2_behindOne_4 24 rfl rfl
theorem dksX2_behindOne_6 : cX2_behindOne.data.toList.drop 142 = dktX2_behindOne_6 := dk_seg dksX2_behindOne_5 24 rfl rfl
theorem dX2_behindOne_0 : decode cX2_behindOne 0 = .ok (.aload_n 0, 1) := dk_42 (dk_at dksX2_behindOne_0 0 rfl rfl)
theorem dX2_behindOne_1 : decode cX2_behindOne 1 = .ok (.invokevirtual 209, 3) := dk_182 0 209 (dk_at dksX2_behindOne_0 1 rfl rfl)
theorem dX2_behindOne_4 : decode cX2_behindOne 4 = .ok (.istore_n 1, 1) := dk_60 (dk_at dksX2_behindOne_0 4 rfl rfl)
theorem dX2_behindOne_5 : decode cX2_behindOne 5 = .ok (.iload_n 1, 1) := dk_27 (dk_at dksX2_behindOne_0 5 rfl rfl)
theorem dX2_behindOne_6 : decode cX2_behindOne 6 = .ok (.ifCond .lt 54, 3) := dk_155 0 54 (dk_at dksX2_behindOne_0 6 rfl rfl)
theorem dX2_behindOne_9 : decode cX2_behindOne 9 = .ok (.aload_n 0, 1) := dk_42 (dk_at dksX2_behindOne_0 9 rfl rfl)
theorem dX2_behindOne_10 : decode cX2_behindOne 10 = .ok (.iload_n 1, 1) := dk_27 (dk_at dksX2_behindOne_0 10 rfl rfl)
theorem dX2_behindOne_11 : decode cX2_behindOne 11 = .ok (.invokestatic 160, 3) := dk_184 0 160 (dk_at dksX2_behindOne_0 11 rfl rfl)
theorem dX2_behindOne_14 : decode cX2_behindOne 14 = .ok (.iconst 4, 1) := dk_7 (dk_at dksX2_behindOne_0 14 rfl rfl)
theorem dX2_behindOne_15 : decode cX2_behindOne 15 = .ok (.if_icmp .ne 7, 3) := dk_160 0 7 (dk_at dksX2_behindOne_0 15 rfl rfl)
theorem dX2_behindOne_18 : decode cX2_behindOne 18 = .ok (.iconst 5, 1) := dk_8 (dk_at dksX2_behindOne_0 18 rfl rfl)
theorem dX2_behindOne_19 : decode cX2_behindOne 19 = .ok (.goto 7, 3) := dk_167 0 7 (dk_at dksX2_behindOne_0 19 rfl rfl)
theorem dX2_behindOne_22 : decode cX2_behindOne 22 = .ok (.iload_n 1, 1) := dk_27 (dk_at dksX2_behindOne_0 22 rfl rfl)
theorem dX2_behindOne_23 : decode cX2_behindOne 23 = .ok (.invokestatic 160, 3) := dk_184 0 160 (dk_at dksX2_behindOne_1 0 rfl rfl)
theorem dX2_behindOne_26 : decode cX2_behindOne 26 = .ok (.invokevirtual 189, 3) := dk_182 0 189 (dk_at dksX2_behindOne_1 3 rfl rfl)
theorem dX2_behindOne_29 : decode cX2_behindOne 29 = .ok (.aload_n 0, 1) := dk_42 (dk_at dksX2_behindOne_1 6 rfl rfl)
theorem dX2_behindOne_30 : decode cX2_behindOne 30 = .ok (.getfield 29, 3) := dk_180 0 29 (dk_at dksX2_behindOne_1 7 rfl rfl)
theorem dX2_behindOne_33 : decode cX2_behindOne 33 = .ok (.aload_n 0, 1) := dk_42 (dk_at dksX2_behindOne_1 10 rfl rfl)
theorem dX2_behindOne_34 : decode cX2_behindOne 34 = .ok (.getfield 157, 3) := dk_180 0 157 (dk_at dksX2_behindOne_1 11 rfl rfl)
theorem dX2_behindOne_37 : decode cX2_behindOne 37 = .ok (.iload_n 1, 1) := dk_27 (dk_at dksX2_behindOne_1 14 rfl rfl)
theorem dX2_behindOne_38 : decode cX2_behindOne 38 = .ok (.iastore, 1) := dk_79 (dk_at dksX2_behindOne_1 15 rfl rfl)
theorem dX2_behindOne_39 : decode cX2_behindOne 39 = .ok (.aload_n 0, 1) := dk_42 (dk_at dksX2_behindOne_1 16 rfl rfl)
theorem dX2_behindOne_40 : decode cX2_behindOne 40 = .ok (.dup, 1) := dk_89 (dk_at dksX2_behindOne_1 17 rfl rfl)
theorem dX2_behindOne_41 : decode cX2_behindOne 41 = .ok (.getfield 157, 3) := dk_180 0 157 (dk_at dksX2_behindOne_1 18 rfl rfl)
theorem dX2_behindOne_44 : decode cX2_behindOne 44 = .ok (.iconst 1, 1) := dk_4 (dk_at dksX2_behindOne_1 21 rfl rfl)
theorem dX2_behindOne_45 : decode cX2_behindOne 45 = .ok (.iadd, 1) := dk_96 (dk_at dksX2_behindOne_1 22 rfl rfl)
theorem dX2_behindOne_46 : decode cX2_behindOne 46 = .ok (.putfield 157, 3) := dk_181 0 157 (dk_at dksX2_behindOne_2 0 rfl rfl)
theorem dX2_behindOne_49 : decode cX2_behindOne 49 = .ok (.aload_n 0, 1) := dk_42 (dk_at dksX2_behindOne_2 3 rfl rfl)
theorem dX2_behindOne_50 : decode cX2_behindOne 50 = .ok (.iconst 0, 1) := dk_3 (dk_at dksX2_behindOne_2 4 rfl rfl)
theorem dX2_behindOne_51 : decode cX2_behindOne 51 = .ok (.putfield 186, 3) := dk_181 0 186 (dk_at dksX2_behindOne_2 5 rfl rfl)
theorem dX2_behindOne_54 : decode cX2_behindOne 54 = .ok (.aload_n 0, 1) := dk_42 (dk_at dksX2_behindOne_2 8 rfl rfl)
theorem dX2_behindOne_55 : decode cX2_behindOne 55 = .ok (.invokevirtual 177, 3) := dk_182 0 177 (dk_at dksX2_behindOne_2 9 rfl rfl)
theorem dX2_behindOne_58 : decode cX2_behindOne 58 = .ok (.iconst 1, 1) := dk_4 (dk_at dksX2_behindOne_2 12 rfl rfl)
theorem dX2_behindOne_59 : decode cX2_behindOne 59 = .ok (.ireturn, 1) := dk_172 (dk_at dksX2_behindOne_2 13 rfl rfl)
theorem dX2_behindOne_60 : decode cX2_behindOne 60 = .ok (.aload_n 0, 1) := dk_42 (dk_at dksX2_behindOne_2 14 rfl rfl)
theorem dX2_behindOne_61 : decode cX2_behindOne 61 = .ok (.invokevirtual 174, 3) := dk_182 0 174 (dk_at dksX2_behindOne_2 15 rfl rfl)
theorem dX2_behindOne_64 : decode cX2_behindOne 64 = .ok (.istore_n 2, 1) := dk_61 (dk_at dksX2_behindOne_2 18 rfl rfl)
theorem dX2_behindOne_65 : decode cX2_behindOne 65 = .ok (.aload_n 0, 1) := dk_42 (dk_at dksX2_behindOne_2 19 rfl rfl)
theorem dX2_behindOne_66 : decode cX2_behindOne 66 = .ok (.iload_n 2, 1) := dk_28 (dk_at dksX2_behindOne_2 20 rfl rfl)
theorem dX2_behindOne_67 : decode cX2_behindOne 67 = .ok (.invokevirtual 212, 3) := dk_182 0 212 (dk_at dksX2_behindOne_2 21 rfl rfl)
theorem dX2_behindOne_70 : decode cX2_behindOne 70 = .ok (.istore_n 3, 1) := dk_62 (dk_at dksX2_behindOne_3 0 rfl rfl)
theorem dX2_behindOne_71 : decode cX2_behindOne 71 = .ok (.iload_n 3, 1) := dk_29 (dk_at dksX2_behindOne_3 1 rfl rfl)
theorem dX2_behindOne_72 : decode cX2_behindOne 72 = .ok (.ifCond .ge 5, 3) := dk_156 0 5 (dk_at dksX2_behindOne_3 2 rfl rfl)
theorem dX2_behindOne_75 : decode cX2_behindOne 75 = .ok (.iconst 0, 1) := dk_3 (dk_at dksX2_behindOne_3 5 rfl rfl)
theorem dX2_behindOne_76 : decode cX2_behindOne 76 = .ok (.ireturn, 1) := dk_172 (dk_at dksX2_behindOne_3 6 rfl rfl)
theorem dX2_behindOne_77 : decode cX2_behindOne 77 = .ok (.aload_n 0, 1) := dk_42 (dk_at dksX2_behindOne_3 7 rfl rfl)
theorem dX2_behindOne_78 : decode cX2_behindOne 78 = .ok (.iconst 1, 1) := dk_4 (dk_at dksX2_behindOne_3 8 rfl rfl)
theorem dX2_behindOne_79 : decode cX2_behindOne 79 = .ok (.invokevirtual 189, 3) := dk_182 0 189 (dk_at dksX2_behindOne_3 9 rfl rfl)
theorem dX2_behindOne_82 : decode cX2_behindOne 82 = .ok (.aload_n 0, 1) := dk_42 (dk_at dksX2_behindOne_3 12 rfl rfl)
theorem dX2_behindOne_83 : decode cX2_behindOne 83 = .ok (.invokevirtual 177, 3) := dk_182 0 177 (dk_at dksX2_behindOne_3 13 rfl rfl)
theorem dX2_behindOne_86 : decode cX2_behindOne 86 = .ok (.iload_n 3, 1) := dk_29 (dk_at dksX2_behindOne_3 16 rfl rfl)
theorem dX2_behindOne_87 : decode cX2_behindOne 87 = .ok (.ifCond .le 20, 3) := dk_158 0 20 (dk_at dksX2_behindOne_3 17 rfl rfl)
theorem dX2_behindOne_90 : decode cX2_behindOne 90 = .ok (.aload_n 0, 1) := dk_42 (dk_at dksX2_behindOne_3 20 rfl rfl)
theorem dX2_behindOne_91 : decode cX2_behindOne 91 = .ok (.getfield 29, 3) := dk_180 0 29 (dk_at dksX2_behindOne_3 21 rfl rfl)
theorem dX2_behindOne_94 : decode cX2_behindOne 94 = .ok (.aload_n 0, 1) := dk_42 (dk_at dksX2_behindOne_4 0 rfl rfl)
theorem dX2_behindOne_95 : decode cX2_behindOne 95 = .ok (.invokevirtual 170, 3) := dk_182 0 170 (dk_at dksX2_behindOne_4 1 rfl rfl)
theorem dX2_behindOne_98 : decode cX2_behindOne 98 = .ok (.iload_n 3, 1) := dk_29 (dk_at dksX2_behindOne_4 4 rfl rfl)
theorem dX2_behindOne_99 : decode cX2_behindOne 99 = .ok (.iastore, 1) := dk_79 (dk_at dksX2_behindOne_4 5 rfl rfl)
theorem dX2_behindOne_100 : decode cX2_behindOne 100 = .ok (.aload_n 0, 1) := dk_42 (dk_at dksX2_behindOne_4 6 rfl rfl)
theorem dX2_behindOne_101 : decode cX2_behindOne 101 = .ok (.iconst 0, 1) := dk_3 (dk_at dksX2_behindOne_4 7 rfl rfl)
theorem dX2_behindOne_102 : decode cX2_behindOne 102 = .ok (.putfield 186, 3) := dk_181 0 186 (dk_at dksX2_behindOne_4 8 rfl rfl)
theorem dX2_behindOne_105 : decode cX2_behindOne 105 = .ok (.iconst 1, 1) := dk_4 (dk_at dksX2_behindOne_4 11 rfl rfl)
theorem dX2_behindOne_106 : decode cX2_behindOne 106 = .ok (.ireturn, 1) := dk_172 (dk_at dksX2_behindOne_4 12 rfl rfl)
theorem dX2_behindOne_107 : decode cX2_behindOne 107 = .ok (.aload_n 0, 1) := dk_42 (dk_at dksX2_behindOne_4 13 rfl rfl)
theorem dX2_behindOne_108 : decode cX2_behindOne 108 = .ok (.dup, 1) := dk_89 (dk_at dksX2_behindOne_4 14 rfl rfl)
theorem dX2_behindOne_109 : decode cX2_behindOne 109 = .ok (.getfield 167, 3) := dk_180 0 167 (dk_at dksX2_behindOne_4 15 rfl rfl)
theorem dX2_behindOne_112 : decode cX2_behindOne 112 = .ok (.iconst 1, 1) := dk_4 (dk_at dksX2_behindOne_4 18 rfl rfl)
theorem dX2_behindOne_113 : decode cX2_behindOne 113 = .ok (.isub, 1) := dk_100 (dk_at dksX2_behindOne_4 19 rfl rfl)
theorem dX2_behindOne_114 : decode cX2_behindOne 114 = .ok (.putfield 167, 3) := dk_181 0 167 (dk_at dksX2_behindOne_4 20 rfl rfl)
theorem dX2_behindOne_117 : decode cX2_behindOne 117 = .ok (.aload_n 0, 1) := dk_42 (dk_at dksX2_behindOne_4 23 rfl rfl)
theorem dX2_behindOne_118 : decode cX2_behindOne 118 = .ok (.dup, 1) := dk_89 (dk_at dksX2_behindOne_5 0 rfl rfl)
theorem dX2_behindOne_119 : decode cX2_behindOne 119 = .ok (.getfield 157, 3) := dk_180 0 157 (dk_at dksX2_behindOne_5 1 rfl rfl)
theorem dX2_behindOne_122 : decode cX2_behindOne 122 = .ok (.iconst 1, 1) := dk_4 (dk_at dksX2_behindOne_5 4 rfl rfl)
theorem dX2_behindOne_123 : decode cX2_behindOne 123 = .ok (.isub, 1) := dk_100 (dk_at dksX2_behindOne_5 5 rfl rfl)
theorem dX2_behindOne_124 : decode cX2_behindOne 124 = .ok (.putfield 157, 3) := dk_181 0 157 (dk_at dksX2_behindOne_5 6 rfl rfl)
theorem dX2_behindOne_127 : decode cX2_behindOne 127 = .ok (.iload_n 2, 1) := dk_28 (dk_at dksX2_behindOne_5 9 rfl rfl)
theorem dX2_behindOne_128 : decode cX2_behindOne 128 = .ok (.bipush 43, 2) := dk_16 43 (dk_at dksX2_behindOne_5 10 rfl rfl)
theorem dX2_behindOne_130 : decode cX2_behindOne 130 = .ok (.if_icmp .ne 9, 3) := dk_160 0 9 (dk_at dksX2_behindOne_5 12 rfl rfl)
theorem dX2_behindOne_133 : decode cX2_behindOne 133 = .ok (.aload_n 0, 1) := dk_42 (dk_at dksX2_behindOne_5 15 rfl rfl)
theorem dX2_behindOne_134 : decode cX2_behindOne 134 = .ok (.iconst 4, 1) := dk_7 (dk_at dksX2_behindOne_5 16 rfl rfl)
theorem dX2_behindOne_135 : decode cX2_behindOne 135 = .ok (.iconst 0, 1) := dk_3 (dk_at dksX2_behindOne_5 17 rfl rfl)
theorem dX2_behindOne_136 : decode cX2_behindOne 136 = .ok (.invokevirtual 163, 3) := dk_182 0 163 (dk_at dksX2_behindOne_5 18 rfl rfl)
theorem dX2_behindOne_139 : decode cX2_behindOne 139 = .ok (.aload_n 0, 1) := dk_42 (dk_at dksX2_behindOne_5 21 rfl rfl)
theorem dX2_behindOne_140 : decode cX2_behindOne 140 = .ok (.bipush 7, 2) := dk_16 7 (dk_at dksX2_behindOne_5 22 rfl rfl)
theorem dX2_behindOne_142 : decode cX2_behindOne 142 = .ok (.invokevirtual 189, 3) := dk_182 0 189 (dk_at dksX2_behindOne_6 0 rfl rfl)
theorem dX2_behindOne_145 : decode cX2_behindOne 145 = .ok (.iconst 1, 1) := dk_4 (dk_at dksX2_behindOne_6 3 rfl rfl)
theorem dX2_behindOne_146 : decode cX2_behindOne 146 = .ok (.ireturn, 1) := dk_172 (dk_at dksX2_behindOne_6 4 rfl rfl)
abbrev cX2_betweenOf : ByteArray := prog_20_method_43_code
def yX2_betweenOf : MethodName := ⟨RX2, "betweenOf", "()I"⟩
def dkwX2_betweenOf_4 : List UInt8 := [16, 114, 184, 0, 128, 182, 0, 195, 153, 0, 8, 16, 22, 167, 0, 4, 2, 172]
abbrev dktX2_betweenOf_4 : List UInt8 := dkwX2_betweenOf_4 ++ []
def dkwX2_betweenOf_3 : List UInt8 := [16, 97, 16, 110, 16, 100, 184, 0, 132, 182, 0, 195, 153, 0, 8, 16, 21, 167, 0, 23, 42, 16, 111]
abbrev dktX2_betweenOf_3 : List UInt8 := dkwX2_betweenOf_3 ++ dktX2_betweenOf_4
def dkwX2_betweenOf_2 : List UInt8 := [42, 182, 0, 174, 16, 41, 159, 0, 5, 2, 172, 42, 182, 0, 203, 154, 0, 8, 42, 182, 0, 206, 172, 42]
abbrev dktX2_betweenOf_2 : List UInt8 := dkwX2_betweenOf_2 ++ dktX2_betweenOf_3
def dkwX2_betweenOf_1 : List UInt8 := [42, 180, 0, 106, 16, 42, 160, 0, 6, 16, 8, 172, 42, 180, 0, 106, 16, 47, 160, 0, 6, 16, 9, 172]
abbrev dktX2_betweenOf_1 : List UInt8 := dkwX2_betweenOf_1 ++ dktX2_betweenOf_2
def dkwX2_betweenOf_0 : List UInt8 := [42, 180, 0, 106, 16, 43, 160, 0, 6, 16, 6, 172, 42, 180, 0, 106, 16, 45, 160, 0, 6, 16, 7, 172]
abbrev dktX2_betweenOf_0 : List UInt8 := dkwX2_betweenOf_0 ++ dktX2_betweenOf_1
theorem dksX2_betweenOf_0 : cX2_betweenOf.data.toList.drop 0 = dktX2_betweenOf_0 := by decide +kernel
theorem dksX2_betweenOf_1 : cX2_betweenOf.data.toList.drop 24 = dktX2_betweenOf_1 := dk_seg dksX2_betweenOf_0 24 rfl rfl
theorem dksX2_betweenOf_2 : cX2_betweenOf.data.toList.drop 48 = dktX2_betweenOf_2 := dk_seg dksX2_betweenOf_1 24 rfl rfl
theorem dksX2_betweenOf_3 : cX2_betweenOf.data.toList.drop 72 = dktX2_betweenOf_3 := dk_seg dksX2_betweenOf_2 24 rfl rfl
theorem dksX2_betweenOf_4 : cX2_betweenOf.data.toList.drop 95 = dktX2_betweenOf_4 := dk_seg dksX2_betweenOf_3 23 rfl rfl
theorem dX2_betweenOf_0 : decode cX2_betweenOf 0 = .ok (.aload_n 0, 1) := dk_42 (dk_at dksX2_betweenOf_0 0 rfl rfl)
theorem dX2_betweenOf_1 : decode cX2_betweenOf 1 = .ok (.getfield 106, 3) := dk_180 0 106 (dk_at dksX2_betweenOf_0 1 rfl rfl)
theorem dX2_betweenOf_4 : decode cX2_betweenOf 4 = .ok (.bipush 43, 2) := dk_16 43 (dk_at dksX2_betweenOf_0 4 rfl rfl)
theorem dX2_betweenOf_6 : decode cX2_betweenOf 6 = .ok (.if_icmp .ne 6, 3) := dk_160 0 6 (dk_at dksX2_betweenOf_0 6 rfl rfl)
theorem dX2_betweenOf_9 : decode cX2_betweenOf 9 = .ok (.bipush 6, 2) := dk_16 6 (dk_at dksX2_betweenOf_0 9 rfl rfl)
theorem dX2_betweenOf_11 : decode cX2_betweenOf 11 = .ok (.ireturn, 1) := dk_172 (dk_at dksX2_betweenOf_0 11 rfl rfl)
theorem dX2_betweenOf_12 : decode cX2_betweenOf 12 = .ok (.aload_n 0, 1) := dk_42 (dk_at dksX2_betweenOf_0 12 rfl rfl)
theorem dX2_betweenOf_13 : decode cX2_betweenOf 13 = .ok (.getfield 106, 3) := dk_180 0 106 (dk_at dksX2_betweenOf_0 13 rfl rfl)
theorem dX2_betweenOf_16 : decode cX2_betweenOf 16 = .ok (.bipush 45, 2) := dk_16 45 (dk_at dksX2_betweenOf_0 16 rfl rfl)
theorem dX2_betweenOf_18 : decode cX2_betweenOf 18 = .ok (.if_icmp .ne 6, 3) := dk_160 0 6 (dk_at dksX2_betweenOf_0 18 rfl rfl)
theorem dX2_betweenOf_21 : decode cX2_betweenOf 21 = .ok (.bipush 7, 2) := dk_16 7 (dk_at dksX2_betweenOf_0 21 rfl rfl)
theorem dX2_betweenOf_23 : decode cX2_betweenOf 23 = .ok (.ireturn, 1) := dk_172 (dk_at dksX2_betweenOf_0 23 rfl rfl)
theorem dX2_betweenOf_24 : decode cX2_betweenOf 24 = .ok (.aload_n 0, 1) := dk_42 (dk_at dksX2_betweenOf_1 0 rfl rfl)
theorem dX2_betweenOf_25 : decode cX2_betweenOf 25 = .ok (.getfield 106, 3) := dk_180 0 106 (dk_at dksX2_betweenOf_1 1 rfl rfl)
theorem dX2_betweenOf_28 : decode cX2_betweenOf 28 = .ok (.bipush 42, 2) := dk_16 42 (dk_at dksX2_betweenOf_1 4 rfl rfl)
theorem dX2_betweenOf_30 : decode cX2_betweenOf 30 = .ok (.if_icmp .ne 6, 3) := dk_160 0 6 (dk_at dksX2_betweenOf_1 6 rfl rfl)
theorem dX2_betweenOf_33 : decode cX2_betweenOf 33 = .ok (.bipush 8, 2) := dk_16 8 (dk_at dksX2_betweenOf_1 9 rfl rfl)
theorem dX2_betweenOf_35 : decode cX2_betweenOf 35 = .ok (.ireturn, 1) := dk_172 (dk_at dksX2_betweenOf_1 11 rfl rfl)
theorem dX2_betweenOf_36 : decode cX2_betweenOf 36 = .ok (.aload_n 0, 1) := dk_42 (dk_at dksX2_betweenOf_1 12 rfl rfl)
theorem dX2_betweenOf_37 : decode cX2_betweenOf 37 = .ok (.getfield 106, 3) := dk_180 0 106 (dk_at dksX2_betweenOf_1 13 rfl rfl)
theorem dX2_betweenOf_40 : decode cX2_betweenOf 40 = .ok (.bipush 47, 2) := dk_16 47 (dk_at dksX2_betweenOf_1 16 rfl rfl)
theorem dX2_betweenOf_42 : decode cX2_betweenOf 42 = .ok (.if_icmp .ne 6, 3) := dk_160 0 6 (dk_at dksX2_betweenOf_1 18 rfl rfl)
theorem dX2_betweenOf_45 : decode cX2_betweenOf 45 = .ok (.bipush 9, 2) := dk_16 9 (dk_at dksX2_betweenOf_1 21 rfl rfl)
theorem dX2_betweenOf_47 : decode cX2_betweenOf 47 = .ok (.ireturn, 1) := dk_172 (dk_at dksX2_betweenOf_1 23 rfl rfl)
theorem dX2_betweenOf_48 : decode cX2_betweenOf 48 = .ok (.aload_n 0, 1) := dk_42 (dk_at dksX2_betweenOf_2 0 rfl rfl)
theorem dX2_betweenOf_49 : decode cX2_betweenOf 49 = .ok (.invokevirtual 174, 3) := dk_182 0 174 (dk_at dksX2_betweenOf_2 1 rfl rfl)
theorem dX2_betweenOf_52 : decode cX2_betweenOf 52 = .ok (.bipush 41, 2) := dk_16 41 (dk_at dksX2_betweenOf_2 4 rfl rfl)
theorem dX2_betweenOf_54 : decode cX2_betweenOf 54 = .ok (.if_icmp .eq 5, 3) := dk_159 0 5 (dk_at dksX2_betweenOf_2 6 rfl rfl)
theorem dX2_betweenOf_57 : decode cX2_betweenOf 57 = .ok (.iconst (-1), 1) := dk_2 (dk_at dksX2_betweenOf_2 9 rfl rfl)
theorem dX2_betweenOf_58 : decode cX2_betweenOf 58 = .ok (.ireturn, 1) := dk_172 (dk_at dksX2_betweenOf_2 10 rfl rfl)
theorem dX2_betweenOf_59 : decode cX2_betweenOf 59 = .ok (.aload_n 0, 1) := dk_42 (dk_at dksX2_betweenOf_2 11 rfl rfl)
theorem dX2_betweenOf_60 : decode cX2_betweenOf 60 = .ok (.invokevirtual 203, 3) := dk_182 0 203 (dk_at dksX2_betweenOf_2 12 rfl rfl)
theorem dX2_betweenOf_63 : decode cX2_betweenOf 63 = .ok (.ifCond .ne 8, 3) := dk_154 0 8 (dk_at dksX2_betweenOf_2 15 rfl rfl)
theorem dX2_betweenOf_66 : decode cX2_betweenOf 66 = .ok (.aload_n 0, 1) := dk_42 (dk_at dksX2_betweenOf_2 18 rfl rfl)
theorem dX2_betweenOf_67 : decode cX2_betweenOf 67 = .ok (.invokevirtual 206, 3) := dk_182 0 206 (dk_at dksX2_betweenOf_2 19 rfl rfl)
theorem dX2_betweenOf_70 : decode cX2_betweenOf 70 = .ok (.ireturn, 1) := dk_172 (dk_at dksX2_betweenOf_2 22 rfl rfl)
theorem dX2_betweenOf_71 : decode cX2_betweenOf 71 = .ok (.aload_n 0, 1) := dk_42 (dk_at dksX2_betweenOf_2 23 rfl rfl)
theorem dX2_betweenOf_72 : decode cX2_betweenOf 72 = .ok (.bipush 97, 2) := dk_16 97 (dk_at dksX2_betweenOf_3 0 rfl rfl)
theorem dX2_betweenOf_74 : decode cX2_betweenOf 74 = .ok (.bipush 110, 2) := dk_16 110 (dk_at dksX2_betweenOf_3 2 rfl rfl)
theorem dX2_betweenOf_76 : decode cX2_betweenOf 76 = .ok (.bipush 100, 2) := dk_16 100 (dk_at dksX2_betweenOf_3 4 rfl rfl)
theorem dX2_betweenOf_78 : decode cX2_betweenOf 78 = .ok (.invokestatic 132, 3) := dk_184 0 132 (dk_at dksX2_betweenOf_3 6 rfl rfl)
theorem dX2_betweenOf_81 : decode cX2_betweenOf 81 = .ok (.invokevirtual 195, 3) := dk_182 0 195 (dk_at dksX2_betweenOf_3 9 rfl rfl)
theorem dX2_betweenOf_84 : decode cX2_betweenOf 84 = .ok (.ifCond .eq 8, 3) := dk_153 0 8 (dk_at dksX2_betweenOf_3 12 rfl rfl)
theorem dX2_betweenOf_87 : decode cX2_betweenOf 87 = .ok (.bipush 21, 2) := dk_16 21 (dk_at dksX2_betweenOf_3 15 rfl rfl)
theorem dX2_betweenOf_89 : decode cX2_betweenOf 89 = .ok (.goto 23, 3) := dk_167 0 23 (dk_at dksX2_betweenOf_3 17 rfl rfl)
theorem dX2_betweenOf_92 : decode cX2_betweenOf 92 = .ok (.aload_n 0, 1) := dk_42 (dk_at dksX2_betweenOf_3 20 rfl rfl)
theorem dX2_betweenOf_93 : decode cX2_betweenOf 93 = .ok (.bipush 111, 2) := dk_16 111 (dk_at dksX2_betweenOf_3 21 rfl rfl)
theorem dX2_betweenOf_95 : decode cX2_betweenOf 95 = .ok (.bipush 114, 2) := dk_16 114 (dk_at dksX2_betweenOf_4 0 rfl rfl)
theorem dX2_betweenOf_97 : decode cX2_betweenOf 97 = .ok (.invokestatic 128, 3) := dk_184 0 128 (dk_at dksX2_betweenOf_4 2 rfl rfl)
theorem dX2_betweenOf_100 : decode cX2_betweenOf 100 = .ok (.invokevirtual 195, 3) := dk_182 0 195 (dk_at dksX2_betweenOf_4 5 rfl rfl)
theorem dX2_betweenOf_103 : decode cX2_betweenOf 103 = .ok (.ifCond .eq 8, 3) := dk_153 0 8 (dk_at dksX2_betweenOf_4 8 rfl rfl)
theorem dX2_betweenOf_106 : decode cX2_betweenOf 106 = .ok (.bipush 22, 2) := dk_16 22 (dk_at dksX2_betweenOf_4 11 rfl rfl)
theorem dX2_betweenOf_108 : decode cX2_betweenOf 108 = .ok (.goto 4, 3) := dk_167 0 4 (dk_at dksX2_betweenOf_4 13 rfl rfl)
theorem dX2_betweenOf_111 : decode cX2_betweenOf 111 = .ok (.iconst (-1), 1) := dk_2 (dk_at dksX2_betweenOf_4 16 rfl rfl)
theorem dX2_betweenOf_112 : decode cX2_betweenOf 112 = .ok (.ireturn, 1) := dk_172 (dk_at dksX2_betweenOf_4 17 rfl rfl)
abbrev cX2_openNow : ByteArray := prog_20_method_37_code
def yX2_openNow : MethodName := ⟨RX2, "openNow", "()I"⟩
def dkwX2_openNow_0 : List UInt8 := [42, 182, 0, 170, 156, 0, 7, 2, 167, 0, 12, 42, 180, 0, 29, 42, 182, 0, 170, 46, 172]
abbrev dktX2_openNow_0 : List UInt8 := dkwX2_openNow_0 ++ []
theorem dksX2_openNow_0 : cX2_openNow.data.toList.drop 0 = dktX2_openNow_0 := by decide +kernel
theorem dX2_openNow_0 : decode cX2_openNow 0 = .ok (.aload_n 0, 1) := dk_42 (dk_at dksX2_openNow_0 0 rfl rfl)
theorem dX2_openNow_1 : decode cX2_openNow 1 = .ok (.invokevirtual 170, 3) := dk_182 0 170 (dk_at dksX2_openNow_0 1 rfl rfl)
theorem dX2_openNow_4 : decode cX2_openNow 4 = .ok (.ifCond .ge 7, 3) := dk_156 0 7 (dk_at dksX2_openNow_0 4 rfl rfl)
theorem dX2_openNow_7 : decode cX2_openNow 7 = .ok (.iconst (-1), 1) := dk_2 (dk_at dksX2_openNow_0 7 rfl rfl)
theorem dX2_openNow_8 : decode cX2_openNow 8 = .ok (.goto 12, 3) := dk_167 0 12 (dk_at dksX2_openNow_0 8 rfl rfl)
theorem dX2_openNow_11 : decode cX2_openNow 11 = .ok (.aload_n 0, 1) := dk_42 (dk_at dksX2_openNow_0 11 rfl rfl)
theorem dX2_openNow_12 : decode cX2_openNow 12 = .ok (.getfield 29, 3) := dk_180 0 29 (dk_at dksX2_openNow_0 12 rfl rfl)
theorem dX2_openNow_15 : decode cX2_openNow 15 = .ok (.aload_n 0, 1) := dk_42 (dk_at dksX2_openNow_0 15 rfl rfl)
theorem dX2_openNow_16 : decode cX2_openNow 16 = .ok (.invokevirtual 170, 3) := dk_182 0 170 (dk_at dksX2_openNow_0 16 rfl rfl)
theorem dX2_openNow_19 : decode cX2_openNow 19 = .ok (.iaload, 1) := dk_46 (dk_at dksX2_openNow_0 19 rfl rfl)
theorem dX2_openNow_20 : decode cX2_openNow 20 = .ok (.ireturn, 1) := dk_172 (dk_at dksX2_openNow_0 20 rfl rfl)
abbrev cX2_openAt : ByteArray := prog_20_method_36_code
def yX2_openAt : MethodName := ⟨RX2, "openAt", "()I"⟩
def dkwX2_openAt_1 : List UInt8 := [132, 1, 255, 167, 255, 238, 27, 172]
abbrev dktX2_openAt_1 : List UInt8 := dkwX2_openAt_1 ++ []
def dkwX2_openAt_0 : List UInt8 := [42, 180, 0, 157, 4, 100, 60, 27, 155, 0, 20, 42, 180, 0, 29, 27, 46, 16, 40, 162, 0, 9]
abbrev dktX2_openAt_0 : List UInt8 := dkwX2_openAt_0 ++ dktX2_openAt_1
theorem dksX2_openAt_0 : cX2_openAt.data.toList.drop 0 = dktX2_openAt_0 := by decide +kernel
theorem dksX2_openAt_1 : cX2_openAt.data.toList.drop 22 = dktX2_openAt_1 := dk_seg dksX2_openAt_0 22 rfl rfl
theorem dX2_openAt_0 : decode cX2_openAt 0 = .ok (.aload_n 0, 1) := dk_42 (dk_at dksX2_openAt_0 0 rfl rfl)
theorem dX2_openAt_1 : decode cX2_openAt 1 = .ok (.getfield 157, 3) := dk_180 0 157 (dk_at dksX2_openAt_0 1 rfl rfl)
theorem dX2_openAt_4 : decode cX2_openAt 4 = .ok (.iconst 1, 1) := dk_4 (dk_at dksX2_openAt_0 4 rfl rfl)
theorem dX2_openAt_5 : decode cX2_openAt 5 = .ok (.isub, 1) := dk_100 (dk_at dksX2_openAt_0 5 rfl rfl)
theorem dX2_openAt_6 : decode cX2_openAt 6 = .ok (.istore_n 1, 1) := dk_60 (dk_at dksX2_openAt_0 6 rfl rfl)
theorem dX2_openAt_7 : decode cX2_openAt 7 = .ok (.iload_n 1, 1) := dk_27 (dk_at dksX2_openAt_0 7 rfl rfl)
theorem dX2_openAt_8 : decode cX2_openAt 8 = .ok (.ifCond .lt 20, 3) := dk_155 0 20 (dk_at dksX2_openAt_0 8 rfl rfl)
theorem dX2_openAt_11 : decode cX2_openAt 11 = .ok (.aload_n 0, 1) := dk_42 (dk_at dksX2_openAt_0 11 rfl rfl)
theorem dX2_openAt_12 : decode cX2_openAt 12 = .ok (.getfield 29, 3) := dk_180 0 29 (dk_at dksX2_openAt_0 12 rfl rfl)
theorem dX2_openAt_15 : decode cX2_openAt 15 = .ok (.iload_n 1, 1) := dk_27 (dk_at dksX2_openAt_0 15 rfl rfl)
theorem dX2_openAt_16 : decode cX2_openAt 16 = .ok (.iaload, 1) := dk_46 (dk_at dksX2_openAt_0 16 rfl rfl)
theorem dX2_openAt_17 : decode cX2_openAt 17 = .ok (.bipush 40, 2) := dk_16 40 (dk_at dksX2_openAt_0 17 rfl rfl)
theorem dX2_openAt_19 : decode cX2_openAt 19 = .ok (.if_icmp .ge 9, 3) := dk_162 0 9 (dk_at dksX2_openAt_0 19 rfl rfl)
theorem dX2_openAt_22 : decode cX2_openAt 22 = .ok (.iinc 1 (-1), 3) := dk_132 1 255 (dk_at dksX2_openAt_1 0 rfl rfl)
theorem dX2_openAt_25 : decode cX2_openAt 25 = .ok (.goto (-18), 3) := dk_167 255 238 (dk_at dksX2_openAt_1 3 rfl rfl)
theorem dX2_openAt_28 : decode cX2_openAt 28 = .ok (.iload_n 1, 1) := dk_27 (dk_at dksX2_openAt_1 6 rfl rfl)
theorem dX2_openAt_29 : decode cX2_openAt 29 = .ok (.ireturn, 1) := dk_172 (dk_at dksX2_openAt_1 7 rfl rfl)
abbrev cX2_isCompared : ByteArray := prog_20_method_38_code
def yX2_isCompared : MethodName := ⟨RX2, "isCompared", "()Z"⟩
def dkwX2_isCompared_2 : List UInt8 := [167, 0, 4, 3, 172]
abbrev dktX2_isCompared_2 : List UInt8 := dkwX2_isCompared_2 ++ []
def dkwX2_isCompared_1 : List UInt8 := [132, 1, 255, 167, 255, 236, 27, 155, 0, 20, 42, 180, 0, 29, 27, 46, 184, 0, 160, 7, 160, 0, 7, 4]
abbrev dktX2_isCompared_1 : List UInt8 := dkwX2_isCompared_1 ++ dktX2_isCompared_2
def dkwX2_isCompared_0 : List UInt8 := [42, 180, 0, 157, 4, 100, 60, 27, 155, 0, 22, 42, 180, 0, 29, 27, 46, 184, 0, 160, 7, 164, 0, 9]
abbrev dktX2_isCompared_0 : List UInt8 := dkwX2_isCompared_0 ++ dktX2_isCompared_1
theorem dksX2_isCompared_0 : cX2_isCompared.data.toList.drop 0 = dktX2_isCompared_0 := by decide +kernel
theorem dksX2_isCompared_1 : cX2_isCompared.data.toList.drop 24 = dktX2_isCompared_1 := dk_seg dksX2_isCompared_0 24 rfl rfl
theorem dksX2_isCompared_2 : cX2_isCompared.data.toList.drop 48 = dktX2_isCompared_2 := dk_seg dksX2_isCompared_1 24 rfl rfl
theorem dX2_isCompared_0 : decode cX2_isCompared 0 = .ok (.aload_n 0, 1) := dk_42 (dk_at dksX2_isCompared_0 0 rfl rfl)
theorem dX2_isCompared_1 : decode cX2_isCompared 1 = .ok (.getfield 157, 3) := dk_180 0 157 (dk_at dksX2_isCompared_0 1 rfl rfl)
theorem dX2_isCompared_4 : decode cX2_isCompared 4 = .ok (.iconst 1, 1) := dk_4 (dk_at dksX2_isCompared_0 4 rfl rfl)
theorem dX2_isCompared_5 : decode cX2_isCompared 5 = .ok (.isub, 1) := dk_100 (dk_at dksX2_isCompared_0 5 rfl rfl)
theorem dX2_isCompared_6 : decode cX2_isCompared 6 = .ok (.istore_n 1, 1) := dk_60 (dk_at dksX2_isCompared_0 6 rfl rfl)
theorem dX2_isCompared_7 : decode cX2_isCompared 7 = .ok (.iload_n 1, 1) := dk_27 (dk_at dksX2_isCompared_0 7 rfl rfl)
theorem dX2_isCompared_8 : decode cX2_isCompared 8 = .ok (.ifCond .lt 22, 3) := dk_155 0 22 (dk_at dksX2_isCompared_0 8 rfl rfl)
theorem dX2_isCompared_11 : decode cX2_isCompared 11 = .ok (.aload_n 0, 1) := dk_42 (dk_at dksX2_isCompared_0 11 rfl rfl)
theorem dX2_isCompared_12 : decode cX2_isCompared 12 = .ok (.getfield 29, 3) := dk_180 0 29 (dk_at dksX2_isCompared_0 12 rfl rfl)
theorem dX2_isCompared_15 : decode cX2_isCompared 15 = .ok (.iload_n 1, 1) := dk_27 (dk_at dksX2_isCompared_0 15 rfl rfl)
theorem dX2_isCompared_16 : decode cX2_isCompared 16 = .ok (.iaload, 1) := dk_46 (dk_at dksX2_isCompared_0 16 rfl rfl)
theorem dX2_isCompared_17 : decode cX2_isCompared 17 = .ok (.invokestatic 160, 3) := dk_184 0 160 (dk_at dksX2_isCompared_0 17 rfl rfl)
theorem dX2_isCompared_20 : decode cX2_isCompared 20 = .ok (.iconst 4, 1) := dk_7 (dk_at dksX2_isCompared_0 20 rfl rfl)
theorem dX2_isCompared_21 : decode cX2_isCompared 21 = .ok (.if_icmp .le 9, 3) := dk_164 0 9 (dk_at dksX2_isCompared_0 21 rfl rfl)
theorem dX2_isCompared_24 : decode cX2_isCompared 24 = .ok (.iinc 1 (-1), 3) := dk_132 1 255 (dk_at dksX2_isCompared_1 0 rfl rfl)
theorem dX2_isCompared_27 : decode cX2_isCompared 27 = .ok (.goto (-20), 3) := dk_167 255 236 (dk_at dksX2_isCompared_1 3 rfl rfl)
theorem dX2_isCompared_30 : decode cX2_isCompared 30 = .ok (.iload_n 1, 1) := dk_27 (dk_at dksX2_isCompared_1 6 rfl rfl)
theorem dX2_isCompared_31 : decode cX2_isCompared 31 = .ok (.ifCond .lt 20, 3) := dk_155 0 20 (dk_at dksX2_isCompared_1 7 rfl rfl)
theorem dX2_isCompared_34 : decode cX2_isCompared 34 = .ok (.aload_n 0, 1) := dk_42 (dk_at dksX2_isCompared_1 10 rfl rfl)
theorem dX2_isCompared_35 : decode cX2_isCompared 35 = .ok (.getfield 29, 3) := dk_180 0 29 (dk_at dksX2_isCompared_1 11 rfl rfl)
theorem dX2_isCompared_38 : decode cX2_isCompared 38 = .ok (.iload_n 1, 1) := dk_27 (dk_at dksX2_isCompared_1 14 rfl rfl)
theorem dX2_isCompared_39 : decode cX2_isCompared 39 = .ok (.iaload, 1) := dk_46 (dk_at dksX2_isCompared_1 15 rfl rfl)
theorem dX2_isCompared_40 : decode cX2_isCompared 40 = .ok (.invokestatic 160, 3) := dk_184 0 160 (dk_at dksX2_isCompared_1 16 rfl rfl)
theorem dX2_isCompared_43 : decode cX2_isCompared 43 = .ok (.iconst 4, 1) := dk_7 (dk_at dksX2_isCompared_1 19 rfl rfl)
theorem dX2_isCompared_44 : decode cX2_isCompared 44 = .ok (.if_icmp .ne 7, 3) := dk_160 0 7 (dk_at dksX2_isCompared_1 20 rfl rfl)
theorem dX2_isCompared_47 : decode cX2_isCompared 47 = .ok (.iconst 1, 1) := dk_4 (dk_at dksX2_isCompared_1 23 rfl rfl)
theorem dX2_isCompared_48 : decode cX2_isCompared 48 = .ok (.goto 4, 3) := dk_167 0 4 (dk_at dksX2_isCompared_2 0 rfl rfl)
theorem dX2_isCompared_51 : decode cX2_isCompared 51 = .ok (.iconst 0, 1) := dk_3 (dk_at dksX2_isCompared_2 3 rfl rfl)
theorem dX2_isCompared_52 : decode cX2_isCompared 52 = .ok (.ireturn, 1) := dk_172 (dk_at dksX2_isCompared_2 4 rfl rfl)
abbrev cX2_rank : ByteArray := prog_20_method_34_code
def yX2_rank : MethodName := ⟨RX2, "rank", "(I)I"⟩
def dkwX2_rank_3 : List UInt8 := [16, 8, 161, 0, 8, 16, 6, 167, 0, 4, 8, 172]
abbrev dktX2_rank_3 : List UInt8 := dkwX2_rank_3 ++ []
def dkwX2_rank_2 : List UInt8 := [167, 0, 35, 26, 8, 159, 0, 13, 26, 5, 159, 0, 8, 26, 6, 160, 0, 8, 16, 7, 167, 0, 15, 26]
abbrev dktX2_rank_2 : List UInt8 := dkwX2_rank_2 ++ dktX2_rank_3
def dkwX2_rank_1 : List UInt8 := [160, 0, 7, 5, 167, 0, 55, 26, 16, 20, 160, 0, 7, 6, 167, 0, 45, 26, 16, 10, 161, 0, 7, 7]
abbrev dktX2_rank_1 : List UInt8 := dkwX2_rank_1 ++ dktX2_rank_2
def dkwX2_rank_0 : List UInt8 := [26, 16, 40, 161, 0, 7, 3, 167, 0, 75, 26, 16, 22, 160, 0, 7, 4, 167, 0, 65, 26, 16, 21]
abbrev dktX2_rank_0 : List UInt8 := dkwX2_rank_0 ++ dktX2_rank_1
theorem dksX2_rank_0 : cX2_rank.data.toList.drop 0 = dktX2_rank_0 := by decide +kernel
theorem dksX2_rank_1 : cX2_rank.data.toList.drop 23 = dktX2_rank_1 := dk_seg dksX2_rank_0 23 rfl rfl
theorem dksX2_rank_2 : cX2_rank.data.toList.drop 47 = dktX2_rank_2 := dk_seg dksX2_rank_1 24 rfl rfl
theorem dksX2_rank_3 : cX2_rank.data.toList.drop 71 = dktX2_rank_3 := dk_seg dksX2_rank_2 24 rfl rfl
theorem dX2_rank_0 : decode cX2_rank 0 = .ok (.iload_n 0, 1) := dk_26 (dk_at dksX2_rank_0 0 rfl rfl)
theorem dX2_rank_1 : decode cX2_rank 1 = .ok (.bipush 40, 2) := dk_16 40 (dk_at dksX2_rank_0 1 rfl rfl)
theorem dX2_rank_3 : decode cX2_rank 3 = .ok (.if_icmp .lt 7, 3) := dk_161 0 7 (dk_at dksX2_rank_0 3 rfl rfl)
theorem dX2_rank_6 : decode cX2_rank 6 = .ok (.iconst 0, 1) := dk_3 (dk_at dksX2_rank_0 6 rfl rfl)
theorem dX2_rank_7 : decode cX2_rank 7 = .ok (.goto 75, 3) := dk_167 0 75 (dk_at dksX2_rank_0 7 rfl rfl)
theorem dX2_rank_10 : decode cX2_rank 10 = .ok (.iload_n 0, 1) := dk_26 (dk_at dksX2_rank_0 10 rfl rfl)
theorem dX2_rank_11 : decode cX2_rank 11 = .ok (.bipush 22, 2) := dk_16 22 (dk_at dksX2_rank_0 11 rfl rfl)
theorem dX2_rank_13 : decode cX2_rank 13 = .ok (.if_icmp .ne 7, 3) := dk_160 0 7 (dk_at dksX2_rank_0 13 rfl rfl)
theorem dX2_rank_16 : decode cX2_rank 16 = .ok (.iconst 1, 1) := dk_4 (dk_at dksX2_rank_0 16 rfl rfl)
theorem dX2_rank_17 : decode cX2_rank 17 = .ok (.goto 65, 3) := dk_167 0 65 (dk_at dksX2_rank_0 17 rfl rfl)
theorem dX2_rank_20 : decode cX2_rank 20 = .ok (.iload_n 0, 1) := dk_26 (dk_at dksX2_rank_0 20 rfl rfl)
theorem dX2_rank_21 : decode cX2_rank 21 = .ok (.bipush 21, 2) := dk_16 21 (dk_at dksX2_rank_0 21 rfl rfl)
theorem dX2_rank_23 : decode cX2_rank 23 = .ok (.if_icmp .ne 7, 3) := dk_160 0 7 (dk_at dksX2_rank_1 0 rfl rfl)
theorem dX2_rank_26 : decode cX2_rank 26 = .ok (.iconst 2, 1) := dk_5 (dk_at dksX2_rank_1 3 rfl rfl)
theorem dX2_rank_27 : decode cX2_rank 27 = .ok (.goto 55, 3) := dk_167 0 55 (dk_at dksX2_rank_1 4 rfl rfl)
theorem dX2_rank_30 : decode cX2_rank 30 = .ok (.iload_n 0, 1) := dk_26 (dk_at dksX2_rank_1 7 rfl rfl)
theorem dX2_rank_31 : decode cX2_rank 31 = .ok (.bipush 20, 2) := dk_16 20 (dk_at dksX2_rank_1 8 rfl rfl)
theorem dX2_rank_33 : decode cX2_rank 33 = .ok (.if_icmp .ne 7, 3) := dk_160 0 7 (dk_at dksX2_rank_1 10 rfl rfl)
theorem dX2_rank_36 : decode cX2_rank 36 = .ok (.iconst 3, 1) := dk_6 (dk_at dksX2_rank_1 13 rfl rfl)
theorem dX2_rank_37 : decode cX2_rank 37 = .ok (.goto 45, 3) := dk_167 0 45 (dk_at dksX2_rank_1 14 rfl rfl)
theorem dX2_rank_40 : decode cX2_rank 40 = .ok (.iload_n 0, 1) := dk_26 (dk_at dksX2_rank_1 17 rfl rfl)
theorem dX2_rank_41 : decode cX2_rank 41 = .ok (.bipush 10, 2) := dk_16 10 (dk_at dksX2_rank_1 18 rfl rfl)
theorem dX2_rank_43 : decode cX2_rank 43 = .ok (.if_icmp .lt 7, 3) := dk_161 0 7 (dk_at dksX2_rank_1 20 rfl rfl)
theorem dX2_rank_46 : decode cX2_rank 46 = .ok (.iconst 4, 1) := dk_7 (dk_at dksX2_rank_1 23 rfl rfl)
theorem dX2_rank_47 : decode cX2_rank 47 = .ok (.goto 35, 3) := dk_167 0 35 (dk_at dksX2_rank_2 0 rfl rfl)
theorem dX2_rank_50 : decode cX2_rank 50 = .ok (.iload_n 0, 1) := dk_26 (dk_at dksX2_rank_2 3 rfl rfl)
theorem dX2_rank_51 : decode cX2_rank 51 = .ok (.iconst 5, 1) := dk_8 (dk_at dksX2_rank_2 4 rfl rfl)
theorem dX2_rank_52 : decode cX2_rank 52 = .ok (.if_icmp .eq 13, 3) := dk_159 0 13 (dk_at dksX2_rank_2 5 rfl rfl)
theorem dX2_rank_55 : decode cX2_rank 55 = .ok (.iload_n 0, 1) := dk_26 (dk_at dksX2_rank_2 8 rfl rfl)
theorem dX2_rank_56 : decode cX2_rank 56 = .ok (.iconst 2, 1) := dk_5 (dk_at dksX2_rank_2 9 rfl rfl)
theorem dX2_rank_57 : decode cX2_rank 57 = .ok (.if_icmp .eq 8, 3) := dk_159 0 8 (dk_at dksX2_rank_2 10 rfl rfl)
theorem dX2_rank_60 : decode cX2_rank 60 = .ok (.iload_n 0, 1) := dk_26 (dk_at dksX2_rank_2 13 rfl rfl)
theorem dX2_rank_61 : decode cX2_rank 61 = .ok (.iconst 3, 1) := dk_6 (dk_at dksX2_rank_2 14 rfl rfl)
theorem dX2_rank_62 : decode cX2_rank 62 = .ok (.if_icmp .ne 8, 3) := dk_160 0 8 (dk_at dksX2_rank_2 15 rfl rfl)
theorem dX2_rank_65 : decode cX2_rank 65 = .ok (.bipush 7, 2) := dk_16 7 (dk_at dksX2_rank_2 18 rfl rfl)
theorem dX2_rank_67 : decode cX2_rank 67 = .ok (.goto 15, 3) := dk_167 0 15 (dk_at dksX2_rank_2 20 rfl rfl)
theorem dX2_rank_70 : decode cX2_rank 70 = .ok (.iload_n 0, 1) := dk_26 (dk_at dksX2_rank_2 23 rfl rfl)
theorem dX2_rank_71 : decode cX2_rank 71 = .ok (.bipush 8, 2) := dk_16 8 (dk_at dksX2_rank_3 0 rfl rfl)
theorem dX2_rank_73 : decode cX2_rank 73 = .ok (.if_icmp .lt 8, 3) := dk_161 0 8 (dk_at dksX2_rank_3 2 rfl rfl)
theorem dX2_rank_76 : decode cX2_rank 76 = .ok (.bipush 6, 2) := dk_16 6 (dk_at dksX2_rank_3 5 rfl rfl)
theorem dX2_rank_78 : decode cX2_rank 78 = .ok (.goto 4, 3) := dk_167 0 4 (dk_at dksX2_rank_3 7 rfl rfl)
theorem dX2_rank_81 : decode cX2_rank 81 = .ok (.iconst 5, 1) := dk_8 (dk_at dksX2_rank_3 10 rfl rfl)
theorem dX2_rank_82 : decode cX2_rank 82 = .ok (.ireturn, 1) := dk_172 (dk_at dksX2_rank_3 11 rfl rfl)
abbrev cX2_compareOf : ByteArray := prog_20_method_42_code
def yX2_compareOf : MethodName := ⟨RX2, "compareOf", "()I"⟩
def dkwX2_compareOf_3 : List UInt8 := [180, 0, 106, 16, 35, 160, 0, 8, 16, 15, 167, 0, 4, 2, 172]
abbrev dktX2_compareOf_3 : List UInt8 := dkwX2_compareOf_3 ++ []
def dkwX2_compareOf_2 : List UInt8 := [160, 0, 8, 16, 13, 167, 0, 32, 42, 180, 0, 106, 16, 61, 160, 0, 8, 16, 14, 167, 0, 18, 42]
abbrev dktX2_compareOf_2 : List UInt8 := dkwX2_compareOf_2 ++ dktX2_compareOf_3
def dkwX2_compareOf_1 : List UInt8 := [167, 0, 59, 42, 180, 0, 106, 16, 62, 160, 0, 8, 16, 12, 167, 0, 45, 42, 180, 0, 106, 8]
abbrev dktX2_compareOf_1 : List UInt8 := dkwX2_compareOf_1 ++ dktX2_compareOf_2
def dkwX2_compareOf_0 : List UInt8 := [42, 180, 0, 106, 16, 60, 160, 0, 8, 16, 10, 167, 0, 72, 42, 180, 0, 106, 7, 160, 0, 8, 16, 11]
abbrev dktX2_compareOf_0 : List UInt8 := dkwX2_compareOf_0 ++ dktX2_compareOf_1
theorem dksX2_compareOf_0 : cX2_compareOf.data.toList.drop 0 = dktX2_compareOf_0 := by decide +kernel
theorem dksX2_compareOf_1 : cX2_compareOf.data.toList.drop 24 = dktX2_compareOf_1 := dk_seg dksX2_compareOf_0 24 rfl rfl
theorem dksX2_compareOf_2 : cX2_compareOf.data.toList.drop 46 = dktX2_compareOf_2 := dk_seg dksX2_compareOf_1 22 rfl rfl
theorem dksX2_compareOf_3 : cX2_compareOf.data.toList.drop 69 = dktX2_compareOf_3 := dk_seg dksX2_compareOf_2 23 rfl rfl
theorem dX2_compareOf_0 : decode cX2_compareOf 0 = .ok (.aload_n 0, 1) := dk_42 (dk_at dksX2_compareOf_0 0 rfl rfl)
theorem dX2_compareOf_1 : decode cX2_compareOf 1 = .ok (.getfield 106, 3) := dk_180 0 106 (dk_at dksX2_compareOf_0 1 rfl rfl)
theorem dX2_compareOf_4 : decode cX2_compareOf 4 = .ok (.bipush 60, 2) := dk_16 60 (dk_at dksX2_compareOf_0 4 rfl rfl)
theorem dX2_compareOf_6 : decode cX2_compareOf 6 = .ok (.if_icmp .ne 8, 3) := dk_160 0 8 (dk_at dksX2_compareOf_0 6 rfl rfl)
theorem dX2_compareOf_9 : decode cX2_compareOf 9 = .ok (.bipush 10, 2) := dk_16 10 (dk_at dksX2_compareOf_0 9 rfl rfl)
theorem dX2_compareOf_11 : decode cX2_compareOf 11 = .ok (.goto 72, 3) := dk_167 0 72 (dk_at dksX2_compareOf_0 11 rfl rfl)
theorem dX2_compareOf_14 : decode cX2_compareOf 14 = .ok (.aload_n 0, 1) := dk_42 (dk_at dksX2_compareOf_0 14 rfl rfl)
theorem dX2_compareOf_15 : decode cX2_compareOf 15 = .ok (.getfield 106, 3) := dk_180 0 106 (dk_at dksX2_compareOf_0 15 rfl rfl)
theorem dX2_compareOf_18 : decode cX2_compareOf 18 = .ok (.iconst 4, 1) := dk_7 (dk_at dksX2_compareOf_0 18 rfl rfl)
theorem dX2_compareOf_19 : decode cX2_compareOf 19 = .ok (.if_icmp .ne 8, 3) := dk_160 0 8 (dk_at dksX2_compareOf_0 19 rfl rfl)
theorem dX2_compareOf_22 : decode cX2_compareOf 22 = .ok (.bipush 11, 2) := dk_16 11 (dk_at dksX2_compareOf_0 22 rfl rfl)
theorem dX2_compareOf_24 : decode cX2_compareOf 24 = .ok (.goto 59, 3) := dk_167 0 59 (dk_at dksX2_compareOf_1 0 rfl rfl)
theorem dX2_compareOf_27 : decode cX2_compareOf 27 = .ok (.aload_n 0, 1) := dk_42 (dk_at dksX2_compareOf_1 3 rfl rfl)
theorem dX2_compareOf_28 : decode cX2_compareOf 28 = .ok (.getfield 106, 3) := dk_180 0 106 (dk_at dksX2_compareOf_1 4 rfl rfl)
theorem dX2_compareOf_31 : decode cX2_compareOf 31 = .ok (.bipush 62, 2) := dk_16 62 (dk_at dksX2_compareOf_1 7 rfl rfl)
theorem dX2_compareOf_33 : decode cX2_compareOf 33 = .ok (.if_icmp .ne 8, 3) := dk_160 0 8 (dk_at dksX2_compareOf_1 9 rfl rfl)
theorem dX2_compareOf_36 : decode cX2_compareOf 36 = .ok (.bipush 12, 2) := dk_16 12 (dk_at dksX2_compareOf_1 12 rfl rfl)
theorem dX2_compareOf_38 : decode cX2_compareOf 38 = .ok (.goto 45, 3) := dk_167 0 45 (dk_at dksX2_compareOf_1 14 rfl rfl)
theorem dX2_compareOf_41 : decode cX2_compareOf 41 = .ok (.aload_n 0, 1) := dk_42 (dk_at dksX2_compareOf_1 17 rfl rfl)
theorem dX2_compareOf_42 : decode cX2_compareOf 42 = .ok (.getfield 106, 3) := dk_180 0 106 (dk_at dksX2_compareOf_1 18 rfl rfl)
theorem dX2_compareOf_45 : decode cX2_compareOf 45 = .ok (.iconst 5, 1) := dk_8 (dk_at dksX2_compareOf_1 21 rfl rfl)
theorem dX2_compareOf_46 : decode cX2_compareOf 46 = .ok (.if_icmp .ne 8, 3) := dk_160 0 8 (dk_at dksX2_compareOf_2 0 rfl rfl)
theorem dX2_compareOf_49 : decode cX2_compareOf 49 = .ok (.bipush 13, 2) := dk_16 13 (dk_at dksX2_compareOf_2 3 rfl rfl)
theorem dX2_compareOf_51 : decode cX2_compareOf 51 = .ok (.goto 32, 3) := dk_167 0 32 (dk_at dksX2_compareOf_2 5 rfl rfl)
theorem dX2_compareOf_54 : decode cX2_compareOf 54 = .ok (.aload_n 0, 1) := dk_42 (dk_at dksX2_compareOf_2 8 rfl rfl)
theorem dX2_compareOf_55 : decode cX2_compareOf 55 = .ok (.getfield 106, 3) := dk_180 0 106 (dk_at dksX2_compareOf_2 9 rfl rfl)
theorem dX2_compareOf_58 : decode cX2_compareOf 58 = .ok (.bipush 61, 2) := dk_16 61 (dk_at dksX2_compareOf_2 12 rfl rfl)
theorem dX2_compareOf_60 : decode cX2_compareOf 60 = .ok (.if_icmp .ne 8, 3) := dk_160 0 8 (dk_at dksX2_compareOf_2 14 rfl rfl)
theorem dX2_compareOf_63 : decode cX2_compareOf 63 = .ok (.bipush 14, 2) := dk_16 14 (dk_at dksX2_compareOf_2 17 rfl rfl)
theorem dX2_compareOf_65 : decode cX2_compareOf 65 = .ok (.goto 18, 3) := dk_167 0 18 (dk_at dksX2_compareOf_2 19 rfl rfl)
theorem dX2_compareOf_68 : decode cX2_compareOf 68 = .ok (.aload_n 0, 1) := dk_42 (dk_at dksX2_compareOf_2 22 rfl rfl)
theorem dX2_compareOf_69 : decode cX2_compareOf 69 = .ok (.getfield 106, 3) := dk_180 0 106 (dk_at dksX2_compareOf_3 0 rfl rfl)
theorem dX2_compareOf_72 : decode cX2_compareOf 72 = .ok (.bipush 35, 2) := dk_16 35 (dk_at dksX2_compareOf_3 3 rfl rfl)
theorem dX2_compareOf_74 : decode cX2_compareOf 74 = .ok (.if_icmp .ne 8, 3) := dk_160 0 8 (dk_at dksX2_compareOf_3 5 rfl rfl)
theorem dX2_compareOf_77 : decode cX2_compareOf 77 = .ok (.bipush 15, 2) := dk_16 15 (dk_at dksX2_compareOf_3 8 rfl rfl)
theorem dX2_compareOf_79 : decode cX2_compareOf 79 = .ok (.goto 4, 3) := dk_167 0 4 (dk_at dksX2_compareOf_3 10 rfl rfl)
theorem dX2_compareOf_82 : decode cX2_compareOf 82 = .ok (.iconst (-1), 1) := dk_2 (dk_at dksX2_compareOf_3 13 rfl rfl)
theorem dX2_compareOf_83 : decode cX2_compareOf 83 = .ok (.ireturn, 1) := dk_172 (dk_at dksX2_compareOf_3 14 rfl rfl)
abbrev cX2_settle : ByteArray := prog_20_method_35_code
def yX2_settle : MethodName := ⟨RX2, "settle", "(I)V"⟩
def dkwX2_settle_3 : List UInt8 := [42, 180, 0, 157, 46, 16, 20, 160, 255, 179, 42, 89, 180, 0, 167, 4, 100, 181, 0, 167, 167, 255, 166, 177]
abbrev dktX2_settle_3 : List UInt8 := dkwX2_settle_3 ++ []
def dkwX2_settle_2 : List UInt8 := [182, 0, 163, 42, 180, 0, 29, 42, 180, 0, 157, 46, 184, 0, 160, 16, 7, 159, 0, 17, 42, 180, 0, 29]
abbrev dktX2_settle_2 : List UInt8 := dkwX2_settle_2 ++ dktX2_settle_3
def dkwX2_settle_1 : List UInt8 := [161, 0, 71, 42, 89, 180, 0, 157, 4, 100, 181, 0, 157, 42, 42, 180, 0, 29, 42, 180, 0, 157, 46, 3]
abbrev dktX2_settle_1 : List UInt8 := dkwX2_settle_1 ++ dktX2_settle_2
def dkwX2_settle_0 : List UInt8 := [42, 180, 0, 157, 158, 0, 89, 42, 180, 0, 29, 42, 180, 0, 157, 4, 100, 46, 184, 0, 160, 27]
abbrev dktX2_settle_0 : List UInt8 := dkwX2_settle_0 ++ dktX2_settle_1
theorem dksX2_settle_0 : cX2_settle.data.toList.drop 0 = dktX2_settle_0 := by decide +kernel
theorem dksX2_settle_1 : cX2_settle.data.toList.drop 22 = dktX2_settle_1 := dk_seg dksX2_settle_0 22 rfl rfl
theorem dksX2_settle_2 : cX2_settle.data.toList.drop 46 = dktX2_settle_2 := dk_seg dksX2_settle_1 24 rfl rfl
theorem dksX2_settle_3 : cX2_settle.data.toList.drop 70 = dktX2_settle_3 := dk_seg dksX2_settle_2 24 rfl rfl
theorem dX2_settle_0 : decode cX2_settle 0 = .ok (.aload_n 0, 1) := dk_42 (dk_at dksX2_settle_0 0 rfl rfl)
theorem dX2_settle_1 : decode cX2_settle 1 = .ok (.getfield 157, 3) := dk_180 0 157 (dk_at dksX2_settle_0 1 rfl rfl)
theorem dX2_settle_4 : decode cX2_settle 4 = .ok (.ifCond .le 89, 3) := dk_158 0 89 (dk_at dksX2_settle_0 4 rfl rfl)
theorem dX2_settle_7 : decode cX2_settle 7 = .ok (.aload_n 0, 1) := dk_42 (dk_at dksX2_settle_0 7 rfl rfl)
theorem dX2_settle_8 : decode cX2_settle 8 = .ok (.getfield 29, 3) := dk_180 0 29 (dk_at dksX2_settle_0 8 rfl rfl)
theorem dX2_settle_11 : decode cX2_settle 11 = .ok (.aload_n 0, 1) := dk_42 (dk_at dksX2_settle_0 11 rfl rfl)
theorem dX2_settle_12 : decode cX2_settle 12 = .ok (.getfield 157, 3) := dk_180 0 157 (dk_at dksX2_settle_0 12 rfl rfl)
theorem dX2_settle_15 : decode cX2_settle 15 = .ok (.iconst 1, 1) := dk_4 (dk_at dksX2_settle_0 15 rfl rfl)
theorem dX2_settle_16 : decode cX2_settle 16 = .ok (.isub, 1) := dk_100 (dk_at dksX2_settle_0 16 rfl rfl)
theorem dX2_settle_17 : decode cX2_settle 17 = .ok (.iaload, 1) := dk_46 (dk_at dksX2_settle_0 17 rfl rfl)
theorem dX2_settle_18 : decode cX2_settle 18 = .ok (.invokestatic 160, 3) := dk_184 0 160 (dk_at dksX2_settle_0 18 rfl rfl)
theorem dX2_settle_21 : decode cX2_settle 21 = .ok (.iload_n 1, 1) := dk_27 (dk_at dksX2_settle_0 21 rfl rfl)
theorem dX2_settle_22 : decode cX2_settle 22 = .ok (.if_icmp .lt 71, 3) := dk_161 0 71 (dk_at dksX2_settle_1 0 rfl rfl)
theorem dX2_settle_25 : decode cX2_settle 25 = .ok (.aload_n 0, 1) := dk_42 (dk_at dksX2_settle_1 3 rfl rfl)
theorem dX2_settle_26 : decode cX2_settle 26 = .ok (.dup, 1) := dk_89 (dk_at dksX2_settle_1 4 rfl rfl)
theorem dX2_settle_27 : decode cX2_settle 27 = .ok (.getfield 157, 3) := dk_180 0 157 (dk_at dksX2_settle_1 5 rfl rfl)
theorem dX2_settle_30 : decode cX2_settle 30 = .ok (.iconst 1, 1) := dk_4 (dk_at dksX2_settle_1 8 rfl rfl)
theorem dX2_settle_31 : decode cX2_settle 31 = .ok (.isub, 1) := dk_100 (dk_at dksX2_settle_1 9 rfl rfl)
theorem dX2_settle_32 : decode cX2_settle 32 = .ok (.putfield 157, 3) := dk_181 0 157 (dk_at dksX2_settle_1 10 rfl rfl)
theorem dX2_settle_35 : decode cX2_settle 35 = .ok (.aload_n 0, 1) := dk_42 (dk_at dksX2_settle_1 13 rfl rfl)
theorem dX2_settle_36 : decode cX2_settle 36 = .ok (.aload_n 0, 1) := dk_42 (dk_at dksX2_settle_1 14 rfl rfl)
theorem dX2_settle_37 : decode cX2_settle 37 = .ok (.getfield 29, 3) := dk_180 0 29 (dk_at dksX2_settle_1 15 rfl rfl)
theorem dX2_settle_40 : decode cX2_settle 40 = .ok (.aload_n 0, 1) := dk_42 (dk_at dksX2_settle_1 18 rfl rfl)
theorem dX2_settle_41 : decode cX2_settle 41 = .ok (.getfield 157, 3) := dk_180 0 157 (dk_at dksX2_settle_1 19 rfl rfl)
theorem dX2_settle_44 : decode cX2_settle 44 = .ok (.iaload, 1) := dk_46 (dk_at dksX2_settle_1 22 rfl rfl)
theorem dX2_settle_45 : decode cX2_settle 45 = .ok (.iconst 0, 1) := dk_3 (dk_at dksX2_settle_1 23 rfl rfl)
theorem dX2_settle_46 : decode cX2_settle 46 = .ok (.invokevirtual 163, 3) := dk_182 0 163 (dk_at dksX2_settle_2 0 rfl rfl)
theorem dX2_settle_49 : decode cX2_settle 49 = .ok (.aload_n 0, 1) := dk_42 (dk_at dksX2_settle_2 3 rfl rfl)
theorem dX2_settle_50 : decode cX2_settle 50 = .ok (.getfield 29, 3) := dk_180 0 29 (dk_at dksX2_settle_2 4 rfl rfl)
theorem dX2_settle_53 : decode cX2_settle 53 = .ok (.aload_n 0, 1) := dk_42 (dk_at dksX2_settle_2 7 rfl rfl)
theorem dX2_settle_54 : decode cX2_settle 54 = .ok (.getfield 157, 3) := dk_180 0 157 (dk_at dksX2_settle_2 8 rfl rfl)
theorem dX2_settle_57 : decode cX2_settle 57 = .ok (.iaload, 1) := dk_46 (dk_at dksX2_settle_2 11 rfl rfl)
theorem dX2_settle_58 : decode cX2_settle 58 = .ok (.invokestatic 160, 3) := dk_184 0 160 (dk_at dksX2_settle_2 12 rfl rfl)
theorem dX2_settle_61 : decode cX2_settle 61 = .ok (.bipush 7, 2) := dk_16 7 (dk_at dksX2_settle_2 15 rfl rfl)
theorem dX2_settle_63 : decode cX2_settle 63 = .ok (.if_icmp .eq 17, 3) := dk_159 0 17 (dk_at dksX2_settle_2 17 rfl rfl)
theorem dX2_settle_66 : decode cX2_settle 66 = .ok (.aload_n 0, 1) := dk_42 (dk_at dksX2_settle_2 20 rfl rfl)
theorem dX2_settle_67 : decode cX2_settle 67 = .ok (.getfield 29, 3) := dk_180 0 29 (dk_at dksX2_settle_2 21 rfl rfl)
theorem dX2_settle_70 : decode cX2_settle 70 = .ok (.aload_n 0, 1) := dk_42 (dk_at dksX2_settle_3 0 rfl rfl)
theorem dX2_settle_71 : decode cX2_settle 71 = .ok (.getfield 157, 3) := dk_180 0 157 (dk_at dksX2_settle_3 1 rfl rfl)
theorem dX2_settle_74 : decode cX2_settle 74 = .ok (.iaload, 1) := dk_46 (dk_at dksX2_settle_3 4 rfl rfl)
theorem dX2_settle_75 : decode cX2_settle 75 = .ok (.bipush 20, 2) := dk_16 20 (dk_at dksX2_settle_3 5 rfl rfl)
theorem dX2_settle_77 : decode cX2_settle 77 = .ok (.if_icmp .ne (-77), 3) := dk_160 255 179 (dk_at dksX2_settle_3 7 rfl rfl)
theorem dX2_settle_80 : decode cX2_settle 80 = .ok (.aload_n 0, 1) := dk_42 (dk_at dksX2_settle_3 10 rfl rfl)
theorem dX2_settle_81 : decode cX2_settle 81 = .ok (.dup, 1) := dk_89 (dk_at dksX2_settle_3 11 rfl rfl)
theorem dX2_settle_82 : decode cX2_settle 82 = .ok (.getfield 167, 3) := dk_180 0 167 (dk_at dksX2_settle_3 12 rfl rfl)
theorem dX2_settle_85 : decode cX2_settle 85 = .ok (.iconst 1, 1) := dk_4 (dk_at dksX2_settle_3 15 rfl rfl)
theorem dX2_settle_86 : decode cX2_settle 86 = .ok (.isub, 1) := dk_100 (dk_at dksX2_settle_3 16 rfl rfl)
theorem dX2_settle_87 : decode cX2_settle 87 = .ok (.putfield 167, 3) := dk_181 0 167 (dk_at dksX2_settle_3 17 rfl rfl)
theorem dX2_settle_90 : decode cX2_settle 90 = .ok (.goto (-90), 3) := dk_167 255 166 (dk_at dksX2_settle_3 20 rfl rfl)
theorem dX2_settle_93 : decode cX2_settle 93 = .ok (.return_, 1) := dk_177 (dk_at dksX2_settle_3 23 rfl rfl)
abbrev cX2_emit : ByteArray := prog_20_method_31_code
def yX2_emit : MethodName := ⟨RX2, "emit", "(II)V"⟩
def dkwX2_emit_2 : List UInt8 := [96, 181, 0, 147, 177]
abbrev dktX2_emit_2 : List UInt8 := dkwX2_emit_2 ++ []
def dkwX2_emit_1 : List UInt8 := [42, 180, 0, 144, 16, 121, 96, 5, 42, 180, 0, 147, 104, 96, 4, 96, 28, 79, 42, 89, 180, 0, 147, 4]
abbrev dktX2_emit_1 : List UInt8 := dkwX2_emit_1 ++ dktX2_emit_2
def dkwX2_emit_0 : List UInt8 := [42, 180, 0, 16, 42, 180, 0, 144, 16, 121, 96, 5, 42, 180, 0, 147, 104, 96, 27, 79, 42, 180, 0, 16]
abbrev dktX2_emit_0 : List UInt8 := dkwX2_emit_0 ++ dktX2_emit_1
theorem dksX2_emit_0 : cX2_emit.data.toList.drop 0 = dktX2_emit_0 := by decide +kernel
theorem dksX2_emit_1 : cX2_emit.data.toList.drop 24 = dktX2_emit_1 := dk_seg dksX2_emit_0 24 rfl rfl
theorem dksX2_emit_2 : cX2_emit.data.toList.drop 48 = dktX2_emit_2 := dk_seg dksX2_emit_1 24 rfl rfl
theorem dX2_emit_0 : decode cX2_emit 0 = .ok (.aload_n 0, 1) := dk_42 (dk_at dksX2_emit_0 0 rfl rfl)
theorem dX2_emit_1 : decode cX2_emit 1 = .ok (.getfield 16, 3) := dk_180 0 16 (dk_at dksX2_emit_0 1 rfl rfl)
theorem dX2_emit_4 : decode cX2_emit 4 = .ok (.aload_n 0, 1) := dk_42 (dk_at dksX2_emit_0 4 rfl rfl)
theorem dX2_emit_5 : decode cX2_emit 5 = .ok (.getfield 144, 3) := dk_180 0 144 (dk_at dksX2_emit_0 5 rfl rfl)
theorem dX2_emit_8 : decode cX2_emit 8 = .ok (.bipush 121, 2) := dk_16 121 (dk_at dksX2_emit_0 8 rfl rfl)
theorem dX2_emit_10 : decode cX2_emit 10 = .ok (.iadd, 1) := dk_96 (dk_at dksX2_emit_0 10 rfl rfl)
theorem dX2_emit_11 : decode cX2_emit 11 = .ok (.iconst 2, 1) := dk_5 (dk_at dksX2_emit_0 11 rfl rfl)
theorem dX2_emit_12 : decode cX2_emit 12 = .ok (.aload_n 0, 1) := dk_42 (dk_at dksX2_emit_0 12 rfl rfl)
theorem dX2_emit_13 : decode cX2_emit 13 = .ok (.getfield 147, 3) := dk_180 0 147 (dk_at dksX2_emit_0 13 rfl rfl)
theorem dX2_emit_16 : decode cX2_emit 16 = .ok (.imul, 1) := dk_104 (dk_at dksX2_emit_0 16 rfl rfl)
theorem dX2_emit_17 : decode cX2_emit 17 = .ok (.iadd, 1) := dk_96 (dk_at dksX2_emit_0 17 rfl rfl)
theorem dX2_emit_18 : decode cX2_emit 18 = .ok (.iload_n 1, 1) := dk_27 (dk_at dksX2_emit_0 18 rfl rfl)
theorem dX2_emit_19 : decode cX2_emit 19 = .ok (.iastore, 1) := dk_79 (dk_at dksX2_emit_0 19 rfl rfl)
theorem dX2_emit_20 : decode cX2_emit 20 = .ok (.aload_n 0, 1) := dk_42 (dk_at dksX2_emit_0 20 rfl rfl)
theorem dX2_emit_21 : decode cX2_emit 21 = .ok (.getfield 16, 3) := dk_180 0 16 (dk_at dksX2_emit_0 21 rfl rfl)
theorem dX2_emit_24 : decode cX2_emit 24 = .ok (.aload_n 0, 1) := dk_42 (dk_at dksX2_emit_1 0 rfl rfl)
theorem dX2_emit_25 : decode cX2_emit 25 = .ok (.getfield 144, 3) := dk_180 0 144 (dk_at dksX2_emit_1 1 rfl rfl)
theorem dX2_emit_28 : decode cX2_emit 28 = .ok (.bipush 121, 2) := dk_16 121 (dk_at dksX2_emit_1 4 rfl rfl)
theorem dX2_emit_30 : decode cX2_emit 30 = .ok (.iadd, 1) := dk_96 (dk_at dksX2_emit_1 6 rfl rfl)
theorem dX2_emit_31 : decode cX2_emit 31 = .ok (.iconst 2, 1) := dk_5 (dk_at dksX2_emit_1 7 rfl rfl)
theorem dX2_emit_32 : decode cX2_emit 32 = .ok (.aload_n 0, 1) := dk_42 (dk_at dksX2_emit_1 8 rfl rfl)
theorem dX2_emit_33 : decode cX2_emit 33 = .ok (.getfield 147, 3) := dk_180 0 147 (dk_at dksX2_emit_1 9 rfl rfl)
theorem dX2_emit_36 : decode cX2_emit 36 = .ok (.imul, 1) := dk_104 (dk_at dksX2_emit_1 12 rfl rfl)
theorem dX2_emit_37 : decode cX2_emit 37 = .ok (.iadd, 1) := dk_96 (dk_at dksX2_emit_1 13 rfl rfl)
theorem dX2_emit_38 : decode cX2_emit 38 = .ok (.iconst 1, 1) := dk_4 (dk_at dksX2_emit_1 14 rfl rfl)
theorem dX2_emit_39 : decode cX2_emit 39 = .ok (.iadd, 1) := dk_96 (dk_at dksX2_emit_1 15 rfl rfl)
theorem dX2_emit_40 : decode cX2_emit 40 = .ok (.iload_n 2, 1) := dk_28 (dk_at dksX2_emit_1 16 rfl rfl)
theorem dX2_emit_41 : decode cX2_emit 41 = .ok (.iastore, 1) := dk_79 (dk_at dksX2_emit_1 17 rfl rfl)
theorem dX2_emit_42 : decode cX2_emit 42 = .ok (.aload_n 0, 1) := dk_42 (dk_at dksX2_emit_1 18 rfl rfl)
theorem dX2_emit_43 : decode cX2_emit 43 = .ok (.dup, 1) := dk_89 (dk_at dksX2_emit_1 19 rfl rfl)
theorem dX2_emit_44 : decode cX2_emit 44 = .ok (.getfield 147, 3) := dk_180 0 147 (dk_at dksX2_emit_1 20 rfl rfl)
theorem dX2_emit_47 : decode cX2_emit 47 = .ok (.iconst 1, 1) := dk_4 (dk_at dksX2_emit_1 23 rfl rfl)
theorem dX2_emit_48 : decode cX2_emit 48 = .ok (.iadd, 1) := dk_96 (dk_at dksX2_emit_2 0 rfl rfl)
theorem dX2_emit_49 : decode cX2_emit 49 = .ok (.putfield 147, 3) := dk_181 0 147 (dk_at dksX2_emit_2 1 rfl rfl)
theorem dX2_emit_52 : decode cX2_emit 52 = .ok (.return_, 1) := dk_177 (dk_at dksX2_emit_2 4 rfl rfl)
abbrev cX2_partOf : ByteArray := prog_20_method_44_code
def yX2_partOf : MethodName := ⟨RX2, "partOf", "(I)I"⟩
def dkwX2_partOf_5 : List UInt8 := [42, 16, 101, 16, 110, 16, 100, 184, 0, 132, 182, 0, 195, 153, 0, 7, 3, 167, 0, 4, 2, 172, 2, 172]
abbrev dktX2_partOf_5 : List UInt8 := dkwX2_partOf_5 ++ []
def dkwX2_partOf_4 : List UInt8 := [16, 101, 16, 108, 16, 115, 16, 101, 184, 0, 136, 182, 0, 195, 153, 0, 8, 16, 43, 167, 0, 4, 2, 172]
abbrev dktX2_partOf_4 : List UInt8 := dkwX2_partOf_4 ++ dktX2_partOf_5
def dkwX2_partOf_3 : List UInt8 := [184, 0, 136, 182, 0, 195, 153, 0, 15, 42, 182, 0, 203, 153, 0, 8, 16, 42, 167, 0, 4, 2, 172, 42]
abbrev dktX2_partOf_3 : List UInt8 := dkwX2_partOf_3 ++ dktX2_partOf_4
def dkwX2_partOf_2 : List UInt8 := [42, 180, 0, 106, 16, 41, 160, 0, 7, 3, 167, 0, 4, 2, 172, 42, 16, 116, 16, 104, 16, 101, 16, 110]
abbrev dktX2_partOf_2 : List UInt8 := dkwX2_partOf_2 ++ dktX2_partOf_3
def dkwX2_partOf_1 : List UInt8 := [170, 0, 0, 0, 0, 0, 125, 0, 0, 0, 40, 0, 0, 0, 43, 0, 0, 0, 31, 0, 0, 0, 46, 0, 0, 0, 78, 0, 0, 0, 103]
abbrev dktX2_partOf_1 : List UInt8 := dkwX2_partOf_1 ++ dktX2_partOf_2
def dkwX2_partOf_0 : List UInt8 := [27]
abbrev dktX2_partOf_0 : List UInt8 := dkwX2_partOf_0 ++ dktX2_partOf_1
theorem dksX2_partOf_0 : cX2_partOf.data.toList.drop 0 = dktX2_partOf_0 := by decide +kernel
theorem dksX2_partOf_1 : cX2_partOf.data.toList.drop 1 = dktX2_partOf_1 := dk_seg dksX2_partOf_0 1 rfl rfl
theorem dksX2_partOf_2 : cX2_partOf.data.toList.drop 32 = dktX2_partOf_2 := dk_seg dksX2_partOf_1 31 rfl rfl
theorem dksX2_partOf_3 : cX2_partOf.data.toList.drop 56 = dktX2_partOf_3 := dk_seg dksX2_partOf_2 24 rfl rfl
theorem dksX2_partOf_4 : cX2_partOf.data.toList.drop 80 = dktX2_partOf_4 := dk_seg dksX2_partOf_3 24 rfl rfl
theorem dksX2_partOf_5 : cX2_partOf.data.toList.drop 104 = dktX2_partOf_5 := dk_seg dksX2_partOf_4 24 rfl rfl
theorem dX2_partOf_0 : decode cX2_partOf 0 = .ok (.iload_n 1, 1) := dk_27 (dk_at dksX2_partOf_0 0 rfl rfl)
theorem dX2_partOf_1 : decode cX2_partOf 1 = .ok (.tableswitch 125 40 43 #[31, 46, 78, 103], 31) := by decide +kernel
theorem dX2_partOf_32 : decode cX2_partOf 32 = .ok (.aload_n 0, 1) := dk_42 (dk_at dksX2_partOf_2 0 rfl rfl)
theorem dX2_partOf_33 : decode cX2_partOf 33 = .ok (.getfield 106, 3) := dk_180 0 106 (dk_at dksX2_partOf_2 1 rfl rfl)
theorem dX2_partOf_36 : decode cX2_partOf 36 = .ok (.bipush 41, 2) := dk_16 41 (dk_at dksX2_partOf_2 4 rfl rfl)
theorem dX2_partOf_38 : decode cX2_partOf 38 = .ok (.if_icmp .ne 7, 3) := dk_160 0 7 (dk_at dksX2_partOf_2 6 rfl rfl)
theorem dX2_partOf_41 : decode cX2_partOf 41 = .ok (.iconst 0, 1) := dk_3 (dk_at dksX2_partOf_2 9 rfl rfl)
theorem dX2_partOf_42 : decode cX2_partOf 42 = .ok (.goto 4, 3) := dk_167 0 4 (dk_at dksX2_partOf_2 10 rfl rfl)
theorem dX2_partOf_45 : decode cX2_partOf 45 = .ok (.iconst (-1), 1) := dk_2 (dk_at dksX2_partOf_2 13 rfl rfl)
theorem dX2_partOf_46 : decode cX2_partOf 46 = .ok (.ireturn, 1) := dk_172 (dk_at dksX2_partOf_2 14 rfl rfl)
theorem dX2_partOf_47 : decode cX2_partOf 47 = .ok (.aload_n 0, 1) := dk_42 (dk_at dksX2_partOf_2 15 rfl rfl)
theorem dX2_partOf_48 : decode cX2_partOf 48 = .ok (.bipush 116, 2) := dk_16 116 (dk_at dksX2_partOf_2 16 rfl rfl)
theorem dX2_partOf_50 : decode cX2_partOf 50 = .ok (.bipush 104, 2) := dk_16 104 (dk_at dksX2_partOf_2 18 rfl rfl)
theorem dX2_partOf_52 : decode cX2_partOf 52 = .ok (.bipush 101, 2) := dk_16 101 (dk_at dksX2_partOf_2 20 rfl rfl)
theorem dX2_partOf_54 : decode cX2_partOf 54 = .ok (.bipush 110, 2) := dk_16 110 (dk_at dksX2_partOf_2 22 rfl rfl)
theorem dX2_partOf_56 : decode cX2_partOf 56 = .ok (.invokestatic 136, 3) := dk_184 0 136 (dk_at dksX2_partOf_3 0 rfl rfl)
theorem dX2_partOf_59 : decode cX2_partOf 59 = .ok (.invokevirtual 195, 3) := dk_182 0 195 (dk_at dksX2_partOf_3 3 rfl rfl)
theorem dX2_partOf_62 : decode cX2_partOf 62 = .ok (.ifCond .eq 15, 3) := dk_153 0 15 (dk_at dksX2_partOf_3 6 rfl rfl)
theorem dX2_partOf_65 : decode cX2_partOf 65 = .ok (.aload_n 0, 1) := dk_42 (dk_at dksX2_partOf_3 9 rfl rfl)
theorem dX2_partOf_66 : decode cX2_partOf 66 = .ok (.invokevirtual 203, 3) := dk_182 0 203 (dk_at dksX2_partOf_3 10 rfl rfl)
theorem dX2_partOf_69 : decode cX2_partOf 69 = .ok (.ifCond .eq 8, 3) := dk_153 0 8 (dk_at dksX2_partOf_3 13 rfl rfl)
theorem dX2_partOf_72 : decode cX2_partOf 72 = .ok (.bipush 42, 2) := dk_16 42 (dk_at dksX2_partOf_3 16 rfl rfl)
theorem dX2_partOf_74 : decode cX2_partOf 74 = .ok (.goto 4, 3) := dk_167 0 4 (dk_at dksX2_partOf_3 18 rfl rfl)
theorem dX2_partOf_77 : decode cX2_partOf 77 = .ok (.iconst (-1), 1) := dk_2 (dk_at dksX2_partOf_3 21 rfl rfl)
theorem dX2_partOf_78 : decode cX2_partOf 78 = .ok (.ireturn, 1) := dk_172 (dk_at dksX2_partOf_3 22 rfl rfl)
theorem dX2_partOf_79 : decode cX2_partOf 79 = .ok (.aload_n 0, 1) := dk_42 (dk_at dksX2_partOf_3 23 rfl rfl)
theorem dX2_partOf_80 : decode cX2_partOf 80 = .ok (.bipush 101, 2) := dk_16 101 (dk_at dksX2_partOf_4 0 rfl rfl)
theorem dX2_partOf_82 : decode cX2_partOf 82 = .ok (.bipush 108, 2) := dk_16 108 (dk_at dksX2_partOf_4 2 rfl rfl)
theorem dX2_partOf_84 : decode cX2_partOf 84 = .ok (.bipush 115, 2) := dk_16 115 (dk_at dksX2_partOf_4 4 rfl rfl)
theorem dX2_partOf_86 : decode cX2_partOf 86 = .ok (.bipush 101, 2) := dk_16 101 (dk_at dksX2_partOf_4 6 rfl rfl)
theorem dX2_partOf_88 : decode cX2_partOf 88 = .ok (.invokestatic 136, 3) := dk_184 0 136 (dk_at dksX2_partOf_4 8 rfl rfl)
theorem dX2_partOf_91 : decode cX2_partOf 91 = .ok (.invokevirtual 195, 3) := dk_182 0 195 (dk_at dksX2_partOf_4 11 rfl rfl)
theorem dX2_partOf_94 : decode cX2_partOf 94 = .ok (.ifCond .eq 8, 3) := dk_153 0 8 (dk_at dksX2_partOf_4 14 rfl rfl)
theorem dX2_partOf_97 : decode cX2_partOf 97 = .ok (.bipush 43, 2) := dk_16 43 (dk_at dksX2_partOf_4 17 rfl rfl)
theorem dX2_partOf_99 : decode cX2_partOf 99 = .ok (.goto 4, 3) := dk_167 0 4 (dk_at dksX2_partOf_4 19 rfl rfl)
theorem dX2_partOf_102 : decode cX2_partOf 102 = .ok (.iconst (-1), 1) := dk_2 (dk_at dksX2_partOf_4 22 rfl rfl)
theorem dX2_partOf_103 : decode cX2_partOf 103 = .ok (.ireturn, 1) := dk_172 (dk_at dksX2_partOf_4 23 rfl rfl)
theorem dX2_partOf_104 : decode cX2_partOf 104 = .ok (.aload_n 0, 1) := dk_42 (dk_at dksX2_partOf_5 0 rfl rfl)
theorem dX2_partOf_105 : decode cX2_partOf 105 = .ok (.bipush 101, 2) := dk_16 101 (dk_at dksX2_partOf_5 1 rfl rfl)
theorem dX2_partOf_107 : decode cX2_partOf 107 = .ok (.bipush 110, 2) := dk_16 110 (dk_at dksX2_partOf_5 3 rfl rfl)
theorem dX2_partOf_109 : decode cX2_partOf 109 = .ok (.bipush 100, 2) := dk_16 100 (dk_at dksX2_partOf_5 5 rfl rfl)
theorem dX2_partOf_111 : decode cX2_partOf 111 = .ok (.invokestatic 132, 3) := dk_184 0 132 (dk_at dksX2_partOf_5 7 rfl rfl)
theorem dX2_partOf_114 : decode cX2_partOf 114 = .ok (.invokevirtual 195, 3) := dk_182 0 195 (dk_at dksX2_partOf_5 10 rfl rfl)
theorem dX2_partOf_117 : decode cX2_partOf 117 = .ok (.ifCond .eq 7, 3) := dk_153 0 7 (dk_at dksX2_partOf_5 13 rfl rfl)
theorem dX2_partOf_120 : decode cX2_partOf 120 = .ok (.iconst 0, 1) := dk_3 (dk_at dksX2_partOf_5 16 rfl rfl)
theorem dX2_partOf_121 : decode cX2_partOf 121 = .ok (.goto 4, 3) := dk_167 0 4 (dk_at dksX2_partOf_5 17 rfl rfl)
theorem dX2_partOf_124 : decode cX2_partOf 124 = .ok (.iconst (-1), 1) := dk_2 (dk_at dksX2_partOf_5 20 rfl rfl)
theorem dX2_partOf_125 : decode cX2_partOf 125 = .ok (.ireturn, 1) := dk_172 (dk_at dksX2_partOf_5 21 rfl rfl)
theorem dX2_partOf_126 : decode cX2_partOf 126 = .ok (.iconst (-1), 1) := dk_2 (dk_at dksX2_partOf_5 22 rfl rfl)
theorem dX2_partOf_127 : decode cX2_partOf 127 = .ok (.ireturn, 1) := dk_172 (dk_at dksX2_partOf_5 23 rfl rfl)
abbrev cX2_beginOne : ByteArray := prog_20_method_41_code
def yX2_beginOne : MethodName := ⟨RX2, "beginOne", "()I"⟩
def dkwX2_beginOne_10 : List UInt8 := [167, 0, 4, 4, 172]
abbrev dktX2_beginOne_10 : List UInt8 := dkwX2_beginOne_10 ++ []
def dkwX2_beginOne_9 : List UInt8 := [184, 0, 132, 182, 0, 195, 153, 0, 19, 42, 182, 0, 199, 153, 0, 12, 42, 16, 20, 182, 0, 192]
abbrev dktX2_beginOne_9 : List UInt8 := dkwX2_beginOne_9 ++ dktX2_beginOne_10
def dkwX2_beginOne_8 : List UInt8 := [184, 0, 128, 182, 0, 195, 153, 0, 10, 42, 16, 41, 182, 0, 192, 172, 42, 16, 110, 16, 111, 16, 116]
abbrev dktX2_beginOne_8 : List UInt8 := dkwX2_beginOne_8 ++ dktX2_beginOne_9
def dkwX2_beginOne_7 : List UInt8 := [16, 115, 184, 0, 140, 182, 0, 195, 153, 0, 9, 42, 6, 182, 0, 192, 172, 42, 16, 105, 16, 102]
abbrev dktX2_beginOne_7 : List UInt8 := dkwX2_beginOne_7 ++ dktX2_beginOne_8
def dkwX2_beginOne_6 : List UInt8 := [184, 0, 136, 182, 0, 195, 153, 0, 9, 42, 5, 182, 0, 192, 172, 42, 16, 102, 16, 101, 16, 97, 16, 114]
abbrev dktX2_beginOne_6 : List UInt8 := dkwX2_beginOne_6 ++ dktX2_beginOne_7
def dkwX2_beginOne_5 : List UInt8 := [180, 0, 106, 16, 45, 160, 0, 9, 42, 8, 182, 0, 192, 172, 42, 16, 111, 16, 110, 16, 101, 16, 115]
abbrev dktX2_beginOne_5 : List UInt8 := dkwX2_beginOne_5 ++ dktX2_beginOne_6
def dkwX2_beginOne_4 : List UInt8 := [16, 7, 182, 0, 189, 3, 172, 42, 180, 0, 106, 16, 40, 160, 0, 10, 42, 16, 40, 182, 0, 192, 172, 42]
abbrev dktX2_beginOne_4 : List UInt8 := dkwX2_beginOne_4 ++ dktX2_beginOne_5
def dkwX2_beginOne_3 : List UInt8 := [160, 0, 10, 42, 180, 0, 112, 167, 0, 4, 27, 182, 0, 163, 42, 182, 0, 177, 42, 4, 181, 0, 186, 42]
abbrev dktX2_beginOne_3 : List UInt8 := dkwX2_beginOne_3 ++ dktX2_beginOne_4
def dkwX2_beginOne_2 : List UInt8 := [155, 0, 53, 42, 42, 180, 0, 106, 4, 160, 0, 7, 3, 167, 0, 4, 4, 42, 180, 0, 106, 4]
abbrev dktX2_beginOne_2 : List UInt8 := dkwX2_beginOne_2 ++ dktX2_beginOne_3
def dkwX2_beginOne_1 : List UInt8 := [60, 27, 155, 0, 13, 42, 27, 182, 0, 183, 154, 0, 5, 8, 172, 42, 180, 0, 106, 4, 159, 0, 7, 27]
abbrev dktX2_beginOne_1 : List UInt8 := dkwX2_beginOne_1 ++ dktX2_beginOne_2
def dkwX2_beginOne_0 : List UInt8 := [42, 180, 0, 106, 4, 160, 0, 15, 42, 180, 0, 112, 17, 39, 15, 164, 0, 5, 5, 172, 42, 182, 0, 180]
abbrev dktX2_beginOne_0 : List UInt8 := dkwX2_beginOne_0 ++ dktX2_beginOne_1
theorem dksX2_beginOne_0 : cX2_beginOne.data.toList.drop 0 = dktX2_beginOne_0 := by decide +kernel
theorem dksX2_beginOne_1 : cX2_beginOne.data.toList.drop 24 = dktX2_beginOne_1 := dk_seg dksX2_beginOne_0 24 rfl rfl
theorem dksX2_beginOne_2 : cX2_beginOne.data.toList.drop 48 = dktX2_beginOne_2 := dk_seg dksX2_beginOne_1 24 rfl rfl
theorem dksX2_beginOne_3 : cX2_beginOne.data.toList.drop 70 = dktX2_beginOne_3 := dk_seg dksX2_beginOne_2 22 rfl rfl
theorem dksX2_beginOne_4 : cX2_beginOne.data.toList.drop 94 = dktX2_beginOne_4 := dk_seg dksX2_beginOne_3 24 rfl rfl
theorem dksX2_beginOne_5 : cX2_beginOne.data.toList.drop 118 = dktX2_beginOne_5 := dk_seg dksX2_beginOne_4 24 rfl rfl
theorem dksX2_beginOne_6 : cX2_beginOne.data.toList.drop 141 = dktX2_beginOne_6 := dk_seg dksX2_beginOne_5 23 rfl rfl
theorem dksX2_beginOne_7 : cX2_beginOne.data.toList.drop 165 = dktX2_beginOne_7 := dk_seg dksX2_beginOne_6 24 rfl rfl
theorem dksX2_beginOne_8 : cX2_beginOne.data.toList.drop 187 = dktX2_beginOne_8 := dk_seg dksX2_beginOne_7 22 rfl rfl
theorem dksX2_beginOne_9 : cX2_beginOne.data.toList.drop 210 = dktX2_beginOne_9 := dk_seg dksX2_beginOne_8 23 rfl rfl
theorem dksX2_beginOne_10 : cX2_beginOne.data.toList.drop 232 = dktX2_beginOne_10 := dk_seg dksX2_beginOne_9 22 rfl rfl
theorem dX2_beginOne_0 : decode cX2_beginOne 0 = .ok (.aload_n 0, 1) := dk_42 (dk_at dksX2_beginOne_0 0 rfl rfl)
theorem dX2_beginOne_1 : decode cX2_beginOne 1 = .ok (.getfield 106, 3) := dk_180 0 106 (dk_at dksX2_beginOne_0 1 rfl rfl)
theorem dX2_beginOne_4 : decode cX2_beginOne 4 = .ok (.iconst 1, 1) := dk_4 (dk_at dksX2_beginOne_0 4 rfl rfl)
theorem dX2_beginOne_5 : decode cX2_beginOne 5 = .ok (.if_icmp .ne 15, 3) := dk_160 0 15 (dk_at dksX2_beginOne_0 5 rfl rfl)
theorem dX2_beginOne_8 : decode cX2_beginOne 8 = .ok (.aload_n 0, 1) := dk_42 (dk_at dksX2_beginOne_0 8 rfl rfl)
theorem dX2_beginOne_9 : decode cX2_beginOne 9 = .ok (.getfield 112, 3) := dk_180 0 112 (dk_at dksX2_beginOne_0 9 rfl rfl)
theorem dX2_beginOne_12 : decode cX2_beginOne 12 = .ok (.sipush 9999, 3) := dk_17 39 15 (dk_at dksX2_beginOne_0 12 rfl rfl)
theorem dX2_beginOne_15 : decode cX2_beginOne 15 = .ok (.if_icmp .le 5, 3) := dk_164 0 5 (dk_at dksX2_beginOne_0 15 rfl rfl)
theorem dX2_beginOne_18 : decode cX2_beginOne 18 = .ok (.iconst 2, 1) := dk_5 (dk_at dksX2_beginOne_0 18 rfl rfl)
theorem dX2_beginOne_19 : decode cX2_beginOne 19 = .ok (.ireturn, 1) := dk_172 (dk_at dksX2_beginOne_0 19 rfl rfl)
theorem dX2_beginOne_20 : decode cX2_beginOne 20 = .ok (.aload_n 0, 1) := dk_42 (dk_at dksX2_beginOne_0 20 rfl rfl)
theorem dX2_beginOne_21 : decode cX2_beginOne 21 = .ok (.invokevirtual 180, 3) := dk_182 0 180 (dk_at dksX2_beginOne_0 21 rfl rfl)
theorem dX2_beginOne_24 : decode cX2_beginOne 24 = .ok (.istore_n 1, 1) := dk_60 (dk_at dksX2_beginOne_1 0 rfl rfl)
theorem dX2_beginOne_25 : decode cX2_beginOne 25 = .ok (.iload_n 1, 1) := dk_27 (dk_at dksX2_beginOne_1 1 rfl rfl)
theorem dX2_beginOne_26 : decode cX2_beginOne 26 = .ok (.ifCond .lt 13, 3) := dk_155 0 13 (dk_at dksX2_beginOne_1 2 rfl rfl)
theorem dX2_beginOne_29 : decode cX2_beginOne 29 = .ok (.aload_n 0, 1) := dk_42 (dk_at dksX2_beginOne_1 5 rfl rfl)
theorem dX2_beginOne_30 : decode cX2_beginOne 30 = .ok (.iload_n 1, 1) := dk_27 (dk_at dksX2_beginOne_1 6 rfl rfl)
theorem dX2_beginOne_31 : decode cX2_beginOne 31 = .ok (.invokevirtual 183, 3) := dk_182 0 183 (dk_at dksX2_beginOne_1 7 rfl rfl)
theorem dX2_beginOne_34 : decode cX2_beginOne 34 = .ok (.ifCond .ne 5, 3) := dk_154 0 5 (dk_at dksX2_beginOne_1 10 rfl rfl)
theorem dX2_beginOne_37 : decode cX2_beginOne 37 = .ok (.iconst 5, 1) := dk_8 (dk_at dksX2_beginOne_1 13 rfl rfl)
theorem dX2_beginOne_38 : decode cX2_beginOne 38 = .ok (.ireturn, 1) := dk_172 (dk_at dksX2_beginOne_1 14 rfl rfl)
theorem dX2_beginOne_39 : decode cX2_beginOne 39 = .ok (.aload_n 0, 1) := dk_42 (dk_at dksX2_beginOne_1 15 rfl rfl)
theorem dX2_beginOne_40 : decode cX2_beginOne 40 = .ok (.getfield 106, 3) := dk_180 0 106 (dk_at dksX2_beginOne_1 16 rfl rfl)
theorem dX2_beginOne_43 : decode cX2_beginOne 43 = .ok (.iconst 1, 1) := dk_4 (dk_at dksX2_beginOne_1 19 rfl rfl)
theorem dX2_beginOne_44 : decode cX2_beginOne 44 = .ok (.if_icmp .eq 7, 3) := dk_159 0 7 (dk_at dksX2_beginOne_1 20 rfl rfl)
theorem dX2_beginOne_47 : decode cX2_beginOne 47 = .ok (.iload_n 1, 1) := dk_27 (dk_at dksX2_beginOne_1 23 rfl rfl)
theorem dX2_beginOne_48 : decode cX2_beginOne 48 = .ok (.ifCond .lt 53, 3) := dk_155 0 53 (dk_at dksX2_beginOne_2 0 rfl rfl)
theorem dX2_beginOne_51 : decode cX2_beginOne 51 = .ok (.aload_n 0, 1) := dk_42 (dk_at dksX2_beginOne_2 3 rfl rfl)
theorem dX2_beginOne_52 : decode cX2_beginOne 52 = .ok (.aload_n 0, 1) := dk_42 (dk_at dksX2_beginOne_2 4 rfl rfl)
theorem dX2_beginOne_53 : decode cX2_beginOne 53 = .ok (.getfield 106, 3) := dk_180 0 106 (dk_at dksX2_beginOne_2 5 rfl rfl)
theorem dX2_beginOne_56 : decode cX2_beginOne 56 = .ok (.iconst 1, 1) := dk_4 (dk_at dksX2_beginOne_2 8 rfl rfl)
theorem dX2_beginOne_57 : decode cX2_beginOne 57 = .ok (.if_icmp .ne 7, 3) := dk_160 0 7 (dk_at dksX2_beginOne_2 9 rfl rfl)
theorem dX2_beginOne_60 : decode cX2_beginOne 60 = .ok (.iconst 0, 1) := dk_3 (dk_at dksX2_beginOne_2 12 rfl rfl)
theorem dX2_beginOne_61 : decode cX2_beginOne 61 = .ok (.goto 4, 3) := dk_167 0 4 (dk_at dksX2_beginOne_2 13 rfl rfl)
theorem dX2_beginOne_64 : decode cX2_beginOne 64 = .ok (.iconst 1, 1) := dk_4 (dk_at dksX2_beginOne_2 16 rfl rfl)
theorem dX2_beginOne_65 : decode cX2_beginOne 65 = .ok (.aload_n 0, 1) := dk_42 (dk_at dksX2_beginOne_2 17 rfl rfl)
theorem dX2_beginOne_66 : decode cX2_beginOne 66 = .ok (.getfield 106, 3) := dk_180 0 106 (dk_at dksX2_beginOne_2 18 rfl rfl)
theorem dX2_beginOne_69 : decode cX2_beginOne 69 = .ok (.iconst 1, 1) := dk_4 (dk_at dksX2_beginOne_2 21 rfl rfl)
theorem dX2_beginOne_70 : decode cX2_beginOne 70 = .ok (.if_icmp .ne 10, 3) := dk_160 0 10 (dk_at dksX2_beginOne_3 0 rfl rfl)
theorem dX2_beginOne_73 : decode cX2_beginOne 73 = .ok (.aload_n 0, 1) := dk_42 (dk_at dksX2_beginOne_3 3 rfl rfl)
theorem dX2_beginOne_74 : decode cX2_beginOne 74 = .ok (.getfield 112, 3) := dk_180 0 112 (dk_at dksX2_beginOne_3 4 rfl rfl)
theorem dX2_beginOne_77 : decode cX2_beginOne 77 = .ok (.goto 4, 3) := dk_167 0 4 (dk_at dksX2_beginOne_3 7 rfl rfl)
theorem dX2_beginOne_80 : decode cX2_beginOne 80 = .ok (.iload_n 1, 1) := dk_27 (dk_at dksX2_beginOne_3 10 rfl rfl)
theorem dX2_beginOne_81 : decode cX2_beginOne 81 = .ok (.invokevirtual 163, 3) := dk_182 0 163 (dk_at dksX2_beginOne_3 11 rfl rfl)
theorem dX2_beginOne_84 : decode cX2_beginOne 84 = .ok (.aload_n 0, 1) := dk_42 (dk_at dksX2_beginOne_3 14 rfl rfl)
theorem dX2_beginOne_85 : decode cX2_beginOne 85 = .ok (.invokevirtual 177, 3) := dk_182 0 177 (dk_at dksX2_beginOne_3 15 rfl rfl)
theorem dX2_beginOne_88 : decode cX2_beginOne 88 = .ok (.aload_n 0, 1) := dk_42 (dk_at dksX2_beginOne_3 18 rfl rfl)
theorem dX2_beginOne_89 : decode cX2_beginOne 89 = .ok (.iconst 1, 1) := dk_4 (dk_at dksX2_beginOne_3 19 rfl rfl)
theorem dX2_beginOne_90 : decode cX2_beginOne 90 = .ok (.putfield 186, 3) := dk_181 0 186 (dk_at dksX2_beginOne_3 20 rfl rfl)
theorem dX2_beginOne_93 : decode cX2_beginOne 93 = .ok (.aload_n 0, 1) := dk_42 (dk_at dksX2_beginOne_3 23 rfl rfl)
theorem dX2_beginOne_94 : decode cX2_beginOne 94 = .ok (.bipush 7, 2) := dk_16 7 (dk_at dksX2_beginOne_4 0 rfl rfl)
theorem dX2_beginOne_96 : decode cX2_beginOne 96 = .ok (.invokevirtual 189, 3) := dk_182 0 189 (dk_at dksX2_beginOne_4 2 rfl rfl)
theorem dX2_beginOne_99 : decode cX2_beginOne 99 = .ok (.iconst 0, 1) := dk_3 (dk_at dksX2_beginOne_4 5 rfl rfl)
theorem dX2_beginOne_100 : decode cX2_beginOne 100 = .ok (.ireturn, 1) := dk_172 (dk_at dksX2_beginOne_4 6 rfl rfl)
theorem dX2_beginOne_101 : decode cX2_beginOne 101 = .ok (.aload_n 0, 1) := dk_42 (dk_at dksX2_beginOne_4 7 rfl rfl)
theorem dX2_beginOne_102 : decode cX2_beginOne 102 = .ok (.getfield 106, 3) := dk_180 0 106 (dk_at dksX2_beginOne_4 8 rfl rfl)
theorem dX2_beginOne_105 : decode cX2_beginOne 105 = .ok (.bipush 40, 2) := dk_16 40 (dk_at dksX2_beginOne_4 11 rfl rfl)
theorem dX2_beginOne_107 : decode cX2_beginOne 107 = .ok (.if_icmp .ne 10, 3) := dk_160 0 10 (dk_at dksX2_beginOne_4 13 rfl rfl)
theorem dX2_beginOne_110 : decode cX2_beginOne 110 = .ok (.aload_n 0, 1) := dk_42 (dk_at dksX2_beginOne_4 16 rfl rfl)
theorem dX2_beginOne_111 : decode cX2_beginOne 111 = .ok (.bipush 40, 2) := dk_16 40 (dk_at dksX2_beginOne_4 17 rfl rfl)
theorem dX2_beginOne_113 : decode cX2_beginOne 113 = .ok (.invokevirtual 192, 3) := dk_182 0 192 (dk_at dksX2_beginOne_4 19 rfl rfl)
theorem dX2_beginOne_116 : decode cX2_beginOne 116 = .ok (.ireturn, 1) := dk_172 (dk_at dksX2_beginOne_4 22 rfl rfl)
theorem dX2_beginOne_117 : decode cX2_beginOne 117 = .ok (.aload_n 0, 1) := dk_42 (dk_at dksX2_beginOne_4 23 rfl rfl)
theorem dX2_beginOne_118 : decode cX2_beginOne 118 = .ok (.getfield 106, 3) := dk_180 0 106 (dk_at dksX2_beginOne_5 0 rfl rfl)
theorem dX2_beginOne_121 : decode cX2_beginOne 121 = .ok (.bipush 45, 2) := dk_16 45 (dk_at dksX2_beginOne_5 3 rfl rfl)
theorem dX2_beginOne_123 : decode cX2_beginOne 123 = .ok (.if_icmp .ne 9, 3) := dk_160 0 9 (dk_at dksX2_beginOne_5 5 rfl rfl)
theorem dX2_beginOne_126 : decode cX2_beginOne 126 = .ok (.aload_n 0, 1) := dk_42 (dk_at dksX2_beginOne_5 8 rfl rfl)
theorem dX2_beginOne_127 : decode cX2_beginOne 127 = .ok (.iconst 5, 1) := dk_8 (dk_at dksX2_beginOne_5 9 rfl rfl)
theorem dX2_beginOne_128 : decode cX2_beginOne 128 = .ok (.invokevirtual 192, 3) := dk_182 0 192 (dk_at dksX2_beginOne_5 10 rfl rfl)
theorem dX2_beginOne_131 : decode cX2_beginOne 131 = .ok (.ireturn, 1) := dk_172 (dk_at dksX2_beginOne_5 13 rfl rfl)
theorem dX2_beginOne_132 : decode cX2_beginOne 132 = .ok (.aload_n 0, 1) := dk_42 (dk_at dksX2_beginOne_5 14 rfl rfl)
theorem dX2_beginOne_133 : decode cX2_beginOne 133 = .ok (.bipush 111, 2) := dk_16 111 (dk_at dksX2_beginOne_5 15 rfl rfl)
theorem dX2_beginOne_135 : decode cX2_beginOne 135 = .ok (.bipush 110, 2) := dk_16 110 (dk_at dksX2_beginOne_5 17 rfl rfl)
theorem dX2_beginOne_137 : decode cX2_beginOne 137 = .ok (.bipush 101, 2) := dk_16 101 (dk_at dksX2_beginOne_5 19 rfl rfl)
theorem dX2_beginOne_139 : decode cX2_beginOne 139 = .ok (.bipush 115, 2) := dk_16 115 (dk_at dksX2_beginOne_5 21 rfl rfl)
theorem dX2_beginOne_141 : decode cX2_beginOne 141 = .ok (.invokestatic 136, 3) := dk_184 0 136 (dk_at dksX2_beginOne_6 0 rfl rfl)
theorem dX2_beginOne_144 : decode cX2_beginOne 144 = .ok (.invokevirtual 195, 3) := dk_182 0 195 (dk_at dksX2_beginOne_6 3 rfl rfl)
theorem dX2_beginOne_147 : decode cX2_beginOne 147 = .ok (.ifCond .eq 9, 3) := dk_153 0 9 (dk_at dksX2_beginOne_6 6 rfl rfl)
theorem dX2_beginOne_150 : decode cX2_beginOne 150 = .ok (.aload_n 0, 1) := dk_42 (dk_at dksX2_beginOne_6 9 rfl rfl)
theorem dX2_beginOne_151 : decode cX2_beginOne 151 = .ok (.iconst 2, 1) := dk_5 (dk_at dksX2_beginOne_6 10 rfl rfl)
theorem dX2_beginOne_152 : decode cX2_beginOne 152 = .ok (.invokevirtual 192, 3) := dk_182 0 192 (dk_at dksX2_beginOne_6 11 rfl rfl)
theorem dX2_beginOne_155 : decode cX2_beginOne 155 = .ok (.ireturn, 1) := dk_172 (dk_at dksX2_beginOne_6 14 rfl rfl)
theorem dX2_beginOne_156 : decode cX2_beginOne 156 = .ok (.aload_n 0, 1) := dk_42 (dk_at dksX2_beginOne_6 15 rfl rfl)
theorem dX2_beginOne_157 : decode cX2_beginOne 157 = .ok (.bipush 102, 2) := dk_16 102 (dk_at dksX2_beginOne_6 16 rfl rfl)
theorem dX2_beginOne_159 : decode cX2_beginOne 159 = .ok (.bipush 101, 2) := dk_16 101 (dk_at dksX2_beginOne_6 18 rfl rfl)
theorem dX2_beginOne_161 : decode cX2_beginOne 161 = .ok (.bipush 97, 2) := dk_16 97 (dk_at dksX2_beginOne_6 20 rfl rfl)
theorem dX2_beginOne_163 : decode cX2_beginOne 163 = .ok (.bipush 114, 2) := dk_16 114 (dk_at dksX2_beginOne_6 22 rfl rfl)
theorem dX2_beginOne_165 : decode cX2_beginOne 165 = .ok (.bipush 115, 2) := dk_16 115 (dk_at dksX2_beginOne_7 0 rfl rfl)
theorem dX2_beginOne_167 : decode cX2_beginOne 167 = .ok (.invokestatic 140, 3) := dk_184 0 140 (dk_at dksX2_beginOne_7 2 rfl rfl)
theorem dX2_beginOne_170 : decode cX2_beginOne 170 = .ok (.invokevirtual 195, 3) := dk_182 0 195 (dk_at dksX2_beginOne_7 5 rfl rfl)
theorem dX2_beginOne_173 : decode cX2_beginOne 173 = .ok (.ifCond .eq 9, 3) := dk_153 0 9 (dk_at dksX2_beginOne_7 8 rfl rfl)
theorem dX2_beginOne_176 : decode cX2_beginOne 176 = .ok (.aload_n 0, 1) := dk_42 (dk_at dksX2_beginOne_7 11 rfl rfl)
theorem dX2_beginOne_177 : decode cX2_beginOne 177 = .ok (.iconst 3, 1) := dk_6 (dk_at dksX2_beginOne_7 12 rfl rfl)
theorem dX2_beginOne_178 : decode cX2_beginOne 178 = .ok (.invokevirtual 192, 3) := dk_182 0 192 (dk_at dksX2_beginOne_7 13 rfl rfl)
theorem dX2_beginOne_181 : decode cX2_beginOne 181 = .ok (.ireturn, 1) := dk_172 (dk_at dksX2_beginOne_7 16 rfl rfl)
theorem dX2_beginOne_182 : decode cX2_beginOne 182 = .ok (.aload_n 0, 1) := dk_42 (dk_at dksX2_beginOne_7 17 rfl rfl)
theorem dX2_beginOne_183 : decode cX2_beginOne 183 = .ok (.bipush 105, 2) := dk_16 105 (dk_at dksX2_beginOne_7 18 rfl rfl)
theorem dX2_beginOne_185 : decode cX2_beginOne 185 = .ok (.bipush 102, 2) := dk_16 102 (dk_at dksX2_beginOne_7 20 rfl rfl)
theorem dX2_beginOne_187 : decode cX2_beginOne 187 = .ok (.invokestatic 128, 3) := dk_184 0 128 (dk_at dksX2_beginOne_8 0 rfl rfl)
theorem dX2_beginOne_190 : decode cX2_beginOne 190 = .ok (.invokevirtual 195, 3) := dk_182 0 195 (dk_at dksX2_beginOne_8 3 rfl rfl)
theorem dX2_beginOne_193 : decode cX2_beginOne 193 = .ok (.ifCond .eq 10, 3) := dk_153 0 10 (dk_at dksX2_beginOne_8 6 rfl rfl)
theorem dX2_beginOne_196 : decode cX2_beginOne 196 = .ok (.aload_n 0, 1) := dk_42 (dk_at dksX2_beginOne_8 9 rfl rfl)
theorem dX2_beginOne_197 : decode cX2_beginOne 197 = .ok (.bipush 41, 2) := dk_16 41 (dk_at dksX2_beginOne_8 10 rfl rfl)
theorem dX2_beginOne_199 : decode cX2_beginOne 199 = .ok (.invokevirtual 192, 3) := dk_182 0 192 (dk_at dksX2_beginOne_8 12 rfl rfl)
theorem dX2_beginOne_202 : decode cX2_beginOne 202 = .ok (.ireturn, 1) := dk_172 (dk_at dksX2_beginOne_8 15 rfl rfl)
theorem dX2_beginOne_203 : decode cX2_beginOne 203 = .ok (.aload_n 0, 1) := dk_42 (dk_at dksX2_beginOne_8 16 rfl rfl)
theorem dX2_beginOne_204 : decode cX2_beginOne 204 = .ok (.bipush 110, 2) := dk_16 110 (dk_at dksX2_beginOne_8 17 rfl rfl)
theorem dX2_beginOne_206 : decode cX2_beginOne 206 = .ok (.bipush 111, 2) := dk_16 111 (dk_at dksX2_beginOne_8 19 rfl rfl)
theorem dX2_beginOne_208 : decode cX2_beginOne 208 = .ok (.bipush 116, 2) := dk_16 116 (dk_at dksX2_beginOne_8 21 rfl rfl)
theorem dX2_beginOne_210 : decode cX2_beginOne 210 = .ok (.invokestatic 132, 3) := dk_184 0 132 (dk_at dksX2_beginOne_9 0 rfl rfl)
theorem dX2_beginOne_213 : decode cX2_beginOne 213 = .ok (.invokevirtual 195, 3) := dk_182 0 195 (dk_at dksX2_beginOne_9 3 rfl rfl)
theorem dX2_beginOne_216 : decode cX2_beginOne 216 = .ok (.ifCond .eq 19, 3) := dk_153 0 19 (dk_at dksX2_beginOne_9 6 rfl rfl)
theorem dX2_beginOne_219 : decode cX2_beginOne 219 = .ok (.aload_n 0, 1) := dk_42 (dk_at dksX2_beginOne_9 9 rfl rfl)
theorem dX2_beginOne_220 : decode cX2_beginOne 220 = .ok (.invokevirtual 199, 3) := dk_182 0 199 (dk_at dksX2_beginOne_9 10 rfl rfl)
theorem dX2_beginOne_223 : decode cX2_beginOne 223 = .ok (.ifCond .eq 12, 3) := dk_153 0 12 (dk_at dksX2_beginOne_9 13 rfl rfl)
theorem dX2_beginOne_226 : decode cX2_beginOne 226 = .ok (.aload_n 0, 1) := dk_42 (dk_at dksX2_beginOne_9 16 rfl rfl)
theorem dX2_beginOne_227 : decode cX2_beginOne 227 = .ok (.bipush 20, 2) := dk_16 20 (dk_at dksX2_beginOne_9 17 rfl rfl)
theorem dX2_beginOne_229 : decode cX2_beginOne 229 = .ok (.invokevirtual 192, 3) := dk_182 0 192 (dk_at dksX2_beginOne_9 19 rfl rfl)
theorem dX2_beginOne_232 : decode cX2_beginOne 232 = .ok (.goto 4, 3) := dk_167 0 4 (dk_at dksX2_beginOne_10 0 rfl rfl)
theorem dX2_beginOne_235 : decode cX2_beginOne 235 = .ok (.iconst 1, 1) := dk_4 (dk_at dksX2_beginOne_10 3 rfl rfl)
theorem dX2_beginOne_236 : decode cX2_beginOne 236 = .ok (.ireturn, 1) := dk_172 (dk_at dksX2_beginOne_10 4 rfl rfl)
abbrev cX2_nameOf : ByteArray := prog_20_method_32_code
def yX2_nameOf : MethodName := ⟨RX2, "nameOf", "()I"⟩
def dkwX2_nameOf_10 : List UInt8 := [16, 9, 167, 0, 4, 2, 172]
abbrev dktX2_nameOf_10 : List UInt8 := dkwX2_nameOf_10 ++ []
def dkwX2_nameOf_9 : List UInt8 := [167, 0, 30, 42, 180, 0, 119, 16, 99, 16, 114, 16, 111, 16, 119, 16, 100, 184, 0, 140, 148, 154, 0, 8]
abbrev dktX2_nameOf_9 : List UInt8 := dkwX2_nameOf_9 ++ dktX2_nameOf_10
def dkwX2_nameOf_8 : List UInt8 := [180, 0, 119, 16, 100, 16, 101, 16, 98, 16, 116, 16, 115, 184, 0, 140, 148, 154, 0, 8, 16, 8]
abbrev dktX2_nameOf_8 : List UInt8 := dkwX2_nameOf_8 ++ dktX2_nameOf_9
def dkwX2_nameOf_7 : List UInt8 := [180, 0, 119, 16, 103, 16, 111, 16, 111, 16, 100, 16, 115, 184, 0, 140, 148, 154, 0, 6, 16, 7, 172, 42]
abbrev dktX2_nameOf_7 : List UInt8 := dkwX2_nameOf_7 ++ dktX2_nameOf_8
def dkwX2_nameOf_6 : List UInt8 := [172, 42, 180, 0, 119, 16, 111, 16, 117, 16, 116, 184, 0, 132, 148, 154, 0, 6, 16, 6, 172, 42]
abbrev dktX2_nameOf_6 : List UInt8 := dkwX2_nameOf_6 ++ dktX2_nameOf_7
def dkwX2_nameOf_5 : List UInt8 := [42, 180, 0, 119, 16, 104, 16, 117, 16, 110, 16, 103, 16, 101, 16, 114, 184, 0, 150, 148, 154, 0, 5, 8]
abbrev dktX2_nameOf_5 : List UInt8 := dkwX2_nameOf_5 ++ dktX2_nameOf_6
def dkwX2_nameOf_4 : List UInt8 := [180, 0, 119, 16, 102, 16, 111, 16, 114, 16, 101, 16, 115, 16, 116, 184, 0, 150, 148, 154, 0, 5, 7, 172]
abbrev dktX2_nameOf_4 : List UInt8 := dkwX2_nameOf_4 ++ dktX2_nameOf_5
def dkwX2_nameOf_3 : List UInt8 := [5, 172, 42, 180, 0, 119, 16, 108, 16, 97, 16, 110, 16, 100, 184, 0, 136, 148, 154, 0, 5, 6, 172, 42]
abbrev dktX2_nameOf_3 : List UInt8 := dkwX2_nameOf_3 ++ dktX2_nameOf_4
def dkwX2_nameOf_2 : List UInt8 := [154, 0, 5, 4, 172, 42, 180, 0, 119, 16, 102, 16, 101, 16, 97, 16, 114, 184, 0, 136, 148, 154, 0, 5]
abbrev dktX2_nameOf_2 : List UInt8 := dkwX2_nameOf_2 ++ dktX2_nameOf_3
def dkwX2_nameOf_1 : List UInt8 := [184, 0, 140, 148, 154, 0, 5, 3, 172, 42, 180, 0, 119, 16, 119, 16, 104, 16, 111, 184, 0, 132, 148]
abbrev dktX2_nameOf_1 : List UInt8 := dkwX2_nameOf_1 ++ dktX2_nameOf_2
def dkwX2_nameOf_0 : List UInt8 := [42, 180, 0, 106, 5, 159, 0, 5, 2, 172, 42, 180, 0, 119, 16, 109, 16, 111, 16, 110, 16, 116, 16, 104]
abbrev dktX2_nameOf_0 : List UInt8 := dkwX2_nameOf_0 ++ dktX2_nameOf_1
theorem dksX2_nameOf_0 : cX2_nameOf.data.toList.drop 0 = dktX2_nameOf_0 := by decide +kernel
theorem dksX2_nameOf_1 : cX2_nameOf.data.toList.drop 24 = dktX2_nameOf_1 := dk_seg dksX2_nameOf_0 24 rfl rfl
theorem dksX2_nameOf_2 : cX2_nameOf.data.toList.drop 47 = dktX2_nameOf_2 := dk_seg dksX2_nameOf_1 23 rfl rfl
theorem dksX2_nameOf_3 : cX2_nameOf.data.toList.drop 71 = dktX2_nameOf_3 := dk_seg dksX2_nameOf_2 24 rfl rfl
theorem dksX2_nameOf_4 : cX2_nameOf.data.toList.drop 95 = dktX2_nameOf_4 := dk_seg dksX2_nameOf_3 24 rfl rfl
theorem dksX2_nameOf_5 : cX2_nameOf.data.toList.drop 119 = dktX2_nameOf_5 := dk_seg dksX2_nameOf_4 24 rfl rfl
theorem dksX2_nameOf_6 : cX2_nameOf.data.toList.drop 143 = dktX2_nameOf_6 := dk_seg dksX2_nameOf_5 24 rfl rfl
theorem dksX2_nameOf_7 : cX2_nameOf.data.toList.drop 165 = dktX2_nameOf_7 := dk_seg dksX2_nameOf_6 22 rfl rfl
theorem dksX2_nameOf_8 : cX2_nameOf.data.toList.drop 189 = dktX2_nameOf_8 := dk_seg dksX2_nameOf_7 24 rfl rfl
theorem dksX2_nameOf_9 : cX2_nameOf.data.toList.drop 211 = dktX2_nameOf_9 := dk_seg dksX2_nameOf_8 22 rfl rfl
theorem dksX2_nameOf_10 : cX2_nameOf.data.toList.drop 235 = dktX2_nameOf_10 := dk_seg dksX2_nameOf_9 24 rfl rfl
theorem dX2_nameOf_0 : decode cX2_nameOf 0 = .ok (.aload_n 0, 1) := dk_42 (dk_at dksX2_nameOf_0 0 rfl rfl)
theorem dX2_nameOf_1 : decode cX2_nameOf 1 = .ok (.getfield 106, 3) := dk_180 0 106 (dk_at dksX2_nameOf_0 1 rfl rfl)
theorem dX2_nameOf_4 : decode cX2_nameOf 4 = .ok (.iconst 2, 1) := dk_5 (dk_at dksX2_nameOf_0 4 rfl rfl)
theorem dX2_nameOf_5 : decode cX2_nameOf 5 = .ok (.if_icmp .eq 5, 3) := dk_159 0 5 (dk_at dksX2_nameOf_0 5 rfl rfl)
theorem dX2_nameOf_8 : decode cX2_nameOf 8 = .ok (.iconst (-1), 1) := dk_2 (dk_at dksX2_nameOf_0 8 rfl rfl)
theorem dX2_nameOf_9 : decode cX2_nameOf 9 = .ok (.ireturn, 1) := dk_172 (dk_at dksX2_nameOf_0 9 rfl rfl)
theorem dX2_nameOf_10 : decode cX2_nameOf 10 = .ok (.aload_n 0, 1) := dk_42 (dk_at dksX2_nameOf_0 10 rfl rfl)
theorem dX2_nameOf_11 : decode cX2_nameOf 11 = .ok (.getfield 119, 3) := dk_180 0 119 (dk_at dksX2_nameOf_0 11 rfl rfl)
theorem dX2_nameOf_14 : decode cX2_nameOf 14 = .ok (.bipush 109, 2) := dk_16 109 (dk_at dksX2_nameOf_0 14 rfl rfl)
theorem dX2_nameOf_16 : decode cX2_nameOf 16 = .ok (.bipush 111, 2) := dk_16 111 (dk_at dksX2_nameOf_0 16 rfl rfl)
theorem dX2_nameOf_18 : decode cX2_nameOf 18 = .ok (.bipush 110, 2) := dk_16 110 (dk_at dksX2_nameOf_0 18 rfl rfl)
theorem dX2_nameOf_20 : decode cX2_nameOf 20 = .ok (.bipush 116, 2) := dk_16 116 (dk_at dksX2_nameOf_0 20 rfl rfl)
theorem dX2_nameOf_22 : decode cX2_nameOf 22 = .ok (.bipush 104, 2) := dk_16 104 (dk_at dksX2_nameOf_0 22 rfl rfl)
theorem dX2_nameOf_24 : decode cX2_nameOf 24 = .ok (.invokestatic 140, 3) := dk_184 0 140 (dk_at dksX2_nameOf_1 0 rfl rfl)
theorem dX2_nameOf_27 : decode cX2_nameOf 27 = .ok (.lcmp, 1) := dk_148 (dk_at dksX2_nameOf_1 3 rfl rfl)
theorem dX2_nameOf_28 : decode cX2_nameOf 28 = .ok (.ifCond .ne 5, 3) := dk_154 0 5 (dk_at dksX2_nameOf_1 4 rfl rfl)
theorem dX2_nameOf_31 : decode cX2_nameOf 31 = .ok (.iconst 0, 1) := dk_3 (dk_at dksX2_nameOf_1 7 rfl rfl)
theorem dX2_nameOf_32 : decode cX2_nameOf 32 = .ok (.ireturn, 1) := dk_172 (dk_at dksX2_nameOf_1 8 rfl rfl)
theorem dX2_nameOf_33 : decode cX2_nameOf 33 = .ok (.aload_n 0, 1) := dk_42 (dk_at dksX2_nameOf_1 9 rfl rfl)
theorem dX2_nameOf_34 : decode cX2_nameOf 34 = .ok (.getfield 119, 3) := dk_180 0 119 (dk_at dksX2_nameOf_1 10 rfl rfl)
theorem dX2_nameOf_37 : decode cX2_nameOf 37 = .ok (.bipush 119, 2) := dk_16 119 (dk_at dksX2_nameOf_1 13 rfl rfl)
theorem dX2_nameOf_39 : decode cX2_nameOf 39 = .ok (.bipush 104, 2) := dk_16 104 (dk_at dksX2_nameOf_1 15 rfl rfl)
theorem dX2_nameOf_41 : decode cX2_nameOf 41 = .ok (.bipush 111, 2) := dk_16 111 (dk_at dksX2_nameOf_1 17 rfl rfl)
theorem dX2_nameOf_43 : decode cX2_nameOf 43 = .ok (.invokestatic 132, 3) := dk_184 0 132 (dk_at dksX2_nameOf_1 19 rfl rfl)
theorem dX2_nameOf_46 : decode cX2_nameOf 46 = .ok (.lcmp, 1) := dk_148 (dk_at dksX2_nameOf_1 22 rfl rfl)
theorem dX2_nameOf_47 : decode cX2_nameOf 47 = .ok (.ifCond .ne 5, 3) := dk_154 0 5 (dk_at dksX2_nameOf_2 0 rfl rfl)
theorem dX2_nameOf_50 : decode cX2_nameOf 50 = .ok (.iconst 1, 1) := dk_4 (dk_at dksX2_nameOf_2 3 rfl rfl)
theorem dX2_nameOf_51 : decode cX2_nameOf 51 = .ok (.ireturn, 1) := dk_172 (dk_at dksX2_nameOf_2 4 rfl rfl)
theorem dX2_nameOf_52 : decode cX2_nameOf 52 = .ok (.aload_n 0, 1) := dk_42 (dk_at dksX2_nameOf_2 5 rfl rfl)
theorem dX2_nameOf_53 : decode cX2_nameOf 53 = .ok (.getfield 119, 3) := dk_180 0 119 (dk_at dksX2_nameOf_2 6 rfl rfl)
theorem dX2_nameOf_56 : decode cX2_nameOf 56 = .ok (.bipush 102, 2) := dk_16 102 (dk_at dksX2_nameOf_2 9 rfl rfl)
theorem dX2_nameOf_58 : decode cX2_nameOf 58 = .ok (.bipush 101, 2) := dk_16 101 (dk_at dksX2_nameOf_2 11 rfl rfl)
theorem dX2_nameOf_60 : decode cX2_nameOf 60 = .ok (.bipush 97, 2) := dk_16 97 (dk_at dksX2_nameOf_2 13 rfl rfl)
theorem dX2_nameOf_62 : decode cX2_nameOf 62 = .ok (.bipush 114, 2) := dk_16 114 (dk_at dksX2_nameOf_2 15 rfl rfl)
theorem dX2_nameOf_64 : decode cX2_nameOf 64 = .ok (.invokestatic 136, 3) := dk_184 0 136 (dk_at dksX2_nameOf_2 17 rfl rfl)
theorem dX2_nameOf_67 : decode cX2_nameOf 67 = .ok (.lcmp, 1) := dk_148 (dk_at dksX2_nameOf_2 20 rfl rfl)
theorem dX2_nameOf_68 : decode cX2_nameOf 68 = .ok (.ifCond .ne 5, 3) := dk_154 0 5 (dk_at dksX2_nameOf_2 21 rfl rfl)
theorem dX2_nameOf_71 : decode cX2_nameOf 71 = .ok (.iconst 2, 1) := dk_5 (dk_at dksX2_nameOf_3 0 rfl rfl)
theorem dX2_nameOf_72 : decode cX2_nameOf 72 = .ok (.ireturn, 1) := dk_172 (dk_at dksX2_nameOf_3 1 rfl rfl)
theorem dX2_nameOf_73 : decode cX2_nameOf 73 = .ok (.aload_n 0, 1) := dk_42 (dk_at dksX2_nameOf_3 2 rfl rfl)
theorem dX2_nameOf_74 : decode cX2_nameOf 74 = .ok (.getfield 119, 3) := dk_180 0 119 (dk_at dksX2_nameOf_3 3 rfl rfl)
theorem dX2_nameOf_77 : decode cX2_nameOf 77 = .ok (.bipush 108, 2) := dk_16 108 (dk_at dksX2_nameOf_3 6 rfl rfl)
theorem dX2_nameOf_79 : decode cX2_nameOf 79 = .ok (.bipush 97, 2) := dk_16 97 (dk_at dksX2_nameOf_3 8 rfl rfl)
theorem dX2_nameOf_81 : decode cX2_nameOf 81 = .ok (.bipush 110, 2) := dk_16 110 (dk_at dksX2_nameOf_3 10 rfl rfl)
theorem dX2_nameOf_83 : decode cX2_nameOf 83 = .ok (.bipush 100, 2) := dk_16 100 (dk_at dksX2_nameOf_3 12 rfl rfl)
theorem dX2_nameOf_85 : decode cX2_nameOf 85 = .ok (.invokestatic 136, 3) := dk_184 0 136 (dk_at dksX2_nameOf_3 14 rfl rfl)
theorem dX2_nameOf_88 : decode cX2_nameOf 88 = .ok (.lcmp, 1) := dk_148 (dk_at dksX2_nameOf_3 17 rfl rfl)
theorem dX2_nameOf_89 : decode cX2_nameOf 89 = .ok (.ifCond .ne 5, 3) := dk_154 0 5 (dk_at dksX2_nameOf_3 18 rfl rfl)
theorem dX2_nameOf_92 : decode cX2_nameOf 92 = .ok (.iconst 3, 1) := dk_6 (dk_at dksX2_nameOf_3 21 rfl rfl)
theorem dX2_nameOf_93 : decode cX2_nameOf 93 = .ok (.ireturn, 1) := dk_172 (dk_at dksX2_nameOf_3 22 rfl rfl)
theorem dX2_nameOf_94 : decode cX2_nameOf 94 = .ok (.aload_n 0, 1) := dk_42 (dk_at dksX2_nameOf_3 23 rfl rfl)
theorem dX2_nameOf_95 : decode cX2_nameOf 95 = .ok (.getfield 119, 3) := dk_180 0 119 (dk_at dksX2_nameOf_4 0 rfl rfl)
theorem dX2_nameOf_98 : decode cX2_nameOf 98 = .ok (.bipush 102, 2) := dk_16 102 (dk_at dksX2_nameOf_4 3 rfl rfl)
theorem dX2_nameOf_100 : decode cX2_nameOf 100 = .ok (.bipush 111, 2) := dk_16 111 (dk_at dksX2_nameOf_4 5 rfl rfl)
theorem dX2_nameOf_102 : decode cX2_nameOf 102 = .ok (.bipush 114, 2) := dk_16 114 (dk_at dksX2_nameOf_4 7 rfl rfl)
theorem dX2_nameOf_104 : decode cX2_nameOf 104 = .ok (.bipush 101, 2) := dk_16 101 (dk_at dksX2_nameOf_4 9 rfl rfl)
theorem dX2_nameOf_106 : decode cX2_nameOf 106 = .ok (.bipush 115, 2) := dk_16 115 (dk_at dksX2_nameOf_4 11 rfl rfl)
theorem dX2_nameOf_108 : decode cX2_nameOf 108 = .ok (.bipush 116, 2) := dk_16 116 (dk_at dksX2_nameOf_4 13 rfl rfl)
theorem dX2_nameOf_110 : decode cX2_nameOf 110 = .ok (.invokestatic 150, 3) := dk_184 0 150 (dk_at dksX2_nameOf_4 15 rfl rfl)
theorem dX2_nameOf_113 : decode cX2_nameOf 113 = .ok (.lcmp, 1) := dk_148 (dk_at dksX2_nameOf_4 18 rfl rfl)
theorem dX2_nameOf_114 : decode cX2_nameOf 114 = .ok (.ifCond .ne 5, 3) := dk_154 0 5 (dk_at dksX2_nameOf_4 19 rfl rfl)
theorem dX2_nameOf_117 : decode cX2_nameOf 117 = .ok (.iconst 4, 1) := dk_7 (dk_at dksX2_nameOf_4 22 rfl rfl)
theorem dX2_nameOf_118 : decode cX2_nameOf 118 = .ok (.ireturn, 1) := dk_172 (dk_at dksX2_nameOf_4 23 rfl rfl)
theorem dX2_nameOf_119 : decode cX2_nameOf 119 = .ok (.aload_n 0, 1) := dk_42 (dk_at dksX2_nameOf_5 0 rfl rfl)
theorem dX2_nameOf_120 : decode cX2_nameOf 120 = .ok (.getfield 119, 3) := dk_180 0 119 (dk_at dksX2_nameOf_5 1 rfl rfl)
theorem dX2_nameOf_123 : decode cX2_nameOf 123 = .ok (.bipush 104, 2) := dk_16 104 (dk_at dksX2_nameOf_5 4 rfl rfl)
theorem dX2_nameOf_125 : decode cX2_nameOf 125 = .ok (.bipush 117, 2) := dk_16 117 (dk_at dksX2_nameOf_5 6 rfl rfl)
theorem dX2_nameOf_127 : decode cX2_nameOf 127 = .ok (.bipush 110, 2) := dk_16 110 (dk_at dksX2_nameOf_5 8 rfl rfl)
theorem dX2_nameOf_129 : decode cX2_nameOf 129 = .ok (.bipush 103, 2) := dk_16 103 (dk_at dksX2_nameOf_5 10 rfl rfl)
theorem dX2_nameOf_131 : decode cX2_nameOf 131 = .ok (.bipush 101, 2) := dk_16 101 (dk_at dksX2_nameOf_5 12 rfl rfl)
theorem dX2_nameOf_133 : decode cX2_nameOf 133 = .ok (.bipush 114, 2) := dk_16 114 (dk_at dksX2_nameOf_5 14 rfl rfl)
theorem dX2_nameOf_135 : decode cX2_nameOf 135 = .ok (.invokestatic 150, 3) := dk_184 0 150 (dk_at dksX2_nameOf_5 16 rfl rfl)
theorem dX2_nameOf_138 : decode cX2_nameOf 138 = .ok (.lcmp, 1) := dk_148 (dk_at dksX2_nameOf_5 19 rfl rfl)
theorem dX2_nameOf_139 : decode cX2_nameOf 139 = .ok (.ifCond .ne 5, 3) := dk_154 0 5 (dk_at dksX2_nameOf_5 20 rfl rfl)
theorem dX2_nameOf_142 : decode cX2_nameOf 142 = .ok (.iconst 5, 1) := dk_8 (dk_at dksX2_nameOf_5 23 rfl rfl)
theorem dX2_nameOf_143 : decode cX2_nameOf 143 = .ok (.ireturn, 1) := dk_172 (dk_at dksX2_nameOf_6 0 rfl rfl)
theorem dX2_nameOf_144 : decode cX2_nameOf 144 = .ok (.aload_n 0, 1) := dk_42 (dk_at dksX2_nameOf_6 1 rfl rfl)
theorem dX2_nameOf_145 : decode cX2_nameOf 145 = .ok (.getfield 119, 3) := dk_180 0 119 (dk_at dksX2_nameOf_6 2 rfl rfl)
theorem dX2_nameOf_148 : decode cX2_nameOf 148 = .ok (.bipush 111, 2) := dk_16 111 (dk_at dksX2_nameOf_6 5 rfl rfl)
theorem dX2_nameOf_150 : decode cX2_nameOf 150 = .ok (.bipush 117, 2) := dk_16 117 (dk_at dksX2_nameOf_6 7 rfl rfl)
theorem dX2_nameOf_152 : decode cX2_nameOf 152 = .ok (.bipush 116, 2) := dk_16 116 (dk_at dksX2_nameOf_6 9 rfl rfl)
theorem dX2_nameOf_154 : decode cX2_nameOf 154 = .ok (.invokestatic 132, 3) := dk_184 0 132 (dk_at dksX2_nameOf_6 11 rfl rfl)
theorem dX2_nameOf_157 : decode cX2_nameOf 157 = .ok (.lcmp, 1) := dk_148 (dk_at dksX2_nameOf_6 14 rfl rfl)
theorem dX2_nameOf_158 : decode cX2_nameOf 158 = .ok (.ifCond .ne 6, 3) := dk_154 0 6 (dk_at dksX2_nameOf_6 15 rfl rfl)
theorem dX2_nameOf_161 : decode cX2_nameOf 161 = .ok (.bipush 6, 2) := dk_16 6 (dk_at dksX2_nameOf_6 18 rfl rfl)
theorem dX2_nameOf_163 : decode cX2_nameOf 163 = .ok (.ireturn, 1) := dk_172 (dk_at dksX2_nameOf_6 20 rfl rfl)
theorem dX2_nameOf_164 : decode cX2_nameOf 164 = .ok (.aload_n 0, 1) := dk_42 (dk_at dksX2_nameOf_6 21 rfl rfl)
theorem dX2_nameOf_165 : decode cX2_nameOf 165 = .ok (.getfield 119, 3) := dk_180 0 119 (dk_at dksX2_nameOf_7 0 rfl rfl)
theorem dX2_nameOf_168 : decode cX2_nameOf 168 = .ok (.bipush 103, 2) := dk_16 103 (dk_at dksX2_nameOf_7 3 rfl rfl)
theorem dX2_nameOf_170 : decode cX2_nameOf 170 = .ok (.bipush 111, 2) := dk_16 111 (dk_at dksX2_nameOf_7 5 rfl rfl)
theorem dX2_nameOf_172 : decode cX2_nameOf 172 = .ok (.bipush 111, 2) := dk_16 111 (dk_at dksX2_nameOf_7 7 rfl rfl)
theorem dX2_nameOf_174 : decode cX2_nameOf 174 = .ok (.bipush 100, 2) := dk_16 100 (dk_at dksX2_nameOf_7 9 rfl rfl)
theorem dX2_nameOf_176 : decode cX2_nameOf 176 = .ok (.bipush 115, 2) := dk_16 115 (dk_at dksX2_nameOf_7 11 rfl rfl)
theorem dX2_nameOf_178 : decode cX2_nameOf 178 = .ok (.invokestatic 140, 3) := dk_184 0 140 (dk_at dksX2_nameOf_7 13 rfl rfl)
theorem dX2_nameOf_181 : decode cX2_nameOf 181 = .ok (.lcmp, 1) := dk_148 (dk_at dksX2_nameOf_7 16 rfl rfl)
theorem dX2_nameOf_182 : decode cX2_nameOf 182 = .ok (.ifCond .ne 6, 3) := dk_154 0 6 (dk_at dksX2_nameOf_7 17 rfl rfl)
theorem dX2_nameOf_185 : decode cX2_nameOf 185 = .ok (.bipush 7, 2) := dk_16 7 (dk_at dksX2_nameOf_7 20 rfl rfl)
theorem dX2_nameOf_187 : decode cX2_nameOf 187 = .ok (.ireturn, 1) := dk_172 (dk_at dksX2_nameOf_7 22 rfl rfl)
theorem dX2_nameOf_188 : decode cX2_nameOf 188 = .ok (.aload_n 0, 1) := dk_42 (dk_at dksX2_nameOf_7 23 rfl rfl)
theorem dX2_nameOf_189 : decode cX2_nameOf 189 = .ok (.getfield 119, 3) := dk_180 0 119 (dk_at dksX2_nameOf_8 0 rfl rfl)
theorem dX2_nameOf_192 : decode cX2_nameOf 192 = .ok (.bipush 100, 2) := dk_16 100 (dk_at dksX2_nameOf_8 3 rfl rfl)
theorem dX2_nameOf_194 : decode cX2_nameOf 194 = .ok (.bipush 101, 2) := dk_16 101 (dk_at dksX2_nameOf_8 5 rfl rfl)
theorem dX2_nameOf_196 : decode cX2_nameOf 196 = .ok (.bipush 98, 2) := dk_16 98 (dk_at dksX2_nameOf_8 7 rfl rfl)
theorem dX2_nameOf_198 : decode cX2_nameOf 198 = .ok (.bipush 116, 2) := dk_16 116 (dk_at dksX2_nameOf_8 9 rfl rfl)
theorem dX2_nameOf_200 : decode cX2_nameOf 200 = .ok (.bipush 115, 2) := dk_16 115 (dk_at dksX2_nameOf_8 11 rfl rfl)
theorem dX2_nameOf_202 : decode cX2_nameOf 202 = .ok (.invokestatic 140, 3) := dk_184 0 140 (dk_at dksX2_nameOf_8 13 rfl rfl)
theorem dX2_nameOf_205 : decode cX2_nameOf 205 = .ok (.lcmp, 1) := dk_148 (dk_at dksX2_nameOf_8 16 rfl rfl)
theorem dX2_nameOf_206 : decode cX2_nameOf 206 = .ok (.ifCond .ne 8, 3) := dk_154 0 8 (dk_at dksX2_nameOf_8 17 rfl rfl)
theorem dX2_nameOf_209 : decode cX2_nameOf 209 = .ok (.bipush 8, 2) := dk_16 8 (dk_at dksX2_nameOf_8 20 rfl rfl)
theorem dX2_nameOf_211 : decode cX2_nameOf 211 = .ok (.goto 30, 3) := dk_167 0 30 (dk_at dksX2_nameOf_9 0 rfl rfl)
theorem dX2_nameOf_214 : decode cX2_nameOf 214 = .ok (.aload_n 0, 1) := dk_42 (dk_at dksX2_nameOf_9 3 rfl rfl)
theorem dX2_nameOf_215 : decode cX2_nameOf 215 = .ok (.getfield 119, 3) := dk_180 0 119 (dk_at dksX2_nameOf_9 4 rfl rfl)
theorem dX2_nameOf_218 : decode cX2_nameOf 218 = .ok (.bipush 99, 2) := dk_16 99 (dk_at dksX2_nameOf_9 7 rfl rfl)
theorem dX2_nameOf_220 : decode cX2_nameOf 220 = .ok (.bipush 114, 2) := dk_16 114 (dk_at dksX2_nameOf_9 9 rfl rfl)
theorem dX2_nameOf_222 : decode cX2_nameOf 222 = .ok (.bipush 111, 2) := dk_16 111 (dk_at dksX2_nameOf_9 11 rfl rfl)
theorem dX2_nameOf_224 : decode cX2_nameOf 224 = .ok (.bipush 119, 2) := dk_16 119 (dk_at dksX2_nameOf_9 13 rfl rfl)
theorem dX2_nameOf_226 : decode cX2_nameOf 226 = .ok (.bipush 100, 2) := dk_16 100 (dk_at dksX2_nameOf_9 15 rfl rfl)
theorem dX2_nameOf_228 : decode cX2_nameOf 228 = .ok (.invokestatic 140, 3) := dk_184 0 140 (dk_at dksX2_nameOf_9 17 rfl rfl)
theorem dX2_nameOf_231 : decode cX2_nameOf 231 = .ok (.lcmp, 1) := dk_148 (dk_at dksX2_nameOf_9 20 rfl rfl)
theorem dX2_nameOf_232 : decode cX2_nameOf 232 = .ok (.ifCond .ne 8, 3) := dk_154 0 8 (dk_at dksX2_nameOf_9 21 rfl rfl)
theorem dX2_nameOf_235 : decode cX2_nameOf 235 = .ok (.bipush 9, 2) := dk_16 9 (dk_at dksX2_nameOf_10 0 rfl rfl)
theorem dX2_nameOf_237 : decode cX2_nameOf 237 = .ok (.goto 4, 3) := dk_167 0 4 (dk_at dksX2_nameOf_10 2 rfl rfl)
theorem dX2_nameOf_240 : decode cX2_nameOf 240 = .ok (.iconst (-1), 1) := dk_2 (dk_at dksX2_nameOf_10 5 rfl rfl)
theorem dX2_nameOf_241 : decode cX2_nameOf 241 = .ok (.ireturn, 1) := dk_172 (dk_at dksX2_nameOf_10 6 rfl rfl)
abbrev cX2_isOf : ByteArray := prog_20_method_33_code
def yX2_isOf : MethodName := ⟨RX2, "isOf", "(I)Z"⟩
def dkwX2_isOf_3 : List UInt8 := [172]
abbrev dktX2_isOf_3 : List UInt8 := dkwX2_isOf_3 ++ []
def dkwX2_isOf_2 : List UInt8 := [167, 0, 24, 42, 180, 0, 154, 4, 159, 0, 11, 42, 180, 0, 154, 6, 160, 0, 7, 4, 167, 0, 4, 3]
abbrev dktX2_isOf_2 : List UInt8 := dkwX2_isOf_2 ++ dktX2_isOf_3
def dkwX2_isOf_1 : List UInt8 := [167, 0, 4, 3, 172, 27, 16, 9, 162, 0, 19, 42, 180, 0, 154, 5, 161, 0, 7, 4, 167, 0, 28, 3]
abbrev dktX2_isOf_1 : List UInt8 := dkwX2_isOf_1 ++ dktX2_isOf_2
def dkwX2_isOf_0 : List UInt8 := [27, 8, 162, 0, 5, 4, 172, 27, 16, 7, 162, 0, 17, 42, 180, 0, 154, 6, 159, 0, 7, 4]
abbrev dktX2_isOf_0 : List UInt8 := dkwX2_isOf_0 ++ dktX2_isOf_1
theorem dksX2_isOf_0 : cX2_isOf.data.toList.drop 0 = dktX2_isOf_0 := by decide +kernel
theorem dksX2_isOf_1 : cX2_isOf.data.toList.drop 22 = dktX2_isOf_1 := dk_seg dksX2_isOf_0 22 rfl rfl
theorem dksX2_isOf_2 : cX2_isOf.data.toList.drop 46 = dktX2_isOf_2 := dk_seg dksX2_isOf_1 24 rfl rfl
theorem dksX2_isOf_3 : cX2_isOf.data.toList.drop 70 = dktX2_isOf_3 := dk_seg dksX2_isOf_2 24 rfl rfl
theorem dX2_isOf_0 : decode cX2_isOf 0 = .ok (.iload_n 1, 1) := dk_27 (dk_at dksX2_isOf_0 0 rfl rfl)
theorem dX2_isOf_1 : decode cX2_isOf 1 = .ok (.iconst 5, 1) := dk_8 (dk_at dksX2_isOf_0 1 rfl rfl)
theorem dX2_isOf_2 : decode cX2_isOf 2 = .ok (.if_icmp .ge 5, 3) := dk_162 0 5 (dk_at dksX2_isOf_0 2 rfl rfl)
theorem dX2_isOf_5 : decode cX2_isOf 5 = .ok (.iconst 1, 1) := dk_4 (dk_at dksX2_isOf_0 5 rfl rfl)
theorem dX2_isOf_6 : decode cX2_isOf 6 = .ok (.ireturn, 1) := dk_172 (dk_at dksX2_isOf_0 6 rfl rfl)
theorem dX2_isOf_7 : decode cX2_isOf 7 = .ok (.iload_n 1, 1) := dk_27 (dk_at dksX2_isOf_0 7 rfl rfl)
theorem dX2_isOf_8 : decode cX2_isOf 8 = .ok (.bipush 7, 2) := dk_16 7 (dk_at dksX2_isOf_0 8 rfl rfl)
theorem dX2_isOf_10 : decode cX2_isOf 10 = .ok (.if_icmp .ge 17, 3) := dk_162 0 17 (dk_at dksX2_isOf_0 10 rfl rfl)
theorem dX2_isOf_13 : decode cX2_isOf 13 = .ok (.aload_n 0, 1) := dk_42 (dk_at dksX2_isOf_0 13 rfl rfl)
theorem dX2_isOf_14 : decode cX2_isOf 14 = .ok (.getfield 154, 3) := dk_180 0 154 (dk_at dksX2_isOf_0 14 rfl rfl)
theorem dX2_isOf_17 : decode cX2_isOf 17 = .ok (.iconst 3, 1) := dk_6 (dk_at dksX2_isOf_0 17 rfl rfl)
theorem dX2_isOf_18 : decode cX2_isOf 18 = .ok (.if_icmp .eq 7, 3) := dk_159 0 7 (dk_at dksX2_isOf_0 18 rfl rfl)
theorem dX2_isOf_21 : decode cX2_isOf 21 = .ok (.iconst 1, 1) := dk_4 (dk_at dksX2_isOf_0 21 rfl rfl)
theorem dX2_isOf_22 : decode cX2_isOf 22 = .ok (.goto 4, 3) := dk_167 0 4 (dk_at dksX2_isOf_1 0 rfl rfl)
theorem dX2_isOf_25 : decode cX2_isOf 25 = .ok (.iconst 0, 1) := dk_3 (dk_at dksX2_isOf_1 3 rfl rfl)
theorem dX2_isOf_26 : decode cX2_isOf 26 = .ok (.ireturn, 1) := dk_172 (dk_at dksX2_isOf_1 4 rfl rfl)
theorem dX2_isOf_27 : decode cX2_isOf 27 = .ok (.iload_n 1, 1) := dk_27 (dk_at dksX2_isOf_1 5 rfl rfl)
theorem dX2_isOf_28 : decode cX2_isOf 28 = .ok (.bipush 9, 2) := dk_16 9 (dk_at dksX2_isOf_1 6 rfl rfl)
theorem dX2_isOf_30 : decode cX2_isOf 30 = .ok (.if_icmp .ge 19, 3) := dk_162 0 19 (dk_at dksX2_isOf_1 8 rfl rfl)
theorem dX2_isOf_33 : decode cX2_isOf 33 = .ok (.aload_n 0, 1) := dk_42 (dk_at dksX2_isOf_1 11 rfl rfl)
theorem dX2_isOf_34 : decode cX2_isOf 34 = .ok (.getfield 154, 3) := dk_180 0 154 (dk_at dksX2_isOf_1 12 rfl rfl)
theorem dX2_isOf_37 : decode cX2_isOf 37 = .ok (.iconst 2, 1) := dk_5 (dk_at dksX2_isOf_1 15 rfl rfl)
theorem dX2_isOf_38 : decode cX2_isOf 38 = .ok (.if_icmp .lt 7, 3) := dk_161 0 7 (dk_at dksX2_isOf_1 16 rfl rfl)
theorem dX2_isOf_41 : decode cX2_isOf 41 = .ok (.iconst 1, 1) := dk_4 (dk_at dksX2_isOf_1 19 rfl rfl)
theorem dX2_isOf_42 : decode cX2_isOf 42 = .ok (.goto 28, 3) := dk_167 0 28 (dk_at dksX2_isOf_1 20 rfl rfl)
theorem dX2_isOf_45 : decode cX2_isOf 45 = .ok (.iconst 0, 1) := dk_3 (dk_at dksX2_isOf_1 23 rfl rfl)
theorem dX2_isOf_46 : decode cX2_isOf 46 = .ok (.goto 24, 3) := dk_167 0 24 (dk_at dksX2_isOf_2 0 rfl rfl)
theorem dX2_isOf_49 : decode cX2_isOf 49 = .ok (.aload_n 0, 1) := dk_42 (dk_at dksX2_isOf_2 3 rfl rfl)
theorem dX2_isOf_50 : decode cX2_isOf 50 = .ok (.getfield 154, 3) := dk_180 0 154 (dk_at dksX2_isOf_2 4 rfl rfl)
theorem dX2_isOf_53 : decode cX2_isOf 53 = .ok (.iconst 1, 1) := dk_4 (dk_at dksX2_isOf_2 7 rfl rfl)
theorem dX2_isOf_54 : decode cX2_isOf 54 = .ok (.if_icmp .eq 11, 3) := dk_159 0 11 (dk_at dksX2_isOf_2 8 rfl rfl)
theorem dX2_isOf_57 : decode cX2_isOf 57 = .ok (.aload_n 0, 1) := dk_42 (dk_at dksX2_isOf_2 11 rfl rfl)
theorem dX2_isOf_58 : decode cX2_isOf 58 = .ok (.getfield 154, 3) := dk_180 0 154 (dk_at dksX2_isOf_2 12 rfl rfl)
theorem dX2_isOf_61 : decode cX2_isOf 61 = .ok (.iconst 3, 1) := dk_6 (dk_at dksX2_isOf_2 15 rfl rfl)
theorem dX2_isOf_62 : decode cX2_isOf 62 = .ok (.if_icmp .ne 7, 3) := dk_160 0 7 (dk_at dksX2_isOf_2 16 rfl rfl)
theorem dX2_isOf_65 : decode cX2_isOf 65 = .ok (.iconst 1, 1) := dk_4 (dk_at dksX2_isOf_2 19 rfl rfl)
theorem dX2_isOf_66 : decode cX2_isOf 66 = .ok (.goto 4, 3) := dk_167 0 4 (dk_at dksX2_isOf_2 20 rfl rfl)
theorem dX2_isOf_69 : decode cX2_isOf 69 = .ok (.iconst 0, 1) := dk_3 (dk_at dksX2_isOf_2 23 rfl rfl)
theorem dX2_isOf_70 : decode cX2_isOf 70 = .ok (.ireturn, 1) := dk_172 (dk_at dksX2_isOf_3 0 rfl rfl)
abbrev cX2_opened : ByteArray := prog_20_method_40_code
def yX2_opened : MethodName := ⟨RX2, "opened", "(I)I"⟩
def dkwX2_opened_2 : List UInt8 := [172]
abbrev dktX2_opened_2 : List UInt8 := dkwX2_opened_2 ++ []
def dkwX2_opened_1 : List UInt8 := [180, 0, 29, 42, 180, 0, 157, 27, 79, 42, 89, 180, 0, 157, 4, 96, 181, 0, 157, 42, 182, 0, 177, 3]
abbrev dktX2_opened_1 : List UInt8 := dkwX2_opened_1 ++ dktX2_opened_2
def dkwX2_opened_0 : List UInt8 := [42, 180, 0, 167, 16, 8, 160, 0, 5, 6, 172, 42, 89, 180, 0, 167, 4, 96, 181, 0, 167, 42]
abbrev dktX2_opened_0 : List UInt8 := dkwX2_opened_0 ++ dktX2_opened_1
theorem dksX2_opened_0 : cX2_opened.data.toList.drop 0 = dktX2_opened_0 := by decide +kernel
theorem dksX2_opened_1 : cX2_opened.data.toList.drop 22 = dktX2_opened_1 := dk_seg dksX2_opened_0 22 rfl rfl
theorem dksX2_opened_2 : cX2_opened.data.toList.drop 46 = dktX2_opened_2 := dk_seg dksX2_opened_1 24 rfl rfl
theorem dX2_opened_0 : decode cX2_opened 0 = .ok (.aload_n 0, 1) := dk_42 (dk_at dksX2_opened_0 0 rfl rfl)
theorem dX2_opened_1 : decode cX2_opened 1 = .ok (.getfield 167, 3) := dk_180 0 167 (dk_at dksX2_opened_0 1 rfl rfl)
theorem dX2_opened_4 : decode cX2_opened 4 = .ok (.bipush 8, 2) := dk_16 8 (dk_at dksX2_opened_0 4 rfl rfl)
theorem dX2_opened_6 : decode cX2_opened 6 = .ok (.if_icmp .ne 5, 3) := dk_160 0 5 (dk_at dksX2_opened_0 6 rfl rfl)
theorem dX2_opened_9 : decode cX2_opened 9 = .ok (.iconst 3, 1) := dk_6 (dk_at dksX2_opened_0 9 rfl rfl)
theorem dX2_opened_10 : decode cX2_opened 10 = .ok (.ireturn, 1) := dk_172 (dk_at dksX2_opened_0 10 rfl rfl)
theorem dX2_opened_11 : decode cX2_opened 11 = .ok (.aload_n 0, 1) := dk_42 (dk_at dksX2_opened_0 11 rfl rfl)
theorem dX2_opened_12 : decode cX2_opened 12 = .ok (.dup, 1) := dk_89 (dk_at dksX2_opened_0 12 rfl rfl)
theorem dX2_opened_13 : decode cX2_opened 13 = .ok (.getfield 167, 3) := dk_180 0 167 (dk_at dksX2_opened_0 13 rfl rfl)
theorem dX2_opened_16 : decode cX2_opened 16 = .ok (.iconst 1, 1) := dk_4 (dk_at dksX2_opened_0 16 rfl rfl)
theorem dX2_opened_17 : decode cX2_opened 17 = .ok (.iadd, 1) := dk_96 (dk_at dksX2_opened_0 17 rfl rfl)
theorem dX2_opened_18 : decode cX2_opened 18 = .ok (.putfield 167, 3) := dk_181 0 167 (dk_at dksX2_opened_0 18 rfl rfl)
theorem dX2_opened_21 : decode cX2_opened 21 = .ok (.aload_n 0, 1) := dk_42 (dk_at dksX2_opened_0 21 rfl rfl)
theorem dX2_opened_22 : decode cX2_opened 22 = .ok (.getfield 29, 3) := dk_180 0 29 (dk_at dksX2_opened_1 0 rfl rfl)
theorem dX2_opened_25 : decode cX2_opened 25 = .ok (.aload_n 0, 1) := dk_42 (dk_at dksX2_opened_1 3 rfl rfl)
theorem dX2_opened_26 : decode cX2_opened 26 = .ok (.getfield 157, 3) := dk_180 0 157 (dk_at dksX2_opened_1 4 rfl rfl)
theorem dX2_opened_29 : decode cX2_opened 29 = .ok (.iload_n 1, 1) := dk_27 (dk_at dksX2_opened_1 7 rfl rfl)
theorem dX2_opened_30 : decode cX2_opened 30 = .ok (.iastore, 1) := dk_79 (dk_at dksX2_opened_1 8 rfl rfl)
theorem dX2_opened_31 : decode cX2_opened 31 = .ok (.aload_n 0, 1) := dk_42 (dk_at dksX2_opened_1 9 rfl rfl)
theorem dX2_opened_32 : decode cX2_opened 32 = .ok (.dup, 1) := dk_89 (dk_at dksX2_opened_1 10 rfl rfl)
theorem dX2_opened_33 : decode cX2_opened 33 = .ok (.getfield 157, 3) := dk_180 0 157 (dk_at dksX2_opened_1 11 rfl rfl)
theorem dX2_opened_36 : decode cX2_opened 36 = .ok (.iconst 1, 1) := dk_4 (dk_at dksX2_opened_1 14 rfl rfl)
theorem dX2_opened_37 : decode cX2_opened 37 = .ok (.iadd, 1) := dk_96 (dk_at dksX2_opened_1 15 rfl rfl)
theorem dX2_opened_38 : decode cX2_opened 38 = .ok (.putfield 157, 3) := dk_181 0 157 (dk_at dksX2_opened_1 16 rfl rfl)
theorem dX2_opened_41 : decode cX2_opened 41 = .ok (.aload_n 0, 1) := dk_42 (dk_at dksX2_opened_1 19 rfl rfl)
theorem dX2_opened_42 : decode cX2_opened 42 = .ok (.invokevirtual 177, 3) := dk_182 0 177 (dk_at dksX2_opened_1 20 rfl rfl)
theorem dX2_opened_45 : decode cX2_opened 45 = .ok (.iconst 0, 1) := dk_3 (dk_at dksX2_opened_1 23 rfl rfl)
theorem dX2_opened_46 : decode cX2_opened 46 = .ok (.ireturn, 1) := dk_172 (dk_at dksX2_opened_2 0 rfl rfl)
abbrev cX2_isAskAhead : ByteArray := prog_20_method_39_code
def yX2_isAskAhead : MethodName := ⟨RX2, "isAskAhead", "()Z"⟩
def dkwX2_isAskAhead_2 : List UInt8 := [153, 0, 7, 4, 167, 0, 4, 3, 172]
abbrev dktX2_isAskAhead_2 : List UInt8 := dkwX2_isAskAhead_2 ++ []
def dkwX2_isAskAhead_1 : List UInt8 := [162, 0, 25, 42, 180, 0, 29, 42, 180, 0, 157, 4, 100, 46, 184, 0, 160, 4, 6, 184, 0, 63]
abbrev dktX2_isAskAhead_1 : List UInt8 := dkwX2_isAskAhead_1 ++ dktX2_isAskAhead_2
def dkwX2_isAskAhead_0 : List UInt8 := [42, 182, 0, 174, 16, 41, 160, 0, 45, 42, 180, 0, 29, 42, 180, 0, 157, 4, 100, 46, 16, 40]
abbrev dktX2_isAskAhead_0 : List UInt8 := dkwX2_isAskAhead_0 ++ dktX2_isAskAhead_1
theorem dksX2_isAskAhead_0 : cX2_isAskAhead.data.toList.drop 0 = dktX2_isAskAhead_0 := by decide +kernel
theorem dksX2_isAskAhead_1 : cX2_isAskAhead.data.toList.drop 22 = dktX2_isAskAhead_1 := dk_seg dksX2_isAskAhead_0 22 rfl rfl
theorem dksX2_isAskAhead_2 : cX2_isAskAhead.data.toList.drop 44 = dktX2_isAskAhead_2 := dk_seg dksX2_isAskAhead_1 22 rfl rfl
theorem dX2_isAskAhead_0 : decode cX2_isAskAhead 0 = .ok (.aload_n 0, 1) := dk_42 (dk_at dksX2_isAskAhead_0 0 rfl rfl)
theorem dX2_isAskAhead_1 : decode cX2_isAskAhead 1 = .ok (.invokevirtual 174, 3) := dk_182 0 174 (dk_at dksX2_isAskAhead_0 1 rfl rfl)
theorem dX2_isAskAhead_4 : decode cX2_isAskAhead 4 = .ok (.bipush 41, 2) := dk_16 41 (dk_at dksX2_isAskAhead_0 4 rfl rfl)
theorem dX2_isAskAhead_6 : decode cX2_isAskAhead 6 = .ok (.if_icmp .ne 45, 3) := dk_160 0 45 (dk_at dksX2_isAskAhead_0 6 rfl rfl)
theorem dX2_isAskAhead_9 : decode cX2_isAskAhead 9 = .ok (.aload_n 0, 1) := dk_42 (dk_at dksX2_isAskAhead_0 9 rfl rfl)
theorem dX2_isAskAhead_10 : decode cX2_isAskAhead 10 = .ok (.getfield 29, 3) := dk_180 0 29 (dk_at dksX2_isAskAhead_0 10 rfl rfl)
theorem dX2_isAskAhead_13 : decode cX2_isAskAhead 13 = .ok (.aload_n 0, 1) := dk_42 (dk_at dksX2_isAskAhead_0 13 rfl rfl)
theorem dX2_isAskAhead_14 : decode cX2_isAskAhead 14 = .ok (.getfield 157, 3) := dk_180 0 157 (dk_at dksX2_isAskAhead_0 14 rfl rfl)
theorem dX2_isAskAhead_17 : decode cX2_isAskAhead 17 = .ok (.iconst 1, 1) := dk_4 (dk_at dksX2_isAskAhead_0 17 rfl rfl)
theorem dX2_isAskAhead_18 : decode cX2_isAskAhead 18 = .ok (.isub, 1) := dk_100 (dk_at dksX2_isAskAhead_0 18 rfl rfl)
theorem dX2_isAskAhead_19 : decode cX2_isAskAhead 19 = .ok (.iaload, 1) := dk_46 (dk_at dksX2_isAskAhead_0 19 rfl rfl)
theorem dX2_isAskAhead_20 : decode cX2_isAskAhead 20 = .ok (.bipush 40, 2) := dk_16 40 (dk_at dksX2_isAskAhead_0 20 rfl rfl)
theorem dX2_isAskAhead_22 : decode cX2_isAskAhead 22 = .ok (.if_icmp .ge 25, 3) := dk_162 0 25 (dk_at dksX2_isAskAhead_1 0 rfl rfl)
theorem dX2_isAskAhead_25 : decode cX2_isAskAhead 25 = .ok (.aload_n 0, 1) := dk_42 (dk_at dksX2_isAskAhead_1 3 rfl rfl)
theorem dX2_isAskAhead_26 : decode cX2_isAskAhead 26 = .ok (.getfield 29, 3) := dk_180 0 29 (dk_at dksX2_isAskAhead_1 4 rfl rfl)
theorem dX2_isAskAhead_29 : decode cX2_isAskAhead 29 = .ok (.aload_n 0, 1) := dk_42 (dk_at dksX2_isAskAhead_1 7 rfl rfl)
theorem dX2_isAskAhead_30 : decode cX2_isAskAhead 30 = .ok (.getfield 157, 3) := dk_180 0 157 (dk_at dksX2_isAskAhead_1 8 rfl rfl)
theorem dX2_isAskAhead_33 : decode cX2_isAskAhead 33 = .ok (.iconst 1, 1) := dk_4 (dk_at dksX2_isAskAhead_1 11 rfl rfl)
theorem dX2_isAskAhead_34 : decode cX2_isAskAhead 34 = .ok (.isub, 1) := dk_100 (dk_at dksX2_isAskAhead_1 12 rfl rfl)
theorem dX2_isAskAhead_35 : decode cX2_isAskAhead 35 = .ok (.iaload, 1) := dk_46 (dk_at dksX2_isAskAhead_1 13 rfl rfl)
theorem dX2_isAskAhead_36 : decode cX2_isAskAhead 36 = .ok (.invokestatic 160, 3) := dk_184 0 160 (dk_at dksX2_isAskAhead_1 14 rfl rfl)
theorem dX2_isAskAhead_39 : decode cX2_isAskAhead 39 = .ok (.iconst 1, 1) := dk_4 (dk_at dksX2_isAskAhead_1 17 rfl rfl)
theorem dX2_isAskAhead_40 : decode cX2_isAskAhead 40 = .ok (.iconst 3, 1) := dk_6 (dk_at dksX2_isAskAhead_1 18 rfl rfl)
theorem dX2_isAskAhead_41 : decode cX2_isAskAhead 41 = .ok (.invokestatic 63, 3) := dk_184 0 63 (dk_at dksX2_isAskAhead_1 19 rfl rfl)
theorem dX2_isAskAhead_44 : decode cX2_isAskAhead 44 = .ok (.ifCond .eq 7, 3) := dk_153 0 7 (dk_at dksX2_isAskAhead_2 0 rfl rfl)
theorem dX2_isAskAhead_47 : decode cX2_isAskAhead 47 = .ok (.iconst 1, 1) := dk_4 (dk_at dksX2_isAskAhead_2 3 rfl rfl)
theorem dX2_isAskAhead_48 : decode cX2_isAskAhead 48 = .ok (.goto 4, 3) := dk_167 0 4 (dk_at dksX2_isAskAhead_2 4 rfl rfl)
theorem dX2_isAskAhead_51 : decode cX2_isAskAhead 51 = .ok (.iconst 0, 1) := dk_3 (dk_at dksX2_isAskAhead_2 7 rfl rfl)
theorem dX2_isAskAhead_52 : decode cX2_isAskAhead 52 = .ok (.ireturn, 1) := dk_172 (dk_at dksX2_isAskAhead_2 8 rfl rfl)
abbrev cX2_fault : ByteArray := prog_20_method_58_code
def yX2_fault : MethodName := ⟨RX2, "fault", "(I)I"⟩
def dkwX2_fault_1 : List UInt8 := [172]
abbrev dktX2_fault_1 : List UInt8 := dkwX2_fault_1 ++ []
def dkwX2_fault_0 : List UInt8 := [27, 154, 0, 10, 42, 180, 0, 22, 167, 0, 16, 27, 4, 160, 0, 10, 42, 180, 0, 26, 167, 0, 4, 2]
abbrev dktX2_fault_0 : List UInt8 := dkwX2_fault_0 ++ dktX2_fault_1
theorem dksX2_fault_0 : cX2_fault.data.toList.drop 0 = dktX2_fault_0 := by decide +kernel
theorem dksX2_fault_1 : cX2_fault.data.toList.drop 24 = dktX2_fault_1 := dk_seg dksX2_fault_0 24 rfl rfl
theorem dX2_fault_0 : decode cX2_fault 0 = .ok (.iload_n 1, 1) := dk_27 (dk_at dksX2_fault_0 0 rfl rfl)
theorem dX2_fault_1 : decode cX2_fault 1 = .ok (.ifCond .ne 10, 3) := dk_154 0 10 (dk_at dksX2_fault_0 1 rfl rfl)
theorem dX2_fault_4 : decode cX2_fault 4 = .ok (.aload_n 0, 1) := dk_42 (dk_at dksX2_fault_0 4 rfl rfl)
theorem dX2_fault_5 : decode cX2_fault 5 = .ok (.getfield 22, 3) := dk_180 0 22 (dk_at dksX2_fault_0 5 rfl rfl)
theorem dX2_fault_8 : decode cX2_fault 8 = .ok (.goto 16, 3) := dk_167 0 16 (dk_at dksX2_fault_0 8 rfl rfl)
theorem dX2_fault_11 : decode cX2_fault 11 = .ok (.iload_n 1, 1) := dk_27 (dk_at dksX2_fault_0 11 rfl rfl)
theorem dX2_fault_12 : decode cX2_fault 12 = .ok (.iconst 1, 1) := dk_4 (dk_at dksX2_fault_0 12 rfl rfl)
theorem dX2_fault_13 : decode cX2_fault 13 = .ok (.if_icmp .ne 10, 3) := dk_160 0 10 (dk_at dksX2_fault_0 13 rfl rfl)
theorem dX2_fault_16 : decode cX2_fault 16 = .ok (.aload_n 0, 1) := dk_42 (dk_at dksX2_fault_0 16 rfl rfl)
theorem dX2_fault_17 : decode cX2_fault 17 = .ok (.getfield 26, 3) := dk_180 0 26 (dk_at dksX2_fault_0 17 rfl rfl)
theorem dX2_fault_20 : decode cX2_fault 20 = .ok (.goto 4, 3) := dk_167 0 4 (dk_at dksX2_fault_0 20 rfl rfl)
theorem dX2_fault_23 : decode cX2_fault 23 = .ok (.iconst (-1), 1) := dk_2 (dk_at dksX2_fault_0 23 rfl rfl)
theorem dX2_fault_24 : decode cX2_fault 24 = .ok (.ireturn, 1) := dk_172 (dk_at dksX2_fault_1 0 rfl rfl)
abbrev cX2_by : ByteArray := prog_20_method_59_code
def yX2_by : MethodName := ⟨RX2, "by", "(I)Z"⟩
def dkwX2_by_1 : List UInt8 := [79, 4, 172]
abbrev dktX2_by_1 : List UInt8 := dkwX2_by_1 ++ []
def dkwX2_by_0 : List UInt8 := [27, 2, 42, 180, 0, 7, 5, 46, 4, 100, 184, 0, 63, 154, 0, 5, 3, 172, 42, 180, 0, 7, 6, 27]
abbrev dktX2_by_0 : List UInt8 := dkwX2_by_0 ++ dktX2_by_1
theorem dksX2_by_0 : cX2_by.data.toList.drop 0 = dktX2_by_0 := by decide +kernel
theorem dksX2_by_1 : cX2_by.data.toList.drop 24 = dktX2_by_1 := dk_seg dksX2_by_0 24 rfl rfl
theorem dX2_by_0 : decode cX2_by 0 = .ok (.iload_n 1, 1) := dk_27 (dk_at dksX2_by_0 0 rfl rfl)
theorem dX2_by_1 : decode cX2_by 1 = .ok (.iconst (-1), 1) := dk_2 (dk_at dksX2_by_0 1 rfl rfl)
theorem dX2_by_2 : decode cX2_by 2 = .ok (.aload_n 0, 1) := dk_42 (dk_at dksX2_by_0 2 rfl rfl)
theorem dX2_by_3 : decode cX2_by 3 = .ok (.getfield 7, 3) := dk_180 0 7 (dk_at dksX2_by_0 3 rfl rfl)
theorem dX2_by_6 : decode cX2_by 6 = .ok (.iconst 2, 1) := dk_5 (dk_at dksX2_by_0 6 rfl rfl)
theorem dX2_by_7 : decode cX2_by 7 = .ok (.iaload, 1) := dk_46 (dk_at dksX2_by_0 7 rfl rfl)
theorem dX2_by_8 : decode cX2_by 8 = .ok (.iconst 1, 1) := dk_4 (dk_at dksX2_by_0 8 rfl rfl)
theorem dX2_by_9 : decode cX2_by 9 = .ok (.isub, 1) := dk_100 (dk_at dksX2_by_0 9 rfl rfl)
theorem dX2_by_10 : decode cX2_by 10 = .ok (.invokestatic 63, 3) := dk_184 0 63 (dk_at dksX2_by_0 10 rfl rfl)
theorem dX2_by_13 : decode cX2_by 13 = .ok (.ifCond .ne 5, 3) := dk_154 0 5 (dk_at dksX2_by_0 13 rfl rfl)
theorem dX2_by_16 : decode cX2_by 16 = .ok (.iconst 0, 1) := dk_3 (dk_at dksX2_by_0 16 rfl rfl)
theorem dX2_by_17 : decode cX2_by 17 = .ok (.ireturn, 1) := dk_172 (dk_at dksX2_by_0 17 rfl rfl)
theorem dX2_by_18 : decode cX2_by 18 = .ok (.aload_n 0, 1) := dk_42 (dk_at dksX2_by_0 18 rfl rfl)
theorem dX2_by_19 : decode cX2_by 19 = .ok (.getfield 7, 3) := dk_180 0 7 (dk_at dksX2_by_0 19 rfl rfl)
theorem dX2_by_22 : decode cX2_by 22 = .ok (.iconst 3, 1) := dk_6 (dk_at dksX2_by_0 22 rfl rfl)
theorem dX2_by_23 : decode cX2_by 23 = .ok (.iload_n 1, 1) := dk_27 (dk_at dksX2_by_0 23 rfl rfl)
theorem dX2_by_24 : decode cX2_by 24 = .ok (.iastore, 1) := dk_79 (dk_at dksX2_by_1 0 rfl rfl)
theorem dX2_by_25 : decode cX2_by 25 = .ok (.iconst 1, 1) := dk_4 (dk_at dksX2_by_1 1 rfl rfl)
theorem dX2_by_26 : decode cX2_by 26 = .ok (.ireturn, 1) := dk_172 (dk_at dksX2_by_1 2 rfl rfl)
abbrev cX2_undo : ByteArray := prog_20_method_82_code
def yX2_undo : MethodName := ⟨RX2, "undo", "()I"⟩
def dkwX2_undo_6 : List UInt8 := [167, 255, 183, 42, 180, 0, 7, 7, 46, 172]
abbrev dktX2_undo_6 : List UInt8 := dkwX2_undo_6 ++ []
def dkwX2_undo_5 : List UInt8 := [27, 7, 96, 16, 7, 28, 104, 96, 29, 96, 46, 182, 0, 82, 132, 3, 1, 167, 255, 216, 132, 2, 1]
abbrev dktX2_undo_5 : List UInt8 := dkwX2_undo_5 ++ dktX2_undo_6
def dkwX2_undo_4 : List UInt8 := [62, 29, 16, 7, 162, 0, 40, 28, 42, 180, 0, 7, 27, 46, 162, 0, 30, 42, 28, 29, 42, 180, 0, 7]
abbrev dktX2_undo_4 : List UInt8 := dkwX2_undo_4 ++ dktX2_undo_5
def dkwX2_undo_3 : List UInt8 := [180, 0, 7, 4, 46, 162, 0, 69, 28, 42, 180, 0, 7, 27, 46, 161, 0, 8, 42, 28, 182, 0, 86, 3]
abbrev dktX2_undo_3 : List UInt8 := dkwX2_undo_3 ++ dktX2_undo_4
def dkwX2_undo_2 : List UInt8 := [28, 96, 42, 180, 0, 7, 27, 4, 96, 28, 96, 46, 79, 132, 2, 1, 167, 255, 229, 3, 61, 28, 42]
abbrev dktX2_undo_2 : List UInt8 := dkwX2_undo_2 ++ dktX2_undo_3
def dkwX2_undo_1 : List UInt8 := [16, 46, 42, 180, 0, 7, 7, 46, 104, 96, 60, 3, 61, 28, 6, 162, 0, 28, 42, 180, 0, 7, 16, 10]
abbrev dktX2_undo_1 : List UInt8 := dkwX2_undo_1 ++ dktX2_undo_2
def dkwX2_undo_0 : List UInt8 := [42, 180, 0, 7, 7, 46, 154, 0, 5, 2, 172, 42, 180, 0, 7, 7, 92, 46, 4, 100, 79, 17, 0, 142]
abbrev dktX2_undo_0 : List UInt8 := dkwX2_undo_0 ++ dktX2_undo_1
theorem dksX2_undo_0 : cX2_undo.data.toList.drop 0 = dktX2_undo_0 := by decide +kernel
theorem dksX2_undo_1 : cX2_undo.data.toList.drop 24 = dktX2_undo_1 := dk_seg dksX2_undo_0 24 rfl rfl
theorem dksX2_undo_2 : cX2_undo.data.toList.drop 48 = dktX2_undo_2 := dk_seg dksX2_undo_1 24 rfl rfl
theorem dksX2_undo_3 : cX2_undo.data.toList.drop 71 = dktX2_undo_3 := dk_seg dksX2_undo_2 23 rfl rfl
theorem dksX2_undo_4 : cX2_undo.data.toList.drop 95 = dktX2_undo_4 := dk_seg dksX2_undo_3 24 rfl rfl
theorem dksX2_undo_5 : cX2_undo.data.toList.drop 119 = dktX2_undo_5 := dk_seg dksX2_undo_4 24 rfl rfl
theorem dksX2_undo_6 : cX2_undo.data.toList.drop 142 = dktX2_undo_6 := dk_seg dksX2_undo_5 23 rfl rfl
theorem dX2_undo_0 : decode cX2_undo 0 = .ok (.aload_n 0, 1) := dk_42 (dk_at dksX2_undo_0 0 rfl rfl)
theorem dX2_undo_1 : decode cX2_undo 1 = .ok (.getfield 7, 3) := dk_180 0 7 (dk_at dksX2_undo_0 1 rfl rfl)
theorem dX2_undo_4 : decode cX2_undo 4 = .ok (.iconst 4, 1) := dk_7 (dk_at dksX2_undo_0 4 rfl rfl)
theorem dX2_undo_5 : decode cX2_undo 5 = .ok (.iaload, 1) := dk_46 (dk_at dksX2_undo_0 5 rfl rfl)
theorem dX2_undo_6 : decode cX2_undo 6 = .ok (.ifCond .ne 5, 3) := dk_154 0 5 (dk_at dksX2_undo_0 6 rfl rfl)
theorem dX2_undo_9 : decode cX2_undo 9 = .ok (.iconst (-1), 1) := dk_2 (dk_at dksX2_undo_0 9 rfl rfl)
theorem dX2_undo_10 : decode cX2_undo 10 = .ok (.ireturn, 1) := dk_172 (dk_at dksX2_undo_0 10 rfl rfl)
theorem dX2_undo_11 : decode cX2_undo 11 = .ok (.aload_n 0, 1) := dk_42 (dk_at dksX2_undo_0 11 rfl rfl)
theorem dX2_undo_12 : decode cX2_undo 12 = .ok (.getfield 7, 3) := dk_180 0 7 (dk_at dksX2_undo_0 12 rfl rfl)
theorem dX2_undo_15 : decode cX2_undo 15 = .ok (.iconst 4, 1) := dk_7 (dk_at dksX2_undo_0 15 rfl rfl)
theorem dX2_undo_16 : decode cX2_undo 16 = .ok (.dup2, 1) := dk_92 (dk_at dksX2_undo_0 16 rfl rfl)
theorem dX2_undo_17 : decode cX2_undo 17 = .ok (.iaload, 1) := dk_46 (dk_at dksX2_undo_0 17 rfl rfl)
theorem dX2_undo_18 : decode cX2_undo 18 = .ok (.iconst 1, 1) := dk_4 (dk_at dksX2_undo_0 18 rfl rfl)
theorem dX2_undo_19 : decode cX2_undo 19 = .ok (.isub, 1) := dk_100 (dk_at dksX2_undo_0 19 rfl rfl)
theorem dX2_undo_20 : decode cX2_undo 20 = .ok (.iastore, 1) := dk_79 (dk_at dksX2_undo_0 20 rfl rfl)
theorem dX2_undo_21 : decode cX2_undo 21 = .ok (.sipush 142, 3) := dk_17 0 142 (dk_at dksX2_undo_0 21 rfl rfl)
theorem dX2_undo_24 : decode cX2_undo 24 = .ok (.bipush 46, 2) := dk_16 46 (dk_at dksX2_undo_1 0 rfl rfl)
theorem dX2_undo_26 : decode cX2_undo 26 = .ok (.aload_n 0, 1) := dk_42 (dk_at dksX2_undo_1 2 rfl rfl)
theorem dX2_undo_27 : decode cX2_undo 27 = .ok (.getfield 7, 3) := dk_180 0 7 (dk_at dksX2_undo_1 3 rfl rfl)
theorem dX2_undo_30 : decode cX2_undo 30 = .ok (.iconst 4, 1) := dk_7 (dk_at dksX2_undo_1 6 rfl rfl)
theorem dX2_undo_31 : decode cX2_undo 31 = .ok (.iaload, 1) := dk_46 (dk_at dksX2_undo_1 7 rfl rfl)
theorem dX2_undo_32 : decode cX2_undo 32 = .ok (.imul, 1) := dk_104 (dk_at dksX2_undo_1 8 rfl rfl)
theorem dX2_undo_33 : decode cX2_undo 33 = .ok (.iadd, 1) := dk_96 (dk_at dksX2_undo_1 9 rfl rfl)
theorem dX2_undo_34 : decode cX2_undo 34 = .ok (.istore_n 1, 1) := dk_60 (dk_at dksX2_undo_1 10 rfl rfl)
theorem dX2_undo_35 : decode cX2_undo 35 = .ok (.iconst 0, 1) := dk_3 (dk_at dksX2_undo_1 11 rfl rfl)
theorem dX2_undo_36 : decode cX2_undo 36 = .ok (.istore_n 2, 1) := dk_61 (dk_at dksX2_undo_1 12 rfl rfl)
theorem dX2_undo_37 : decode cX2_undo 37 = .ok (.iload_n 2, 1) := dk_28 (dk_at dksX2_undo_1 13 rfl rfl)
theorem dX2_undo_38 : decode cX2_undo 38 = .ok (.iconst 3, 1) := dk_6 (dk_at dksX2_undo_1 14 rfl rfl)
theorem dX2_undo_39 : decode cX2_undo 39 = .ok (.if_icmp .ge 28, 3) := dk_162 0 28 (dk_at dksX2_undo_1 15 rfl rfl)
theorem dX2_undo_42 : decode cX2_undo 42 = .ok (.aload_n 0, 1) := dk_42 (dk_at dksX2_undo_1 18 rfl rfl)
theorem dX2_undo_43 : decode cX2_undo 43 = .ok (.getfield 7, 3) := dk_180 0 7 (dk_at dksX2_undo_1 19 rfl rfl)
theorem dX2_undo_46 : decode cX2_undo 46 = .ok (.bipush 10, 2) := dk_16 10 (dk_at dksX2_undo_1 22 rfl rfl)
theorem dX2_undo_48 : decode cX2_undo 48 = .ok (.iload_n 2, 1) := dk_28 (dk_at dksX2_undo_2 0 rfl rfl)
theorem dX2_undo_49 : decode cX2_undo 49 = .ok (.iadd, 1) := dk_96 (dk_at dksX2_undo_2 1 rfl rfl)
theorem dX2_undo_50 : decode cX2_undo 50 = .ok (.aload_n 0, 1) := dk_42 (dk_at dksX2_undo_2 2 rfl rfl)
theorem dX2_undo_51 : decode cX2_undo 51 = .ok (.getfield 7, 3) := dk_180 0 7 (dk_at dksX2_undo_2 3 rfl rfl)
theorem dX2_undo_54 : decode cX2_undo 54 = .ok (.iload_n 1, 1) := dk_27 (dk_at dksX2_undo_2 6 rfl rfl)
theorem dX2_undo_55 : decode cX2_undo 55 = .ok (.iconst 1, 1) := dk_4 (dk_at dksX2_undo_2 7 rfl rfl)
theorem dX2_undo_56 : decode cX2_undo 56 = .ok (.iadd, 1) := dk_96 (dk_at dksX2_undo_2 8 rfl rfl)
theorem dX2_undo_57 : decode cX2_undo 57 = .ok (.iload_n 2, 1) := dk_28 (dk_at dksX2_undo_2 9 rfl rfl)
theorem dX2_undo_58 : decode cX2_undo 58 = .ok (.iadd, 1) := dk_96 (dk_at dksX2_undo_2 10 rfl rfl)
theorem dX2_undo_59 : decode cX2_undo 59 = .ok (.iaload, 1) := dk_46 (dk_at dksX2_undo_2 11 rfl rfl)
theorem dX2_undo_60 : decode cX2_undo 60 = .ok (.iastore, 1) := dk_79 (dk_at dksX2_undo_2 12 rfl rfl)
theorem dX2_undo_61 : decode cX2_undo 61 = .ok (.iinc 2 1, 3) := dk_132 2 1 (dk_at dksX2_undo_2 13 rfl rfl)
theorem dX2_undo_64 : decode cX2_undo 64 = .ok (.goto (-27), 3) := dk_167 255 229 (dk_at dksX2_undo_2 16 rfl rfl)
theorem dX2_undo_67 : decode cX2_undo 67 = .ok (.iconst 0, 1) := dk_3 (dk_at dksX2_undo_2 19 rfl rfl)
theorem dX2_undo_68 : decode cX2_undo 68 = .ok (.istore_n 2, 1) := dk_61 (dk_at dksX2_undo_2 20 rfl rfl)
theorem dX2_undo_69 : decode cX2_undo 69 = .ok (.iload_n 2, 1) := dk_28 (dk_at dksX2_undo_2 21 rfl rfl)
theorem dX2_undo_70 : decode cX2_undo 70 = .ok (.aload_n 0, 1) := dk_42 (dk_at dksX2_undo_2 22 rfl rfl)
theorem dX2_undo_71 : decode cX2_undo 71 = .ok (.getfield 7, 3) := dk_180 0 7 (dk_at dksX2_undo_3 0 rfl rfl)
theorem dX2_undo_74 : decode cX2_undo 74 = .ok (.iconst 1, 1) := dk_4 (dk_at dksX2_undo_3 3 rfl rfl)
theorem dX2_undo_75 : decode cX2_undo 75 = .ok (.iaload, 1) := dk_46 (dk_at dksX2_undo_3 4 rfl rfl)
theorem dX2_undo_76 : decode cX2_undo 76 = .ok (.if_icmp .ge 69, 3) := dk_162 0 69 (dk_at dksX2_undo_3 5 rfl rfl)
theorem dX2_undo_79 : decode cX2_undo 79 = .ok (.iload_n 2, 1) := dk_28 (dk_at dksX2_undo_3 8 rfl rfl)
theorem dX2_undo_80 : decode cX2_undo 80 = .ok (.aload_n 0, 1) := dk_42 (dk_at dksX2_undo_3 9 rfl rfl)
theorem dX2_undo_81 : decode cX2_undo 81 = .ok (.getfield 7, 3) := dk_180 0 7 (dk_at dksX2_undo_3 10 rfl rfl)
theorem dX2_undo_84 : decode cX2_undo 84 = .ok (.iload_n 1, 1) := dk_27 (dk_at dksX2_undo_3 13 rfl rfl)
theorem dX2_undo_85 : decode cX2_undo 85 = .ok (.iaload, 1) := dk_46 (dk_at dksX2_undo_3 14 rfl rfl)
theorem dX2_undo_86 : decode cX2_undo 86 = .ok (.if_icmp .lt 8, 3) := dk_161 0 8 (dk_at dksX2_undo_3 15 rfl rfl)
theorem dX2_undo_89 : decode cX2_undo 89 = .ok (.aload_n 0, 1) := dk_42 (dk_at dksX2_undo_3 18 rfl rfl)
theorem dX2_undo_90 : decode cX2_undo 90 = .ok (.iload_n 2, 1) := dk_28 (dk_at dksX2_undo_3 19 rfl rfl)
theorem dX2_undo_91 : decode cX2_undo 91 = .ok (.invokevirtual 86, 3) := dk_182 0 86 (dk_at dksX2_undo_3 20 rfl rfl)
theorem dX2_undo_94 : decode cX2_undo 94 = .ok (.iconst 0, 1) := dk_3 (dk_at dksX2_undo_3 23 rfl rfl)
theorem dX2_undo_95 : decode cX2_undo 95 = .ok (.istore_n 3, 1) := dk_62 (dk_at dksX2_undo_4 0 rfl rfl)
theorem dX2_undo_96 : decode cX2_undo 96 = .ok (.iload_n 3, 1) := dk_29 (dk_at dksX2_undo_4 1 rfl rfl)
theorem dX2_undo_97 : decode cX2_undo 97 = .ok (.bipush 7, 2) := dk_16 7 (dk_at dksX2_undo_4 2 rfl rfl)
theorem dX2_undo_99 : decode cX2_undo 99 = .ok (.if_icmp .ge 40, 3) := dk_162 0 40 (dk_at dksX2_undo_4 4 rfl rfl)
theorem dX2_undo_102 : decode cX2_undo 102 = .ok (.iload_n 2, 1) := dk_28 (dk_at dksX2_undo_4 7 rfl rfl)
theorem dX2_undo_103 : decode cX2_undo 103 = .ok (.aload_n 0, 1) := dk_42 (dk_at dksX2_undo_4 8 rfl rfl)
theorem dX2_undo_104 : decode cX2_undo 104 = .ok (.getfield 7, 3) := dk_180 0 7 (dk_at dksX2_undo_4 9 rfl rfl)
theorem dX2_undo_107 : decode cX2_undo 107 = .ok (.iload_n 1, 1) := dk_27 (dk_at dksX2_undo_4 12 rfl rfl)
theorem dX2_undo_108 : decode cX2_undo 108 = .ok (.iaload, 1) := dk_46 (dk_at dksX2_undo_4 13 rfl rfl)
theorem dX2_undo_109 : decode cX2_undo 109 = .ok (.if_icmp .ge 30, 3) := dk_162 0 30 (dk_at dksX2_undo_4 14 rfl rfl)
theorem dX2_undo_112 : decode cX2_undo 112 = .ok (.aload_n 0, 1) := dk_42 (dk_at dksX2_undo_4 17 rfl rfl)
theorem dX2_undo_113 : decode cX2_undo 113 = .ok (.iload_n 2, 1) := dk_28 (dk_at dksX2_undo_4 18 rfl rfl)
theorem dX2_undo_114 : decode cX2_undo 114 = .ok (.iload_n 3, 1) := dk_29 (dk_at dksX2_undo_4 19 rfl rfl)
theorem dX2_undo_115 : decode cX2_undo 115 = .ok (.aload_n 0, 1) := dk_42 (dk_at dksX2_undo_4 20 rfl rfl)
theorem dX2_undo_116 : decode cX2_undo 116 = .ok (.getfield 7, 3) := dk_180 0 7 (dk_at dksX2_undo_4 21 rfl rfl)
theorem dX2_undo_119 : decode cX2_undo 119 = .ok (.iload_n 1, 1) := dk_27 (dk_at dksX2_undo_5 0 rfl rfl)
theorem dX2_undo_120 : decode cX2_undo 120 = .ok (.iconst 4, 1) := dk_7 (dk_at dksX2_undo_5 1 rfl rfl)
theorem dX2_undo_121 : decode cX2_undo 121 = .ok (.iadd, 1) := dk_96 (dk_at dksX2_undo_5 2 rfl rfl)
theorem dX2_undo_122 : decode cX2_undo 122 = .ok (.bipush 7, 2) := dk_16 7 (dk_at dksX2_undo_5 3 rfl rfl)
theorem dX2_undo_124 : decode cX2_undo 124 = .ok (.iload_n 2, 1) := dk_28 (dk_at dksX2_undo_5 5 rfl rfl)
theorem dX2_undo_125 : decode cX2_undo 125 = .ok (.imul, 1) := dk_104 (dk_at dksX2_undo_5 6 rfl rfl)
theorem dX2_undo_126 : decode cX2_undo 126 = .ok (.iadd, 1) := dk_96 (dk_at dksX2_undo_5 7 rfl rfl)
theorem dX2_undo_127 : decode cX2_undo 127 = .ok (.iload_n 3, 1) := dk_29 (dk_at dksX2_undo_5 8 rfl rfl)
theorem dX2_undo_128 : decode cX2_undo 128 = .ok (.iadd, 1) := dk_96 (dk_at dksX2_undo_5 9 rfl rfl)
theorem dX2_undo_129 : decode cX2_undo 129 = .ok (.iaload, 1) := dk_46 (dk_at dksX2_undo_5 10 rfl rfl)
theorem dX2_undo_130 : decode cX2_undo 130 = .ok (.invokevirtual 82, 3) := dk_182 0 82 (dk_at dksX2_undo_5 11 rfl rfl)
theorem dX2_undo_133 : decode cX2_undo 133 = .ok (.iinc 3 1, 3) := dk_132 3 1 (dk_at dksX2_undo_5 14 rfl rfl)
theorem dX2_undo_136 : decode cX2_undo 136 = .ok (.goto (-40), 3) := dk_167 255 216 (dk_at dksX2_undo_5 17 rfl rfl)
theorem dX2_undo_139 : decode cX2_undo 139 = .ok (.iinc 2 1, 3) := dk_132 2 1 (dk_at dksX2_undo_5 20 rfl rfl)
theorem dX2_undo_142 : decode cX2_undo 142 = .ok (.goto (-73), 3) := dk_167 255 183 (dk_at dksX2_undo_6 0 rfl rfl)
theorem dX2_undo_145 : decode cX2_undo 145 = .ok (.aload_n 0, 1) := dk_42 (dk_at dksX2_undo_6 3 rfl rfl)
theorem dX2_undo_146 : decode cX2_undo 146 = .ok (.getfield 7, 3) := dk_180 0 7 (dk_at dksX2_undo_6 4 rfl rfl)
theorem dX2_undo_149 : decode cX2_undo 149 = .ok (.iconst 4, 1) := dk_7 (dk_at dksX2_undo_6 7 rfl rfl)
theorem dX2_undo_150 : decode cX2_undo 150 = .ok (.iaload, 1) := dk_46 (dk_at dksX2_undo_6 8 rfl rfl)
theorem dX2_undo_151 : decode cX2_undo 151 = .ok (.ireturn, 1) := dk_172 (dk_at dksX2_undo_6 9 rfl rfl)
abbrev cX2_call : ByteArray := prog_20_method_85_code
def yX2_call : MethodName := ⟨RX2, "call", "(II)I"⟩
def dkwX2_call_1 : List UInt8 := [182, 0, 71, 172]
abbrev dktX2_call_1 : List UInt8 := dkwX2_call_1 ++ []
def dkwX2_call_0 : List UInt8 := [42, 27, 28, 182, 1, 90, 154, 0, 5, 2, 172, 42, 182, 1, 93, 42, 27, 28, 182, 1, 96, 42, 27, 6]
abbrev dktX2_call_0 : List UInt8 := dkwX2_call_0 ++ dktX2_call_1
theorem dksX2_call_0 : cX2_call.data.toList.drop 0 = dktX2_call_0 := by decide +kernel
theorem dksX2_call_1 : cX2_call.data.toList.drop 24 = dktX2_call_1 := dk_seg dksX2_call_0 24 rfl rfl
theorem dX2_call_0 : decode cX2_call 0 = .ok (.aload_n 0, 1) := dk_42 (dk_at dksX2_call_0 0 rfl rfl)
theorem dX2_call_1 : decode cX2_call 1 = .ok (.iload_n 1, 1) := dk_27 (dk_at dksX2_call_0 1 rfl rfl)
theorem dX2_call_2 : decode cX2_call 2 = .ok (.iload_n 2, 1) := dk_28 (dk_at dksX2_call_0 2 rfl rfl)
theorem dX2_call_3 : decode cX2_call 3 = .ok (.invokevirtual 346, 3) := dk_182 1 90 (dk_at dksX2_call_0 3 rfl rfl)
theorem dX2_call_6 : decode cX2_call 6 = .ok (.ifCond .ne 5, 3) := dk_154 0 5 (dk_at dksX2_call_0 6 rfl rfl)
theorem dX2_call_9 : decode cX2_call 9 = .ok (.iconst (-1), 1) := dk_2 (dk_at dksX2_call_0 9 rfl rfl)
theorem dX2_call_10 : decode cX2_call 10 = .ok (.ireturn, 1) := dk_172 (dk_at dksX2_call_0 10 rfl rfl)
theorem dX2_call_11 : decode cX2_call 11 = .ok (.aload_n 0, 1) := dk_42 (dk_at dksX2_call_0 11 rfl rfl)
theorem dX2_call_12 : decode cX2_call 12 = .ok (.invokevirtual 349, 3) := dk_182 1 93 (dk_at dksX2_call_0 12 rfl rfl)
theorem dX2_call_15 : decode cX2_call 15 = .ok (.aload_n 0, 1) := dk_42 (dk_at dksX2_call_0 15 rfl rfl)
theorem dX2_call_16 : decode cX2_call 16 = .ok (.iload_n 1, 1) := dk_27 (dk_at dksX2_call_0 16 rfl rfl)
theorem dX2_call_17 : decode cX2_call 17 = .ok (.iload_n 2, 1) := dk_28 (dk_at dksX2_call_0 17 rfl rfl)
theorem dX2_call_18 : decode cX2_call 18 = .ok (.invokevirtual 352, 3) := dk_182 1 96 (dk_at dksX2_call_0 18 rfl rfl)
theorem dX2_call_21 : decode cX2_call 21 = .ok (.aload_n 0, 1) := dk_42 (dk_at dksX2_call_0 21 rfl rfl)
theorem dX2_call_22 : decode cX2_call 22 = .ok (.iload_n 1, 1) := dk_27 (dk_at dksX2_call_0 22 rfl rfl)
theorem dX2_call_23 : decode cX2_call 23 = .ok (.iconst 3, 1) := dk_6 (dk_at dksX2_call_0 23 rfl rfl)
theorem dX2_call_24 : decode cX2_call 24 = .ok (.invokevirtual 71, 3) := dk_182 0 71 (dk_at dksX2_call_1 0 rfl rfl)
theorem dX2_call_27 : decode cX2_call 27 = .ok (.ireturn, 1) := dk_172 (dk_at dksX2_call_1 3 rfl rfl)
abbrev cX2_canCall : ByteArray := prog_20_method_83_code
def yX2_canCall : MethodName := ⟨RX2, "canCall", "(II)Z"⟩
def dkwX2_canCall_1 : List UInt8 := [153, 0, 7, 4, 167, 0, 4, 3, 172]
abbrev dktX2_canCall_1 : List UInt8 := dkwX2_canCall_1 ++ []
def dkwX2_canCall_0 : List UInt8 := [42, 27, 182, 1, 87, 153, 0, 26, 42, 27, 16, 6, 182, 0, 71, 4, 159, 0, 15, 42, 28, 182, 0, 75]
abbrev dktX2_canCall_0 : List UInt8 := dkwX2_canCall_0 ++ dktX2_canCall_1
theorem dksX2_canCall_0 : cX2_canCall.data.toList.drop 0 = dktX2_canCall_0 := by decide +kernel
theorem dksX2_canCall_1 : cX2_canCall.data.toList.drop 24 = dktX2_canCall_1 := dk_seg dksX2_canCall_0 24 rfl rfl
theorem dX2_canCall_0 : decode cX2_canCall 0 = .ok (.aload_n 0, 1) := dk_42 (dk_at dksX2_canCall_0 0 rfl rfl)
theorem dX2_canCall_1 : decode cX2_canCall 1 = .ok (.iload_n 1, 1) := dk_27 (dk_at dksX2_canCall_0 1 rfl rfl)
theorem dX2_canCall_2 : decode cX2_canCall 2 = .ok (.invokevirtual 343, 3) := dk_182 1 87 (dk_at dksX2_canCall_0 2 rfl rfl)
theorem dX2_canCall_5 : decode cX2_canCall 5 = .ok (.ifCond .eq 26, 3) := dk_153 0 26 (dk_at dksX2_canCall_0 5 rfl rfl)
theorem dX2_canCall_8 : decode cX2_canCall 8 = .ok (.aload_n 0, 1) := dk_42 (dk_at dksX2_canCall_0 8 rfl rfl)
theorem dX2_canCall_9 : decode cX2_canCall 9 = .ok (.iload_n 1, 1) := dk_27 (dk_at dksX2_canCall_0 9 rfl rfl)
theorem dX2_canCall_10 : decode cX2_canCall 10 = .ok (.bipush 6, 2) := dk_16 6 (dk_at dksX2_canCall_0 10 rfl rfl)
theorem dX2_canCall_12 : decode cX2_canCall 12 = .ok (.invokevirtual 71, 3) := dk_182 0 71 (dk_at dksX2_canCall_0 12 rfl rfl)
theorem dX2_canCall_15 : decode cX2_canCall 15 = .ok (.iconst 1, 1) := dk_4 (dk_at dksX2_canCall_0 15 rfl rfl)
theorem dX2_canCall_16 : decode cX2_canCall 16 = .ok (.if_icmp .eq 15, 3) := dk_159 0 15 (dk_at dksX2_canCall_0 16 rfl rfl)
theorem dX2_canCall_19 : decode cX2_canCall 19 = .ok (.aload_n 0, 1) := dk_42 (dk_at dksX2_canCall_0 19 rfl rfl)
theorem dX2_canCall_20 : decode cX2_canCall 20 = .ok (.iload_n 2, 1) := dk_28 (dk_at dksX2_canCall_0 20 rfl rfl)
theorem dX2_canCall_21 : decode cX2_canCall 21 = .ok (.invokevirtual 75, 3) := dk_182 0 75 (dk_at dksX2_canCall_0 21 rfl rfl)
theorem dX2_canCall_24 : decode cX2_canCall 24 = .ok (.ifCond .eq 7, 3) := dk_153 0 7 (dk_at dksX2_canCall_1 0 rfl rfl)
theorem dX2_canCall_27 : decode cX2_canCall 27 = .ok (.iconst 1, 1) := dk_4 (dk_at dksX2_canCall_1 3 rfl rfl)
theorem dX2_canCall_28 : decode cX2_canCall 28 = .ok (.goto 4, 3) := dk_167 0 4 (dk_at dksX2_canCall_1 4 rfl rfl)
theorem dX2_canCall_31 : decode cX2_canCall 31 = .ok (.iconst 0, 1) := dk_3 (dk_at dksX2_canCall_1 7 rfl rfl)
theorem dX2_canCall_32 : decode cX2_canCall 32 = .ok (.ireturn, 1) := dk_172 (dk_at dksX2_canCall_1 8 rfl rfl)
abbrev cX2_isAlive : ByteArray := prog_20_method_12_code
def yX2_isAlive : MethodName := ⟨RX2, "isAlive", "(I)Z"⟩
def dkwX2_isAlive_1 : List UInt8 := [172]
abbrev dktX2_isAlive_1 : List UInt8 := dkwX2_isAlive_1 ++ []
def dkwX2_isAlive_0 : List UInt8 := [42, 27, 182, 0, 67, 153, 0, 18, 42, 27, 16, 6, 182, 0, 71, 6, 159, 0, 7, 4, 167, 0, 4, 3]
abbrev dktX2_isAlive_0 : List UInt8 := dkwX2_isAlive_0 ++ dktX2_isAlive_1
theorem dksX2_isAlive_0 : cX2_isAlive.data.toList.drop 0 = dktX2_isAlive_0 := by decide +kernel
theorem dksX2_isAlive_1 : cX2_isAlive.data.toList.drop 24 = dktX2_isAlive_1 := dk_seg dksX2_isAlive_0 24 rfl rfl
theorem dX2_isAlive_0 : decode cX2_isAlive 0 = .ok (.aload_n 0, 1) := dk_42 (dk_at dksX2_isAlive_0 0 rfl rfl)
theorem dX2_isAlive_1 : decode cX2_isAlive 1 = .ok (.iload_n 1, 1) := dk_27 (dk_at dksX2_isAlive_0 1 rfl rfl)
theorem dX2_isAlive_2 : decode cX2_isAlive 2 = .ok (.invokevirtual 67, 3) := dk_182 0 67 (dk_at dksX2_isAlive_0 2 rfl rfl)
theorem dX2_isAlive_5 : decode cX2_isAlive 5 = .ok (.ifCond .eq 18, 3) := dk_153 0 18 (dk_at dksX2_isAlive_0 5 rfl rfl)
theorem dX2_isAlive_8 : decode cX2_isAlive 8 = .ok (.aload_n 0, 1) := dk_42 (dk_at dksX2_isAlive_0 8 rfl rfl)
theorem dX2_isAlive_9 : decode cX2_isAlive 9 = .ok (.iload_n 1, 1) := dk_27 (dk_at dksX2_isAlive_0 9 rfl rfl)
theorem dX2_isAlive_10 : decode cX2_isAlive 10 = .ok (.bipush 6, 2) := dk_16 6 (dk_at dksX2_isAlive_0 10 rfl rfl)
theorem dX2_isAlive_12 : decode cX2_isAlive 12 = .ok (.invokevirtual 71, 3) := dk_182 0 71 (dk_at dksX2_isAlive_0 12 rfl rfl)
theorem dX2_isAlive_15 : decode cX2_isAlive 15 = .ok (.iconst 3, 1) := dk_6 (dk_at dksX2_isAlive_0 15 rfl rfl)
theorem dX2_isAlive_16 : decode cX2_isAlive 16 = .ok (.if_icmp .eq 7, 3) := dk_159 0 7 (dk_at dksX2_isAlive_0 16 rfl rfl)
theorem dX2_isAlive_19 : decode cX2_isAlive 19 = .ok (.iconst 1, 1) := dk_4 (dk_at dksX2_isAlive_0 19 rfl rfl)
theorem dX2_isAlive_20 : decode cX2_isAlive 20 = .ok (.goto 4, 3) := dk_167 0 4 (dk_at dksX2_isAlive_0 20 rfl rfl)
theorem dX2_isAlive_23 : decode cX2_isAlive 23 = .ok (.iconst 0, 1) := dk_3 (dk_at dksX2_isAlive_0 23 rfl rfl)
theorem dX2_isAlive_24 : decode cX2_isAlive 24 = .ok (.ireturn, 1) := dk_172 (dk_at dksX2_isAlive_1 0 rfl rfl)
abbrev cX2_isPerson : ByteArray := prog_20_method_8_code
def yX2_isPerson : MethodName := ⟨RX2, "isPerson", "(I)Z"⟩
def dkwX2_isPerson_0 : List UInt8 := [27, 3, 42, 180, 0, 7, 4, 46, 4, 100, 184, 0, 63, 172]
abbrev dktX2_isPerson_0 : List UInt8 := dkwX2_isPerson_0 ++ []
theorem dksX2_isPerson_0 : cX2_isPerson.data.toList.drop 0 = dktX2_isPerson_0 := by decide +kernel
theorem dX2_isPerson_0 : decode cX2_isPerson 0 = .ok (.iload_n 1, 1) := dk_27 (dk_at dksX2_isPerson_0 0 rfl rfl)
theorem dX2_isPerson_1 : decode cX2_isPerson 1 = .ok (.iconst 0, 1) := dk_3 (dk_at dksX2_isPerson_0 1 rfl rfl)
theorem dX2_isPerson_2 : decode cX2_isPerson 2 = .ok (.aload_n 0, 1) := dk_42 (dk_at dksX2_isPerson_0 2 rfl rfl)
theorem dX2_isPerson_3 : decode cX2_isPerson 3 = .ok (.getfield 7, 3) := dk_180 0 7 (dk_at dksX2_isPerson_0 3 rfl rfl)
theorem dX2_isPerson_6 : decode cX2_isPerson 6 = .ok (.iconst 1, 1) := dk_4 (dk_at dksX2_isPerson_0 6 rfl rfl)
theorem dX2_isPerson_7 : decode cX2_isPerson 7 = .ok (.iaload, 1) := dk_46 (dk_at dksX2_isPerson_0 7 rfl rfl)
theorem dX2_isPerson_8 : decode cX2_isPerson 8 = .ok (.iconst 1, 1) := dk_4 (dk_at dksX2_isPerson_0 8 rfl rfl)
theorem dX2_isPerson_9 : decode cX2_isPerson 9 = .ok (.isub, 1) := dk_100 (dk_at dksX2_isPerson_0 9 rfl rfl)
theorem dX2_isPerson_10 : decode cX2_isPerson 10 = .ok (.invokestatic 63, 3) := dk_184 0 63 (dk_at dksX2_isPerson_0 10 rfl rfl)
theorem dX2_isPerson_13 : decode cX2_isPerson 13 = .ok (.ireturn, 1) := dk_172 (dk_at dksX2_isPerson_0 13 rfl rfl)
abbrev cX2_keep : ByteArray := prog_20_method_81_code
def yX2_keep : MethodName := ⟨RX2, "keep", "()V"⟩
def dkwX2_keep_7 : List UInt8 := [7, 92, 46, 4, 96, 79, 177]
abbrev dktX2_keep_7 : List UInt8 := dkwX2_keep_7 ++ []
def dkwX2_keep_6 : List UInt8 := [96, 42, 28, 29, 182, 0, 71, 79, 132, 3, 1, 167, 255, 226, 132, 2, 1, 167, 255, 212, 42, 180, 0, 7]
abbrev dktX2_keep_6 : List UInt8 := dkwX2_keep_6 ++ dktX2_keep_7
def dkwX2_keep_5 : List UInt8 := [162, 0, 44, 3, 62, 29, 16, 7, 162, 0, 30, 42, 180, 0, 7, 27, 7, 96, 16, 7, 28, 104, 96, 29]
abbrev dktX2_keep_5 : List UInt8 := dkwX2_keep_5 ++ dktX2_keep_6
def dkwX2_keep_4 : List UInt8 := [96, 28, 96, 42, 180, 0, 7, 16, 10, 28, 96, 46, 79, 132, 2, 1, 167, 255, 229, 3, 61, 28, 16, 6]
abbrev dktX2_keep_4 : List UInt8 := dkwX2_keep_4 ++ dktX2_keep_5
def dkwX2_keep_3 : List UInt8 := [180, 0, 7, 27, 42, 180, 0, 7, 4, 46, 79, 3, 61, 28, 6, 162, 0, 28, 42, 180, 0, 7, 27, 4]
abbrev dktX2_keep_3 : List UInt8 := dkwX2_keep_3 ++ dktX2_keep_4
def dkwX2_keep_2 : List UInt8 := [180, 0, 7, 7, 92, 46, 4, 100, 79, 17, 0, 142, 16, 46, 42, 180, 0, 7, 7, 46, 104, 96, 60, 42]
abbrev dktX2_keep_2 : List UInt8 := dkwX2_keep_2 ++ dktX2_keep_3
def dkwX2_keep_1 : List UInt8 := [17, 0, 142, 27, 96, 42, 180, 0, 7, 17, 0, 188, 27, 96, 46, 79, 132, 1, 1, 167, 255, 226, 42]
abbrev dktX2_keep_1 : List UInt8 := dkwX2_keep_1 ++ dktX2_keep_2
def dkwX2_keep_0 : List UInt8 := [42, 180, 0, 7, 7, 46, 16, 30, 160, 0, 48, 3, 60, 27, 17, 5, 54, 162, 0, 29, 42, 180, 0, 7]
abbrev dktX2_keep_0 : List UInt8 := dkwX2_keep_0 ++ dktX2_keep_1
theorem dksX2_keep_0 : cX2_keep.data.toList.drop 0 = dktX2_keep_0 := by decide +kernel
theorem dksX2_keep_1 : cX2_keep.data.toList.drop 24 = dktX2_keep_1 := dk_seg dksX2_keep_0 24 rfl rfl
theorem dksX2_keep_2 : cX2_keep.data.toList.drop 47 = dktX2_keep_2 := dk_seg dksX2_keep_1 23 rfl rfl
theorem dksX2_keep_3 : cX2_keep.data.toList.drop 71 = dktX2_keep_3 := dk_seg dksX2_keep_2 24 rfl rfl
theorem dksX2_keep_4 : cX2_keep.data.toList.drop 95 = dktX2_keep_4 := dk_seg dksX2_keep_3 24 rfl rfl
theorem dksX2_keep_5 : cX2_keep.data.toList.drop 119 = dktX2_keep_5 := dk_seg dksX2_keep_4 24 rfl rfl
theorem dksX2_keep_6 : cX2_keep.data.toList.drop 143 = dktX2_keep_6 := dk_seg dksX2_keep_5 24 rfl rfl
theorem dksX2_keep_7 : cX2_keep.data.toList.drop 167 = dktX2_keep_7 := dk_seg dksX2_keep_6 24 rfl rfl
theorem dX2_keep_0 : decode cX2_keep 0 = .ok (.aload_n 0, 1) := dk_42 (dk_at dksX2_keep_0 0 rfl rfl)
theorem dX2_keep_1 : decode cX2_keep 1 = .ok (.getfield 7, 3) := dk_180 0 7 (dk_at dksX2_keep_0 1 rfl rfl)
theorem dX2_keep_4 : decode cX2_keep 4 = .ok (.iconst 4, 1) := dk_7 (dk_at dksX2_keep_0 4 rfl rfl)
theorem dX2_keep_5 : decode cX2_keep 5 = .ok (.iaload, 1) := dk_46 (dk_at dksX2_keep_0 5 rfl rfl)
theorem dX2_keep_6 : decode cX2_keep 6 = .ok (.bipush 30, 2) := dk_16 30 (dk_at dksX2_keep_0 6 rfl rfl)
theorem dX2_keep_8 : decode cX2_keep 8 = .ok (.if_icmp .ne 48, 3) := dk_160 0 48 (dk_at dksX2_keep_0 8 rfl rfl)
theorem dX2_keep_11 : decode cX2_keep 11 = .ok (.iconst 0, 1) := dk_3 (dk_at dksX2_keep_0 11 rfl rfl)
theorem dX2_keep_12 : decode cX2_keep 12 = .ok (.istore_n 1, 1) := dk_60 (dk_at dksX2_keep_0 12 rfl rfl)
theorem dX2_keep_13 : decode cX2_keep 13 = .ok (.iload_n 1, 1) := dk_27 (dk_at dksX2_keep_0 13 rfl rfl)
theorem dX2_keep_14 : decode cX2_keep 14 = .ok (.sipush 1334, 3) := dk_17 5 54 (dk_at dksX2_keep_0 14 rfl rfl)
theorem dX2_keep_17 : decode cX2_keep 17 = .ok (.if_icmp .ge 29, 3) := dk_162 0 29 (dk_at dksX2_keep_0 17 rfl rfl)
theorem dX2_keep_20 : decode cX2_keep 20 = .ok (.aload_n 0, 1) := dk_42 (dk_at dksX2_keep_0 20 rfl rfl)
theorem dX2_keep_21 : decode cX2_keep 21 = .ok (.getfield 7, 3) := dk_180 0 7 (dk_at dksX2_keep_0 21 rfl rfl)
theorem dX2_keep_24 : decode cX2_keep 24 = .ok (.sipush 142, 3) := dk_17 0 142 (dk_at dksX2_keep_1 0 rfl rfl)
theorem dX2_keep_27 : decode cX2_keep 27 = .ok (.iload_n 1, 1) := dk_27 (dk_at dksX2_keep_1 3 rfl rfl)
theorem dX2_keep_28 : decode cX2_keep 28 = .ok (.iadd, 1) := dk_96 (dk_at dksX2_keep_1 4 rfl rfl)
theorem dX2_keep_29 : decode cX2_keep 29 = .ok (.aload_n 0, 1) := dk_42 (dk_at dksX2_keep_1 5 rfl rfl)
theorem dX2_keep_30 : decode cX2_keep 30 = .ok (.getfield 7, 3) := dk_180 0 7 (dk_at dksX2_keep_1 6 rfl rfl)
theorem dX2_keep_33 : decode cX2_keep 33 = .ok (.sipush 188, 3) := dk_17 0 188 (dk_at dksX2_keep_1 9 rfl rfl)
theorem dX2_keep_36 : decode cX2_keep 36 = .ok (.iload_n 1, 1) := dk_27 (dk_at dksX2_keep_1 12 rfl rfl)
theorem dX2_keep_37 : decode cX2_keep 37 = .ok (.iadd, 1) := dk_96 (dk_at dksX2_keep_1 13 rfl rfl)
theorem dX2_keep_38 : decode cX2_keep 38 = .ok (.iaload, 1) := dk_46 (dk_at dksX2_keep_1 14 rfl rfl)
theorem dX2_keep_39 : decode cX2_keep 39 = .ok (.iastore, 1) := dk_79 (dk_at dksX2_keep_1 15 rfl rfl)
theorem dX2_keep_40 : decode cX2_keep 40 = .ok (.iinc 1 1, 3) := dk_132 1 1 (dk_at dksX2_keep_1 16 rfl rfl)
theorem dX2_keep_43 : decode cX2_keep 43 = .ok (.goto (-30), 3) := dk_167 255 226 (dk_at dksX2_keep_1 19 rfl rfl)
theorem dX2_keep_46 : decode cX2_keep 46 = .ok (.aload_n 0, 1) := dk_42 (dk_at dksX2_keep_1 22 rfl rfl)
theorem dX2_keep_47 : decode cX2_keep 47 = .ok (.getfield 7, 3) := dk_180 0 7 (dk_at dksX2_keep_2 0 rfl rfl)
theorem dX2_keep_50 : decode cX2_keep 50 = .ok (.iconst 4, 1) := dk_7 (dk_at dksX2_keep_2 3 rfl rfl)
theorem dX2_keep_51 : decode cX2_keep 51 = .ok (.dup2, 1) := dk_92 (dk_at dksX2_keep_2 4 rfl rfl)
theorem dX2_keep_52 : decode cX2_keep 52 = .ok (.iaload, 1) := dk_46 (dk_at dksX2_keep_2 5 rfl rfl)
theorem dX2_keep_53 : decode cX2_keep 53 = .ok (.iconst 1, 1) := dk_4 (dk_at dksX2_keep_2 6 rfl rfl)
theorem dX2_keep_54 : decode cX2_keep 54 = .ok (.isub, 1) := dk_100 (dk_at dksX2_keep_2 7 rfl rfl)
theorem dX2_keep_55 : decode cX2_keep 55 = .ok (.iastore, 1) := dk_79 (dk_at dksX2_keep_2 8 rfl rfl)
theorem dX2_keep_56 : decode cX2_keep 56 = .ok (.sipush 142, 3) := dk_17 0 142 (dk_at dksX2_keep_2 9 rfl rfl)
theorem dX2_keep_59 : decode cX2_keep 59 = .ok (.bipush 46, 2) := dk_16 46 (dk_at dksX2_keep_2 12 rfl rfl)
theorem dX2_keep_61 : decode cX2_keep 61 = .ok (.aload_n 0, 1) := dk_42 (dk_at dksX2_keep_2 14 rfl rfl)
theorem dX2_keep_62 : decode cX2_keep 62 = .ok (.getfield 7, 3) := dk_180 0 7 (dk_at dksX2_keep_2 15 rfl rfl)
theorem dX2_keep_65 : decode cX2_keep 65 = .ok (.iconst 4, 1) := dk_7 (dk_at dksX2_keep_2 18 rfl rfl)
theorem dX2_keep_66 : decode cX2_keep 66 = .ok (.iaload, 1) := dk_46 (dk_at dksX2_keep_2 19 rfl rfl)
theorem dX2_keep_67 : decode cX2_keep 67 = .ok (.imul, 1) := dk_104 (dk_at dksX2_keep_2 20 rfl rfl)
theorem dX2_keep_68 : decode cX2_keep 68 = .ok (.iadd, 1) := dk_96 (dk_at dksX2_keep_2 21 rfl rfl)
theorem dX2_keep_69 : decode cX2_keep 69 = .ok (.istore_n 1, 1) := dk_60 (dk_at dksX2_keep_2 22 rfl rfl)
theorem dX2_keep_70 : decode cX2_keep 70 = .ok (.aload_n 0, 1) := dk_42 (dk_at dksX2_keep_2 23 rfl rfl)
theorem dX2_keep_71 : decode cX2_keep 71 = .ok (.getfield 7, 3) := dk_180 0 7 (dk_at dksX2_keep_3 0 rfl rfl)
theorem dX2_keep_74 : decode cX2_keep 74 = .ok (.iload_n 1, 1) := dk_27 (dk_at dksX2_keep_3 3 rfl rfl)
theorem dX2_keep_75 : decode cX2_keep 75 = .ok (.aload_n 0, 1) := dk_42 (dk_at dksX2_keep_3 4 rfl rfl)
theorem dX2_keep_76 : decode cX2_keep 76 = .ok (.getfield 7, 3) := dk_180 0 7 (dk_at dksX2_keep_3 5 rfl rfl)
theorem dX2_keep_79 : decode cX2_keep 79 = .ok (.iconst 1, 1) := dk_4 (dk_at dksX2_keep_3 8 rfl rfl)
theorem dX2_keep_80 : decode cX2_keep 80 = .ok (.iaload, 1) := dk_46 (dk_at dksX2_keep_3 9 rfl rfl)
theorem dX2_keep_81 : decode cX2_keep 81 = .ok (.iastore, 1) := dk_79 (dk_at dksX2_keep_3 10 rfl rfl)
theorem dX2_keep_82 : decode cX2_keep 82 = .ok (.iconst 0, 1) := dk_3 (dk_at dksX2_keep_3 11 rfl rfl)
theorem dX2_keep_83 : decode cX2_keep 83 = .ok (.istore_n 2, 1) := dk_61 (dk_at dksX2_keep_3 12 rfl rfl)
theorem dX2_keep_84 : decode cX2_keep 84 = .ok (.iload_n 2, 1) := dk_28 (dk_at dksX2_keep_3 13 rfl rfl)
theorem dX2_keep_85 : decode cX2_keep 85 = .ok (.iconst 3, 1) := dk_6 (dk_at dksX2_keep_3 14 rfl rfl)
theorem dX2_keep_86 : decode cX2_keep 86 = .ok (.if_icmp .ge 28, 3) := dk_162 0 28 (dk_at dksX2_keep_3 15 rfl rfl)
theorem dX2_keep_89 : decode cX2_keep 89 = .ok (.aload_n 0, 1) := dk_42 (dk_at dksX2_keep_3 18 rfl rfl)
theorem dX2_keep_90 : decode cX2_keep 90 = .ok (.getfield 7, 3) := dk_180 0 7 (dk_at dksX2_keep_3 19 rfl rfl)
theorem dX2_keep_93 : decode cX2_keep 93 = .ok (.iload_n 1, 1) := dk_27 (dk_at dksX2_keep_3 22 rfl rfl)
theorem dX2_keep_94 : decode cX2_keep 94 = .ok (.iconst 1, 1) := dk_4 (dk_at dksX2_keep_3 23 rfl rfl)
theorem dX2_keep_95 : decode cX2_keep 95 = .ok (.iadd, 1) := dk_96 (dk_at dksX2_keep_4 0 rfl rfl)
theorem dX2_keep_96 : decode cX2_keep 96 = .ok (.iload_n 2, 1) := dk_28 (dk_at dksX2_keep_4 1 rfl rfl)
theorem dX2_keep_97 : decode cX2_keep 97 = .ok (.iadd, 1) := dk_96 (dk_at dksX2_keep_4 2 rfl rfl)
theorem dX2_keep_98 : decode cX2_keep 98 = .ok (.aload_n 0, 1) := dk_42 (dk_at dksX2_keep_4 3 rfl rfl)
theorem dX2_keep_99 : decode cX2_keep 99 = .ok (.getfield 7, 3) := dk_180 0 7 (dk_at dksX2_keep_4 4 rfl rfl)
theorem dX2_keep_102 : decode cX2_keep 102 = .ok (.bipush 10, 2) := dk_16 10 (dk_at dksX2_keep_4 7 rfl rfl)
theorem dX2_keep_104 : decode cX2_keep 104 = .ok (.iload_n 2, 1) := dk_28 (dk_at dksX2_keep_4 9 rfl rfl)
theorem dX2_keep_105 : decode cX2_keep 105 = .ok (.iadd, 1) := dk_96 (dk_at dksX2_keep_4 10 rfl rfl)
theorem dX2_keep_106 : decode cX2_keep 106 = .ok (.iaload, 1) := dk_46 (dk_at dksX2_keep_4 11 rfl rfl)
theorem dX2_keep_107 : decode cX2_keep 107 = .ok (.iastore, 1) := dk_79 (dk_at dksX2_keep_4 12 rfl rfl)
theorem dX2_keep_108 : decode cX2_keep 108 = .ok (.iinc 2 1, 3) := dk_132 2 1 (dk_at dksX2_keep_4 13 rfl rfl)
theorem dX2_keep_111 : decode cX2_keep 111 = .ok (.goto (-27), 3) := dk_167 255 229 (dk_at dksX2_keep_4 16 rfl rfl)
theorem dX2_keep_114 : decode cX2_keep 114 = .ok (.iconst 0, 1) := dk_3 (dk_at dksX2_keep_4 19 rfl rfl)
theorem dX2_keep_115 : decode cX2_keep 115 = .ok (.istore_n 2, 1) := dk_61 (dk_at dksX2_keep_4 20 rfl rfl)
theorem dX2_keep_116 : decode cX2_keep 116 = .ok (.iload_n 2, 1) := dk_28 (dk_at dksX2_keep_4 21 rfl rfl)
theorem dX2_keep_117 : decode cX2_keep 117 = .ok (.bipush 6, 2) := dk_16 6 (dk_at dksX2_keep_4 22 rfl rfl)
theorem dX2_keep_119 : decode cX2_keep 119 = .ok (.if_icmp .ge 44, 3) := dk_162 0 44 (dk_at dksX2_keep_5 0 rfl rfl)
theorem dX2_keep_122 : decode cX2_keep 122 = .ok (.iconst 0, 1) := dk_3 (dk_at dksX2_keep_5 3 rfl rfl)
theorem dX2_keep_123 : decode cX2_keep 123 = .ok (.istore_n 3, 1) := dk_62 (dk_at dksX2_keep_5 4 rfl rfl)
theorem dX2_keep_124 : decode cX2_keep 124 = .ok (.iload_n 3, 1) := dk_29 (dk_at dksX2_keep_5 5 rfl rfl)
theorem dX2_keep_125 : decode cX2_keep 125 = .ok (.bipush 7, 2) := dk_16 7 (dk_at dksX2_keep_5 6 rfl rfl)
theorem dX2_keep_127 : decode cX2_keep 127 = .ok (.if_icmp .ge 30, 3) := dk_162 0 30 (dk_at dksX2_keep_5 8 rfl rfl)
theorem dX2_keep_130 : decode cX2_keep 130 = .ok (.aload_n 0, 1) := dk_42 (dk_at dksX2_keep_5 11 rfl rfl)
theorem dX2_keep_131 : decode cX2_keep 131 = .ok (.getfield 7, 3) := dk_180 0 7 (dk_at dksX2_keep_5 12 rfl rfl)
theorem dX2_keep_134 : decode cX2_keep 134 = .ok (.iload_n 1, 1) := dk_27 (dk_at dksX2_keep_5 15 rfl rfl)
theorem dX2_keep_135 : decode cX2_keep 135 = .ok (.iconst 4, 1) := dk_7 (dk_at dksX2_keep_5 16 rfl rfl)
theorem dX2_keep_136 : decode cX2_keep 136 = .ok (.iadd, 1) := dk_96 (dk_at dksX2_keep_5 17 rfl rfl)
theorem dX2_keep_137 : decode cX2_keep 137 = .ok (.bipush 7, 2) := dk_16 7 (dk_at dksX2_keep_5 18 rfl rfl)
theorem dX2_keep_139 : decode cX2_keep 139 = .ok (.iload_n 2, 1) := dk_28 (dk_at dksX2_keep_5 20 rfl rfl)
theorem dX2_keep_140 : decode cX2_keep 140 = .ok (.imul, 1) := dk_104 (dk_at dksX2_keep_5 21 rfl rfl)
theorem dX2_keep_141 : decode cX2_keep 141 = .ok (.iadd, 1) := dk_96 (dk_at dksX2_keep_5 22 rfl rfl)
theorem dX2_keep_142 : decode cX2_keep 142 = .ok (.iload_n 3, 1) := dk_29 (dk_at dksX2_keep_5 23 rfl rfl)
theorem dX2_keep_143 : decode cX2_keep 143 = .ok (.iadd, 1) := dk_96 (dk_at dksX2_keep_6 0 rfl rfl)
theorem dX2_keep_144 : decode cX2_keep 144 = .ok (.aload_n 0, 1) := dk_42 (dk_at dksX2_keep_6 1 rfl rfl)
theorem dX2_keep_145 : decode cX2_keep 145 = .ok (.iload_n 2, 1) := dk_28 (dk_at dksX2_keep_6 2 rfl rfl)
theorem dX2_keep_146 : decode cX2_keep 146 = .ok (.iload_n 3, 1) := dk_29 (dk_at dksX2_keep_6 3 rfl rfl)
theorem dX2_keep_147 : decode cX2_keep 147 = .ok (.invokevirtual 71, 3) := dk_182 0 71 (dk_at dksX2_keep_6 4 rfl rfl)
theorem dX2_keep_150 : decode cX2_keep 150 = .ok (.iastore, 1) := dk_79 (dk_at dksX2_keep_6 7 rfl rfl)
theorem dX2_keep_151 : decode cX2_keep 151 = .ok (.iinc 3 1, 3) := dk_132 3 1 (dk_at dksX2_keep_6 8 rfl rfl)
theorem dX2_keep_154 : decode cX2_keep 154 = .ok (.goto (-30), 3) := dk_167 255 226 (dk_at dksX2_keep_6 11 rfl rfl)
theorem dX2_keep_157 : decode cX2_keep 157 = .ok (.iinc 2 1, 3) := dk_132 2 1 (dk_at dksX2_keep_6 14 rfl rfl)
theorem dX2_keep_160 : decode cX2_keep 160 = .ok (.goto (-44), 3) := dk_167 255 212 (dk_at dksX2_keep_6 17 rfl rfl)
theorem dX2_keep_163 : decode cX2_keep 163 = .ok (.aload_n 0, 1) := dk_42 (dk_at dksX2_keep_6 20 rfl rfl)
theorem dX2_keep_164 : decode cX2_keep 164 = .ok (.getfield 7, 3) := dk_180 0 7 (dk_at dksX2_keep_6 21 rfl rfl)
theorem dX2_keep_167 : decode cX2_keep 167 = .ok (.iconst 4, 1) := dk_7 (dk_at dksX2_keep_7 0 rfl rfl)
theorem dX2_keep_168 : decode cX2_keep 168 = .ok (.dup2, 1) := dk_92 (dk_at dksX2_keep_7 1 rfl rfl)
theorem dX2_keep_169 : decode cX2_keep 169 = .ok (.iaload, 1) := dk_46 (dk_at dksX2_keep_7 2 rfl rfl)
theorem dX2_keep_170 : decode cX2_keep 170 = .ok (.iconst 1, 1) := dk_4 (dk_at dksX2_keep_7 3 rfl rfl)
theorem dX2_keep_171 : decode cX2_keep 171 = .ok (.iadd, 1) := dk_96 (dk_at dksX2_keep_7 4 rfl rfl)
theorem dX2_keep_172 : decode cX2_keep 172 = .ok (.iastore, 1) := dk_79 (dk_at dksX2_keep_7 5 rfl rfl)
theorem dX2_keep_173 : decode cX2_keep 173 = .ok (.return_, 1) := dk_177 (dk_at dksX2_keep_7 6 rfl rfl)
abbrev cX2_callNow : ByteArray := prog_20_method_84_code
def yX2_callNow : MethodName := ⟨RX2, "callNow", "(II)V"⟩
def dkwX2_callNow_3 : List UInt8 := [132, 3, 1, 167, 255, 241, 42, 27, 4, 182, 1, 63, 177]
abbrev dktX2_callNow_3 : List UInt8 := dkwX2_callNow_3 ++ []
def dkwX2_callNow_2 : List UInt8 := [177, 42, 27, 16, 6, 4, 182, 0, 82, 4, 62, 29, 8, 163, 0, 16, 42, 27, 29, 3, 182, 0, 82]
abbrev dktX2_callNow_2 : List UInt8 := dkwX2_callNow_2 ++ dktX2_callNow_3
def dkwX2_callNow_1 : List UInt8 := [42, 27, 6, 42, 27, 6, 182, 0, 71, 4, 96, 182, 0, 82, 42, 27, 6, 182, 0, 71, 8, 162, 0, 4]
abbrev dktX2_callNow_1 : List UInt8 := dkwX2_callNow_1 ++ dktX2_callNow_2
def dkwX2_callNow_0 : List UInt8 := [42, 27, 3, 182, 0, 71, 28, 160, 0, 17, 42, 27, 6, 3, 182, 0, 82, 42, 27, 3, 182, 1, 63, 177]
abbrev dktX2_callNow_0 : List UInt8 := dkwX2_callNow_0 ++ dktX2_callNow_1
theorem dksX2_callNow_0 : cX2_callNow.data.toList.drop 0 = dktX2_callNow_0 := by decide +kernel
theorem dksX2_callNow_1 : cX2_callNow.data.toList.drop 24 = dktX2_callNow_1 := dk_seg dksX2_callNow_0 24 rfl rfl
theorem dksX2_callNow_2 : cX2_callNow.data.toList.drop 48 = dktX2_callNow_2 := dk_seg dksX2_callNow_1 24 rfl rfl
theorem dksX2_callNow_3 : cX2_callNow.data.toList.drop 71 = dktX2_callNow_3 := dk_seg dksX2_callNow_2 23 rfl rfl
theorem dX2_callNow_0 : decode cX2_callNow 0 = .ok (.aload_n 0, 1) := dk_42 (dk_at dksX2_callNow_0 0 rfl rfl)
theorem dX2_callNow_1 : decode cX2_callNow 1 = .ok (.iload_n 1, 1) := dk_27 (dk_at dksX2_callNow_0 1 rfl rfl)
theorem dX2_callNow_2 : decode cX2_callNow 2 = .ok (.iconst 0, 1) := dk_3 (dk_at dksX2_callNow_0 2 rfl rfl)
theorem dX2_callNow_3 : decode cX2_callNow 3 = .ok (.invokevirtual 71, 3) := dk_182 0 71 (dk_at dksX2_callNow_0 3 rfl rfl)
theorem dX2_callNow_6 : decode cX2_callNow 6 = .ok (.iload_n 2, 1) := dk_28 (dk_at dksX2_callNow_0 6 rfl rfl)
theorem dX2_callNow_7 : decode cX2_callNow 7 = .ok (.if_icmp .ne 17, 3) := dk_160 0 17 (dk_at dksX2_callNow_0 7 rfl rfl)
theorem dX2_callNow_10 : decode cX2_callNow 10 = .ok (.aload_n 0, 1) := dk_42 (dk_at dksX2_callNow_0 10 rfl rfl)
theorem dX2_callNow_11 : decode cX2_callNow 11 = .ok (.iload_n 1, 1) := dk_27 (dk_at dksX2_callNow_0 11 rfl rfl)
theorem dX2_callNow_12 : decode cX2_callNow 12 = .ok (.iconst 3, 1) := dk_6 (dk_at dksX2_callNow_0 12 rfl rfl)
theorem dX2_callNow_13 : decode cX2_callNow 13 = .ok (.iconst 0, 1) := dk_3 (dk_at dksX2_callNow_0 13 rfl rfl)
theorem dX2_callNow_14 : decode cX2_callNow 14 = .ok (.invokevirtual 82, 3) := dk_182 0 82 (dk_at dksX2_callNow_0 14 rfl rfl)
theorem dX2_callNow_17 : decode cX2_callNow 17 = .ok (.aload_n 0, 1) := dk_42 (dk_at dksX2_callNow_0 17 rfl rfl)
theorem dX2_callNow_18 : decode cX2_callNow 18 = .ok (.iload_n 1, 1) := dk_27 (dk_at dksX2_callNow_0 18 rfl rfl)
theorem dX2_callNow_19 : decode cX2_callNow 19 = .ok (.iconst 0, 1) := dk_3 (dk_at dksX2_callNow_0 19 rfl rfl)
theorem dX2_callNow_20 : decode cX2_callNow 20 = .ok (.invokevirtual 319, 3) := dk_182 1 63 (dk_at dksX2_callNow_0 20 rfl rfl)
theorem dX2_callNow_23 : decode cX2_callNow 23 = .ok (.return_, 1) := dk_177 (dk_at dksX2_callNow_0 23 rfl rfl)
theorem dX2_callNow_24 : decode cX2_callNow 24 = .ok (.aload_n 0, 1) := dk_42 (dk_at dksX2_callNow_1 0 rfl rfl)
theorem dX2_callNow_25 : decode cX2_callNow 25 = .ok (.iload_n 1, 1) := dk_27 (dk_at dksX2_callNow_1 1 rfl rfl)
theorem dX2_callNow_26 : decode cX2_callNow 26 = .ok (.iconst 3, 1) := dk_6 (dk_at dksX2_callNow_1 2 rfl rfl)
theorem dX2_callNow_27 : decode cX2_callNow 27 = .ok (.aload_n 0, 1) := dk_42 (dk_at dksX2_callNow_1 3 rfl rfl)
theorem dX2_callNow_28 : decode cX2_callNow 28 = .ok (.iload_n 1, 1) := dk_27 (dk_at dksX2_callNow_1 4 rfl rfl)
theorem dX2_callNow_29 : decode cX2_callNow 29 = .ok (.iconst 3, 1) := dk_6 (dk_at dksX2_callNow_1 5 rfl rfl)
theorem dX2_callNow_30 : decode cX2_callNow 30 = .ok (.invokevirtual 71, 3) := dk_182 0 71 (dk_at dksX2_callNow_1 6 rfl rfl)
theorem dX2_callNow_33 : decode cX2_callNow 33 = .ok (.iconst 1, 1) := dk_4 (dk_at dksX2_callNow_1 9 rfl rfl)
theorem dX2_callNow_34 : decode cX2_callNow 34 = .ok (.iadd, 1) := dk_96 (dk_at dksX2_callNow_1 10 rfl rfl)
theorem dX2_callNow_35 : decode cX2_callNow 35 = .ok (.invokevirtual 82, 3) := dk_182 0 82 (dk_at dksX2_callNow_1 11 rfl rfl)
theorem dX2_callNow_38 : decode cX2_callNow 38 = .ok (.aload_n 0, 1) := dk_42 (dk_at dksX2_callNow_1 14 rfl rfl)
theorem dX2_callNow_39 : decode cX2_callNow 39 = .ok (.iload_n 1, 1) := dk_27 (dk_at dksX2_callNow_1 15 rfl rfl)
theorem dX2_callNow_40 : decode cX2_callNow 40 = .ok (.iconst 3, 1) := dk_6 (dk_at dksX2_callNow_1 16 rfl rfl)
theorem dX2_callNow_41 : decode cX2_callNow 41 = .ok (.invokevirtual 71, 3) := dk_182 0 71 (dk_at dksX2_callNow_1 17 rfl rfl)
theorem dX2_callNow_44 : decode cX2_callNow 44 = .ok (.iconst 5, 1) := dk_8 (dk_at dksX2_callNow_1 20 rfl rfl)
theorem dX2_callNow_45 : decode cX2_callNow 45 = .ok (.if_icmp .ge 4, 3) := dk_162 0 4 (dk_at dksX2_callNow_1 21 rfl rfl)
theorem dX2_callNow_48 : decode cX2_callNow 48 = .ok (.return_, 1) := dk_177 (dk_at dksX2_callNow_2 0 rfl rfl)
theorem dX2_callNow_49 : decode cX2_callNow 49 = .ok (.aload_n 0, 1) := dk_42 (dk_at dksX2_callNow_2 1 rfl rfl)
theorem dX2_callNow_50 : decode cX2_callNow 50 = .ok (.iload_n 1, 1) := dk_27 (dk_at dksX2_callNow_2 2 rfl rfl)
theorem dX2_callNow_51 : decode cX2_callNow 51 = .ok (.bipush 6, 2) := dk_16 6 (dk_at dksX2_callNow_2 3 rfl rfl)
theorem dX2_callNow_53 : decode cX2_callNow 53 = .ok (.iconst 1, 1) := dk_4 (dk_at dksX2_callNow_2 5 rfl rfl)
theorem dX2_callNow_54 : decode cX2_callNow 54 = .ok (.invokevirtual 82, 3) := dk_182 0 82 (dk_at dksX2_callNow_2 6 rfl rfl)
theorem dX2_callNow_57 : decode cX2_callNow 57 = .ok (.iconst 1, 1) := dk_4 (dk_at dksX2_callNow_2 9 rfl rfl)
theorem dX2_callNow_58 : decode cX2_callNow 58 = .ok (.istore_n 3, 1) := dk_62 (dk_at dksX2_callNow_2 10 rfl rfl)
theorem dX2_callNow_59 : decode cX2_callNow 59 = .ok (.iload_n 3, 1) := dk_29 (dk_at dksX2_callNow_2 11 rfl rfl)
theorem dX2_callNow_60 : decode cX2_callNow 60 = .ok (.iconst 5, 1) := dk_8 (dk_at dksX2_callNow_2 12 rfl rfl)
theorem dX2_callNow_61 : decode cX2_callNow 61 = .ok (.if_icmp .gt 16, 3) := dk_163 0 16 (dk_at dksX2_callNow_2 13 rfl rfl)
theorem dX2_callNow_64 : decode cX2_callNow 64 = .ok (.aload_n 0, 1) := dk_42 (dk_at dksX2_callNow_2 16 rfl rfl)
theorem dX2_callNow_65 : decode cX2_callNow 65 = .ok (.iload_n 1, 1) := dk_27 (dk_at dksX2_callNow_2 17 rfl rfl)
theorem dX2_callNow_66 : decode cX2_callNow 66 = .ok (.iload_n 3, 1) := dk_29 (dk_at dksX2_callNow_2 18 rfl rfl)
theorem dX2_callNow_67 : decode cX2_callNow 67 = .ok (.iconst 0, 1) := dk_3 (dk_at dksX2_callNow_2 19 rfl rfl)
theorem dX2_callNow_68 : decode cX2_callNow 68 = .ok (.invokevirtual 82, 3) := dk_182 0 82 (dk_at dksX2_callNow_2 20 rfl rfl)
theorem dX2_callNow_71 : decode cX2_callNow 71 = .ok (.iinc 3 1, 3) := dk_132 3 1 (dk_at dksX2_callNow_3 0 rfl rfl)
theorem dX2_callNow_74 : decode cX2_callNow 74 = .ok (.goto (-15), 3) := dk_167 255 241 (dk_at dksX2_callNow_3 3 rfl rfl)
theorem dX2_callNow_77 : decode cX2_callNow 77 = .ok (.aload_n 0, 1) := dk_42 (dk_at dksX2_callNow_3 6 rfl rfl)
theorem dX2_callNow_78 : decode cX2_callNow 78 = .ok (.iload_n 1, 1) := dk_27 (dk_at dksX2_callNow_3 7 rfl rfl)
theorem dX2_callNow_79 : decode cX2_callNow 79 = .ok (.iconst 1, 1) := dk_4 (dk_at dksX2_callNow_3 8 rfl rfl)
theorem dX2_callNow_80 : decode cX2_callNow 80 = .ok (.invokevirtual 319, 3) := dk_182 1 63 (dk_at dksX2_callNow_3 9 rfl rfl)
theorem dX2_callNow_83 : decode cX2_callNow 83 = .ok (.return_, 1) := dk_177 (dk_at dksX2_callNow_3 12 rfl rfl)
abbrev cX2_write : ByteArray := prog_20_method_75_code
def yX2_write : MethodName := ⟨RX2, "write", "(II)V"⟩
def dkwX2_write_2 : List UInt8 := [180, 0, 7, 16, 12, 92, 46, 4, 96, 79, 177]
abbrev dktX2_write_2 : List UInt8 := dkwX2_write_2 ++ []
def dkwX2_write_1 : List UInt8 := [17, 28, 72, 112, 96, 42, 180, 0, 7, 16, 10, 46, 16, 8, 104, 27, 96, 16, 8, 104, 28, 96, 79, 42]
abbrev dktX2_write_1 : List UInt8 := dkwX2_write_1 ++ dktX2_write_2
def dkwX2_write_0 : List UInt8 := [42, 180, 0, 43, 154, 0, 4, 177, 42, 180, 0, 7, 17, 5, 242, 42, 180, 0, 7, 16, 12, 46]
abbrev dktX2_write_0 : List UInt8 := dkwX2_write_0 ++ dktX2_write_1
theorem dksX2_write_0 : cX2_write.data.toList.drop 0 = dktX2_write_0 := by decide +kernel
theorem dksX2_write_1 : cX2_write.data.toList.drop 22 = dktX2_write_1 := dk_seg dksX2_write_0 22 rfl rfl
theorem dksX2_write_2 : cX2_write.data.toList.drop 46 = dktX2_write_2 := dk_seg dksX2_write_1 24 rfl rfl
theorem dX2_write_0 : decode cX2_write 0 = .ok (.aload_n 0, 1) := dk_42 (dk_at dksX2_write_0 0 rfl rfl)
theorem dX2_write_1 : decode cX2_write 1 = .ok (.getfield 43, 3) := dk_180 0 43 (dk_at dksX2_write_0 1 rfl rfl)
theorem dX2_write_4 : decode cX2_write 4 = .ok (.ifCond .ne 4, 3) := dk_154 0 4 (dk_at dksX2_write_0 4 rfl rfl)
theorem dX2_write_7 : decode cX2_write 7 = .ok (.return_, 1) := dk_177 (dk_at dksX2_write_0 7 rfl rfl)
theorem dX2_write_8 : decode cX2_write 8 = .ok (.aload_n 0, 1) := dk_42 (dk_at dksX2_write_0 8 rfl rfl)
theorem dX2_write_9 : decode cX2_write 9 = .ok (.getfield 7, 3) := dk_180 0 7 (dk_at dksX2_write_0 9 rfl rfl)
theorem dX2_write_12 : decode cX2_write 12 = .ok (.sipush 1522, 3) := dk_17 5 242 (dk_at dksX2_write_0 12 rfl rfl)
theorem dX2_write_15 : decode cX2_write 15 = .ok (.aload_n 0, 1) := dk_42 (dk_at dksX2_write_0 15 rfl rfl)
theorem dX2_write_16 : decode cX2_write 16 = .ok (.getfield 7, 3) := dk_180 0 7 (dk_at dksX2_write_0 16 rfl rfl)
theorem dX2_write_19 : decode cX2_write 19 = .ok (.bipush 12, 2) := dk_16 12 (dk_at dksX2_write_0 19 rfl rfl)
theorem dX2_write_21 : decode cX2_write 21 = .ok (.iaload, 1) := dk_46 (dk_at dksX2_write_0 21 rfl rfl)
theorem dX2_write_22 : decode cX2_write 22 = .ok (.sipush 7240, 3) := dk_17 28 72 (dk_at dksX2_write_1 0 rfl rfl)
theorem dX2_write_25 : decode cX2_write 25 = .ok (.irem, 1) := dk_112 (dk_at dksX2_write_1 3 rfl rfl)
theorem dX2_write_26 : decode cX2_write 26 = .ok (.iadd, 1) := dk_96 (dk_at dksX2_write_1 4 rfl rfl)
theorem dX2_write_27 : decode cX2_write 27 = .ok (.aload_n 0, 1) := dk_42 (dk_at dksX2_write_1 5 rfl rfl)
theorem dX2_write_28 : decode cX2_write 28 = .ok (.getfield 7, 3) := dk_180 0 7 (dk_at dksX2_write_1 6 rfl rfl)
theorem dX2_write_31 : decode cX2_write 31 = .ok (.bipush 10, 2) := dk_16 10 (dk_at dksX2_write_1 9 rfl rfl)
theorem dX2_write_33 : decode cX2_write 33 = .ok (.iaload, 1) := dk_46 (dk_at dksX2_write_1 11 rfl rfl)
theorem dX2_write_34 : decode cX2_write 34 = .ok (.bipush 8, 2) := dk_16 8 (dk_at dksX2_write_1 12 rfl rfl)
theorem dX2_write_36 : decode cX2_write 36 = .ok (.imul, 1) := dk_104 (dk_at dksX2_write_1 14 rfl rfl)
theorem dX2_write_37 : decode cX2_write 37 = .ok (.iload_n 1, 1) := dk_27 (dk_at dksX2_write_1 15 rfl rfl)
theorem dX2_write_38 : decode cX2_write 38 = .ok (.iadd, 1) := dk_96 (dk_at dksX2_write_1 16 rfl rfl)
theorem dX2_write_39 : decode cX2_write 39 = .ok (.bipush 8, 2) := dk_16 8 (dk_at dksX2_write_1 17 rfl rfl)
theorem dX2_write_41 : decode cX2_write 41 = .ok (.imul, 1) := dk_104 (dk_at dksX2_write_1 19 rfl rfl)
theorem dX2_write_42 : decode cX2_write 42 = .ok (.iload_n 2, 1) := dk_28 (dk_at dksX2_write_1 20 rfl rfl)
theorem dX2_write_43 : decode cX2_write 43 = .ok (.iadd, 1) := dk_96 (dk_at dksX2_write_1 21 rfl rfl)
theorem dX2_write_44 : decode cX2_write 44 = .ok (.iastore, 1) := dk_79 (dk_at dksX2_write_1 22 rfl rfl)
theorem dX2_write_45 : decode cX2_write 45 = .ok (.aload_n 0, 1) := dk_42 (dk_at dksX2_write_1 23 rfl rfl)
theorem dX2_write_46 : decode cX2_write 46 = .ok (.getfield 7, 3) := dk_180 0 7 (dk_at dksX2_write_2 0 rfl rfl)
theorem dX2_write_49 : decode cX2_write 49 = .ok (.bipush 12, 2) := dk_16 12 (dk_at dksX2_write_2 3 rfl rfl)
theorem dX2_write_51 : decode cX2_write 51 = .ok (.dup2, 1) := dk_92 (dk_at dksX2_write_2 5 rfl rfl)
theorem dX2_write_52 : decode cX2_write 52 = .ok (.iaload, 1) := dk_46 (dk_at dksX2_write_2 6 rfl rfl)
theorem dX2_write_53 : decode cX2_write 53 = .ok (.iconst 1, 1) := dk_4 (dk_at dksX2_write_2 7 rfl rfl)
theorem dX2_write_54 : decode cX2_write 54 = .ok (.iadd, 1) := dk_96 (dk_at dksX2_write_2 8 rfl rfl)
theorem dX2_write_55 : decode cX2_write 55 = .ok (.iastore, 1) := dk_79 (dk_at dksX2_write_2 9 rfl rfl)
theorem dX2_write_56 : decode cX2_write 56 = .ok (.return_, 1) := dk_177 (dk_at dksX2_write_2 10 rfl rfl)
abbrev cX2_move : ByteArray := prog_20_method_87_code
def yX2_move : MethodName := ⟨RX2, "move", "(II)Z"⟩
def dkwX2_move_0 : List UInt8 := [42, 27, 28, 182, 1, 99, 154, 0, 5, 3, 172, 42, 182, 1, 93, 42, 27, 3, 28, 182, 0, 82, 4, 172]
abbrev dktX2_move_0 : List UInt8 := dkwX2_move_0 ++ []
theorem dksX2_move_0 : cX2_move.data.toList.drop 0 = dktX2_move_0 := by decide +kernel
theorem dX2_move_0 : decode cX2_move 0 = .ok (.aload_n 0, 1) := dk_42 (dk_at dksX2_move_0 0 rfl rfl)
theorem dX2_move_1 : decode cX2_move 1 = .ok (.iload_n 1, 1) := dk_27 (dk_at dksX2_move_0 1 rfl rfl)
theorem dX2_move_2 : decode cX2_move 2 = .ok (.iload_n 2, 1) := dk_28 (dk_at dksX2_move_0 2 rfl rfl)
theorem dX2_move_3 : decode cX2_move 3 = .ok (.invokevirtual 355, 3) := dk_182 1 99 (dk_at dksX2_move_0 3 rfl rfl)
theorem dX2_move_6 : decode cX2_move 6 = .ok (.ifCond .ne 5, 3) := dk_154 0 5 (dk_at dksX2_move_0 6 rfl rfl)
theorem dX2_move_9 : decode cX2_move 9 = .ok (.iconst 0, 1) := dk_3 (dk_at dksX2_move_0 9 rfl rfl)
theorem dX2_move_10 : decode cX2_move 10 = .ok (.ireturn, 1) := dk_172 (dk_at dksX2_move_0 10 rfl rfl)
theorem dX2_move_11 : decode cX2_move 11 = .ok (.aload_n 0, 1) := dk_42 (dk_at dksX2_move_0 11 rfl rfl)
theorem dX2_move_12 : decode cX2_move 12 = .ok (.invokevirtual 349, 3) := dk_182 1 93 (dk_at dksX2_move_0 12 rfl rfl)
theorem dX2_move_15 : decode cX2_move 15 = .ok (.aload_n 0, 1) := dk_42 (dk_at dksX2_move_0 15 rfl rfl)
theorem dX2_move_16 : decode cX2_move 16 = .ok (.iload_n 1, 1) := dk_27 (dk_at dksX2_move_0 16 rfl rfl)
theorem dX2_move_17 : decode cX2_move 17 = .ok (.iconst 0, 1) := dk_3 (dk_at dksX2_move_0 17 rfl rfl)
theorem dX2_move_18 : decode cX2_move 18 = .ok (.iload_n 2, 1) := dk_28 (dk_at dksX2_move_0 18 rfl rfl)
theorem dX2_move_19 : decode cX2_move 19 = .ok (.invokevirtual 82, 3) := dk_182 0 82 (dk_at dksX2_move_0 19 rfl rfl)
theorem dX2_move_22 : decode cX2_move 22 = .ok (.iconst 1, 1) := dk_4 (dk_at dksX2_move_0 22 rfl rfl)
theorem dX2_move_23 : decode cX2_move 23 = .ok (.ireturn, 1) := dk_172 (dk_at dksX2_move_0 23 rfl rfl)
abbrev cX2_canMove : ByteArray := prog_20_method_86_code
def yX2_canMove : MethodName := ⟨RX2, "canMove", "(II)Z"⟩
def dkwX2_canMove_1 : List UInt8 := [3, 182, 0, 71, 96, 46, 28, 184, 0, 78, 153, 0, 7, 4, 167, 0, 4, 3, 172]
abbrev dktX2_canMove_1 : List UInt8 := dkwX2_canMove_1 ++ []
def dkwX2_canMove_0 : List UInt8 := [42, 27, 182, 1, 87, 153, 0, 36, 42, 28, 182, 0, 75, 153, 0, 28, 42, 180, 0, 7, 16, 88, 42, 27]
abbrev dktX2_canMove_0 : List UInt8 := dkwX2_canMove_0 ++ dktX2_canMove_1
theorem dksX2_canMove_0 : cX2_canMove.data.toList.drop 0 = dktX2_canMove_0 := by decide +kernel
theorem dksX2_canMove_1 : cX2_canMove.data.toList.drop 24 = dktX2_canMove_1 := dk_seg dksX2_canMove_0 24 rfl rfl
theorem dX2_canMove_0 : decode cX2_canMove 0 = .ok (.aload_n 0, 1) := dk_42 (dk_at dksX2_canMove_0 0 rfl rfl)
theorem dX2_canMove_1 : decode cX2_canMove 1 = .ok (.iload_n 1, 1) := dk_27 (dk_at dksX2_canMove_0 1 rfl rfl)
theorem dX2_canMove_2 : decode cX2_canMove 2 = .ok (.invokevirtual 343, 3) := dk_182 1 87 (dk_at dksX2_canMove_0 2 rfl rfl)
theorem dX2_canMove_5 : decode cX2_canMove 5 = .ok (.ifCond .eq 36, 3) := dk_153 0 36 (dk_at dksX2_canMove_0 5 rfl rfl)
theorem dX2_canMove_8 : decode cX2_canMove 8 = .ok (.aload_n 0, 1) := dk_42 (dk_at dksX2_canMove_0 8 rfl rfl)
theorem dX2_canMove_9 : decode cX2_canMove 9 = .ok (.iload_n 2, 1) := dk_28 (dk_at dksX2_canMove_0 9 rfl rfl)
theorem dX2_canMove_10 : decode cX2_canMove 10 = .ok (.invokevirtual 75, 3) := dk_182 0 75 (dk_at dksX2_canMove_0 10 rfl rfl)
theorem dX2_canMove_13 : decode cX2_canMove 13 = .ok (.ifCond .eq 28, 3) := dk_153 0 28 (dk_at dksX2_canMove_0 13 rfl rfl)
theorem dX2_canMove_16 : decode cX2_canMove 16 = .ok (.aload_n 0, 1) := dk_42 (dk_at dksX2_canMove_0 16 rfl rfl)
theorem dX2_canMove_17 : decode cX2_canMove 17 = .ok (.getfield 7, 3) := dk_180 0 7 (dk_at dksX2_canMove_0 17 rfl rfl)
theorem dX2_canMove_20 : decode cX2_canMove 20 = .ok (.bipush 88, 2) := dk_16 88 (dk_at dksX2_canMove_0 20 rfl rfl)
theorem dX2_canMove_22 : decode cX2_canMove 22 = .ok (.aload_n 0, 1) := dk_42 (dk_at dksX2_canMove_0 22 rfl rfl)
theorem dX2_canMove_23 : decode cX2_canMove 23 = .ok (.iload_n 1, 1) := dk_27 (dk_at dksX2_canMove_0 23 rfl rfl)
theorem dX2_canMove_24 : decode cX2_canMove 24 = .ok (.iconst 0, 1) := dk_3 (dk_at dksX2_canMove_1 0 rfl rfl)
theorem dX2_canMove_25 : decode cX2_canMove 25 = .ok (.invokevirtual 71, 3) := dk_182 0 71 (dk_at dksX2_canMove_1 1 rfl rfl)
theorem dX2_canMove_28 : decode cX2_canMove 28 = .ok (.iadd, 1) := dk_96 (dk_at dksX2_canMove_1 4 rfl rfl)
theorem dX2_canMove_29 : decode cX2_canMove 29 = .ok (.iaload, 1) := dk_46 (dk_at dksX2_canMove_1 5 rfl rfl)
theorem dX2_canMove_30 : decode cX2_canMove 30 = .ok (.iload_n 2, 1) := dk_28 (dk_at dksX2_canMove_1 6 rfl rfl)
theorem dX2_canMove_31 : decode cX2_canMove 31 = .ok (.invokestatic 78, 3) := dk_184 0 78 (dk_at dksX2_canMove_1 7 rfl rfl)
theorem dX2_canMove_34 : decode cX2_canMove 34 = .ok (.ifCond .eq 7, 3) := dk_153 0 7 (dk_at dksX2_canMove_1 10 rfl rfl)
theorem dX2_canMove_37 : decode cX2_canMove 37 = .ok (.iconst 1, 1) := dk_4 (dk_at dksX2_canMove_1 13 rfl rfl)
theorem dX2_canMove_38 : decode cX2_canMove 38 = .ok (.goto 4, 3) := dk_167 0 4 (dk_at dksX2_canMove_1 14 rfl rfl)
theorem dX2_canMove_41 : decode cX2_canMove 41 = .ok (.iconst 0, 1) := dk_3 (dk_at dksX2_canMove_1 17 rfl rfl)
theorem dX2_canMove_42 : decode cX2_canMove 42 = .ok (.ireturn, 1) := dk_172 (dk_at dksX2_canMove_1 18 rfl rfl)
abbrev cX2_feeds : ByteArray := prog_20_method_90_code
def yX2_feeds : MethodName := ⟨RX2, "feeds", "(II)I"⟩
def dkwX2_feeds_1 : List UInt8 := [182, 0, 71, 172]
abbrev dktX2_feeds_1 : List UInt8 := dkwX2_feeds_1 ++ []
def dkwX2_feeds_0 : List UInt8 := [42, 27, 28, 182, 1, 105, 154, 0, 5, 2, 172, 42, 182, 1, 93, 42, 27, 28, 182, 1, 108, 42, 28, 6]
abbrev dktX2_feeds_0 : List UInt8 := dkwX2_feeds_0 ++ dktX2_feeds_1
theorem dksX2_feeds_0 : cX2_feeds.data.toList.drop 0 = dktX2_feeds_0 := by decide +kernel
theorem dksX2_feeds_1 : cX2_feeds.data.toList.drop 24 = dktX2_feeds_1 := dk_seg dksX2_feeds_0 24 rfl rfl
theorem dX2_feeds_0 : decode cX2_feeds 0 = .ok (.aload_n 0, 1) := dk_42 (dk_at dksX2_feeds_0 0 rfl rfl)
theorem dX2_feeds_1 : decode cX2_feeds 1 = .ok (.iload_n 1, 1) := dk_27 (dk_at dksX2_feeds_0 1 rfl rfl)
theorem dX2_feeds_2 : decode cX2_feeds 2 = .ok (.iload_n 2, 1) := dk_28 (dk_at dksX2_feeds_0 2 rfl rfl)
theorem dX2_feeds_3 : decode cX2_feeds 3 = .ok (.invokevirtual 361, 3) := dk_182 1 105 (dk_at dksX2_feeds_0 3 rfl rfl)
theorem dX2_feeds_6 : decode cX2_feeds 6 = .ok (.ifCond .ne 5, 3) := dk_154 0 5 (dk_at dksX2_feeds_0 6 rfl rfl)
theorem dX2_feeds_9 : decode cX2_feeds 9 = .ok (.iconst (-1), 1) := dk_2 (dk_at dksX2_feeds_0 9 rfl rfl)
theorem dX2_feeds_10 : decode cX2_feeds 10 = .ok (.ireturn, 1) := dk_172 (dk_at dksX2_feeds_0 10 rfl rfl)
theorem dX2_feeds_11 : decode cX2_feeds 11 = .ok (.aload_n 0, 1) := dk_42 (dk_at dksX2_feeds_0 11 rfl rfl)
theorem dX2_feeds_12 : decode cX2_feeds 12 = .ok (.invokevirtual 349, 3) := dk_182 1 93 (dk_at dksX2_feeds_0 12 rfl rfl)
theorem dX2_feeds_15 : decode cX2_feeds 15 = .ok (.aload_n 0, 1) := dk_42 (dk_at dksX2_feeds_0 15 rfl rfl)
theorem dX2_feeds_16 : decode cX2_feeds 16 = .ok (.iload_n 1, 1) := dk_27 (dk_at dksX2_feeds_0 16 rfl rfl)
theorem dX2_feeds_17 : decode cX2_feeds 17 = .ok (.iload_n 2, 1) := dk_28 (dk_at dksX2_feeds_0 17 rfl rfl)
theorem dX2_feeds_18 : decode cX2_feeds 18 = .ok (.invokevirtual 364, 3) := dk_182 1 108 (dk_at dksX2_feeds_0 18 rfl rfl)
theorem dX2_feeds_21 : decode cX2_feeds 21 = .ok (.aload_n 0, 1) := dk_42 (dk_at dksX2_feeds_0 21 rfl rfl)
theorem dX2_feeds_22 : decode cX2_feeds 22 = .ok (.iload_n 2, 1) := dk_28 (dk_at dksX2_feeds_0 22 rfl rfl)
theorem dX2_feeds_23 : decode cX2_feeds 23 = .ok (.iconst 3, 1) := dk_6 (dk_at dksX2_feeds_0 23 rfl rfl)
theorem dX2_feeds_24 : decode cX2_feeds 24 = .ok (.invokevirtual 71, 3) := dk_182 0 71 (dk_at dksX2_feeds_1 0 rfl rfl)
theorem dX2_feeds_27 : decode cX2_feeds 27 = .ok (.ireturn, 1) := dk_172 (dk_at dksX2_feeds_1 3 rfl rfl)
abbrev cX2_areBeside : ByteArray := prog_20_method_88_code
def yX2_areBeside : MethodName := ⟨RX2, "areBeside", "(II)Z"⟩
def dkwX2_areBeside_1 : List UInt8 := [182, 0, 71, 42, 28, 3, 182, 0, 71, 160, 0, 7, 4, 167, 0, 4, 3, 172]
abbrev dktX2_areBeside_1 : List UInt8 := dkwX2_areBeside_1 ++ []
def dkwX2_areBeside_0 : List UInt8 := [42, 27, 182, 1, 102, 153, 0, 35, 42, 28, 182, 1, 87, 153, 0, 27, 27, 28, 159, 0, 22, 42, 27, 3]
abbrev dktX2_areBeside_0 : List UInt8 := dkwX2_areBeside_0 ++ dktX2_areBeside_1
theorem dksX2_areBeside_0 : cX2_areBeside.data.toList.drop 0 = dktX2_areBeside_0 := by decide +kernel
theorem dksX2_areBeside_1 : cX2_areBeside.data.toList.drop 24 = dktX2_areBeside_1 := dk_seg dksX2_areBeside_0 24 rfl rfl
theorem dX2_areBeside_0 : decode cX2_areBeside 0 = .ok (.aload_n 0, 1) := dk_42 (dk_at dksX2_areBeside_0 0 rfl rfl)
theorem dX2_areBeside_1 : decode cX2_areBeside 1 = .ok (.iload_n 1, 1) := dk_27 (dk_at dksX2_areBeside_0 1 rfl rfl)
theorem dX2_areBeside_2 : decode cX2_areBeside 2 = .ok (.invokevirtual 358, 3) := dk_182 1 102 (dk_at dksX2_areBeside_0 2 rfl rfl)
theorem dX2_areBeside_5 : decode cX2_areBeside 5 = .ok (.ifCond .eq 35, 3) := dk_153 0 35 (dk_at dksX2_areBeside_0 5 rfl rfl)
theorem dX2_areBeside_8 : decode cX2_areBeside 8 = .ok (.aload_n 0, 1) := dk_42 (dk_at dksX2_areBeside_0 8 rfl rfl)
theorem dX2_areBeside_9 : decode cX2_areBeside 9 = .ok (.iload_n 2, 1) := dk_28 (dk_at dksX2_areBeside_0 9 rfl rfl)
theorem dX2_areBeside_10 : decode cX2_areBeside 10 = .ok (.invokevirtual 343, 3) := dk_182 1 87 (dk_at dksX2_areBeside_0 10 rfl rfl)
theorem dX2_areBeside_13 : decode cX2_areBeside 13 = .ok (.ifCond .eq 27, 3) := dk_153 0 27 (dk_at dksX2_areBeside_0 13 rfl rfl)
theorem dX2_areBeside_16 : decode cX2_areBeside 16 = .ok (.iload_n 1, 1) := dk_27 (dk_at dksX2_areBeside_0 16 rfl rfl)
theorem dX2_areBeside_17 : decode cX2_areBeside 17 = .ok (.iload_n 2, 1) := dk_28 (dk_at dksX2_areBeside_0 17 rfl rfl)
theorem dX2_areBeside_18 : decode cX2_areBeside 18 = .ok (.if_icmp .eq 22, 3) := dk_159 0 22 (dk_at dksX2_areBeside_0 18 rfl rfl)
theorem dX2_areBeside_21 : decode cX2_areBeside 21 = .ok (.aload_n 0, 1) := dk_42 (dk_at dksX2_areBeside_0 21 rfl rfl)
theorem dX2_areBeside_22 : decode cX2_areBeside 22 = .ok (.iload_n 1, 1) := dk_27 (dk_at dksX2_areBeside_0 22 rfl rfl)
theorem dX2_areBeside_23 : decode cX2_areBeside 23 = .ok (.iconst 0, 1) := dk_3 (dk_at dksX2_areBeside_0 23 rfl rfl)
theorem dX2_areBeside_24 : decode cX2_areBeside 24 = .ok (.invokevirtual 71, 3) := dk_182 0 71 (dk_at dksX2_areBeside_1 0 rfl rfl)
theorem dX2_areBeside_27 : decode cX2_areBeside 27 = .ok (.aload_n 0, 1) := dk_42 (dk_at dksX2_areBeside_1 3 rfl rfl)
theorem dX2_areBeside_28 : decode cX2_areBeside 28 = .ok (.iload_n 2, 1) := dk_28 (dk_at dksX2_areBeside_1 4 rfl rfl)
theorem dX2_areBeside_29 : decode cX2_areBeside 29 = .ok (.iconst 0, 1) := dk_3 (dk_at dksX2_areBeside_1 5 rfl rfl)
theorem dX2_areBeside_30 : decode cX2_areBeside 30 = .ok (.invokevirtual 71, 3) := dk_182 0 71 (dk_at dksX2_areBeside_1 6 rfl rfl)
theorem dX2_areBeside_33 : decode cX2_areBeside 33 = .ok (.if_icmp .ne 7, 3) := dk_160 0 7 (dk_at dksX2_areBeside_1 9 rfl rfl)
theorem dX2_areBeside_36 : decode cX2_areBeside 36 = .ok (.iconst 1, 1) := dk_4 (dk_at dksX2_areBeside_1 12 rfl rfl)
theorem dX2_areBeside_37 : decode cX2_areBeside 37 = .ok (.goto 4, 3) := dk_167 0 4 (dk_at dksX2_areBeside_1 13 rfl rfl)
theorem dX2_areBeside_40 : decode cX2_areBeside 40 = .ok (.iconst 0, 1) := dk_3 (dk_at dksX2_areBeside_1 16 rfl rfl)
theorem dX2_areBeside_41 : decode cX2_areBeside 41 = .ok (.ireturn, 1) := dk_172 (dk_at dksX2_areBeside_1 17 rfl rfl)
abbrev cX2_isOutlaw : ByteArray := prog_20_method_11_code
def yX2_isOutlaw : MethodName := ⟨RX2, "isOutlaw", "(I)Z"⟩
def dkwX2_isOutlaw_1 : List UInt8 := [172]
abbrev dktX2_isOutlaw_1 : List UInt8 := dkwX2_isOutlaw_1 ++ []
def dkwX2_isOutlaw_0 : List UInt8 := [42, 27, 182, 0, 67, 153, 0, 18, 42, 27, 16, 6, 182, 0, 71, 4, 160, 0, 7, 4, 167, 0, 4, 3]
abbrev dktX2_isOutlaw_0 : List UInt8 := dkwX2_isOutlaw_0 ++ dktX2_isOutlaw_1
theorem dksX2_isOutlaw_0 : cX2_isOutlaw.data.toList.drop 0 = dktX2_isOutlaw_0 := by decide +kernel
theorem dksX2_isOutlaw_1 : cX2_isOutlaw.data.toList.drop 24 = dktX2_isOutlaw_1 := dk_seg dksX2_isOutlaw_0 24 rfl rfl
theorem dX2_isOutlaw_0 : decode cX2_isOutlaw 0 = .ok (.aload_n 0, 1) := dk_42 (dk_at dksX2_isOutlaw_0 0 rfl rfl)
theorem dX2_isOutlaw_1 : decode cX2_isOutlaw 1 = .ok (.iload_n 1, 1) := dk_27 (dk_at dksX2_isOutlaw_0 1 rfl rfl)
theorem dX2_isOutlaw_2 : decode cX2_isOutlaw 2 = .ok (.invokevirtual 67, 3) := dk_182 0 67 (dk_at dksX2_isOutlaw_0 2 rfl rfl)
theorem dX2_isOutlaw_5 : decode cX2_isOutlaw 5 = .ok (.ifCond .eq 18, 3) := dk_153 0 18 (dk_at dksX2_isOutlaw_0 5 rfl rfl)
theorem dX2_isOutlaw_8 : decode cX2_isOutlaw 8 = .ok (.aload_n 0, 1) := dk_42 (dk_at dksX2_isOutlaw_0 8 rfl rfl)
theorem dX2_isOutlaw_9 : decode cX2_isOutlaw 9 = .ok (.iload_n 1, 1) := dk_27 (dk_at dksX2_isOutlaw_0 9 rfl rfl)
theorem dX2_isOutlaw_10 : decode cX2_isOutlaw 10 = .ok (.bipush 6, 2) := dk_16 6 (dk_at dksX2_isOutlaw_0 10 rfl rfl)
theorem dX2_isOutlaw_12 : decode cX2_isOutlaw 12 = .ok (.invokevirtual 71, 3) := dk_182 0 71 (dk_at dksX2_isOutlaw_0 12 rfl rfl)
theorem dX2_isOutlaw_15 : decode cX2_isOutlaw 15 = .ok (.iconst 1, 1) := dk_4 (dk_at dksX2_isOutlaw_0 15 rfl rfl)
theorem dX2_isOutlaw_16 : decode cX2_isOutlaw 16 = .ok (.if_icmp .ne 7, 3) := dk_160 0 7 (dk_at dksX2_isOutlaw_0 16 rfl rfl)
theorem dX2_isOutlaw_19 : decode cX2_isOutlaw 19 = .ok (.iconst 1, 1) := dk_4 (dk_at dksX2_isOutlaw_0 19 rfl rfl)
theorem dX2_isOutlaw_20 : decode cX2_isOutlaw 20 = .ok (.goto 4, 3) := dk_167 0 4 (dk_at dksX2_isOutlaw_0 20 rfl rfl)
theorem dX2_isOutlaw_23 : decode cX2_isOutlaw 23 = .ok (.iconst 0, 1) := dk_3 (dk_at dksX2_isOutlaw_0 23 rfl rfl)
theorem dX2_isOutlaw_24 : decode cX2_isOutlaw 24 = .ok (.ireturn, 1) := dk_172 (dk_at dksX2_isOutlaw_1 0 rfl rfl)
abbrev cX2_feedNow : ByteArray := prog_20_method_89_code
def yX2_feedNow : MethodName := ⟨RX2, "feedNow", "(II)V"⟩
def dkwX2_feedNow_2 : List UInt8 := [182, 0, 71, 4, 96, 133, 3, 7, 184, 1, 38, 182, 0, 82, 177]
abbrev dktX2_feedNow_2 : List UInt8 := dkwX2_feedNow_2 ++ []
def dkwX2_feedNow_1 : List UInt8 := [177, 42, 27, 182, 1, 78, 62, 42, 16, 10, 182, 1, 81, 29, 162, 0, 23, 42, 28, 6, 42, 28, 6]
abbrev dktX2_feedNow_1 : List UInt8 := dkwX2_feedNow_1 ++ dktX2_feedNow_2
def dkwX2_feedNow_0 : List UInt8 := [42, 27, 7, 3, 182, 0, 82, 42, 27, 5, 182, 1, 63, 42, 28, 16, 6, 182, 0, 71, 4, 160, 0, 4]
abbrev dktX2_feedNow_0 : List UInt8 := dkwX2_feedNow_0 ++ dktX2_feedNow_1
theorem dksX2_feedNow_0 : cX2_feedNow.data.toList.drop 0 = dktX2_feedNow_0 := by decide +kernel
theorem dksX2_feedNow_1 : cX2_feedNow.data.toList.drop 24 = dktX2_feedNow_1 := dk_seg dksX2_feedNow_0 24 rfl rfl
theorem dksX2_feedNow_2 : cX2_feedNow.data.toList.drop 47 = dktX2_feedNow_2 := dk_seg dksX2_feedNow_1 23 rfl rfl
theorem dX2_feedNow_0 : decode cX2_feedNow 0 = .ok (.aload_n 0, 1) := dk_42 (dk_at dksX2_feedNow_0 0 rfl rfl)
theorem dX2_feedNow_1 : decode cX2_feedNow 1 = .ok (.iload_n 1, 1) := dk_27 (dk_at dksX2_feedNow_0 1 rfl rfl)
theorem dX2_feedNow_2 : decode cX2_feedNow 2 = .ok (.iconst 4, 1) := dk_7 (dk_at dksX2_feedNow_0 2 rfl rfl)
theorem dX2_feedNow_3 : decode cX2_feedNow 3 = .ok (.iconst 0, 1) := dk_3 (dk_at dksX2_feedNow_0 3 rfl rfl)
theorem dX2_feedNow_4 : decode cX2_feedNow 4 = .ok (.invokevirtual 82, 3) := dk_182 0 82 (dk_at dksX2_feedNow_0 4 rfl rfl)
theorem dX2_feedNow_7 : decode cX2_feedNow 7 = .ok (.aload_n 0, 1) := dk_42 (dk_at dksX2_feedNow_0 7 rfl rfl)
theorem dX2_feedNow_8 : decode cX2_feedNow 8 = .ok (.iload_n 1, 1) := dk_27 (dk_at dksX2_feedNow_0 8 rfl rfl)
theorem dX2_feedNow_9 : decode cX2_feedNow 9 = .ok (.iconst 2, 1) := dk_5 (dk_at dksX2_feedNow_0 9 rfl rfl)
theorem dX2_feedNow_10 : decode cX2_feedNow 10 = .ok (.invokevirtual 319, 3) := dk_182 1 63 (dk_at dksX2_feedNow_0 10 rfl rfl)
theorem dX2_feedNow_13 : decode cX2_feedNow 13 = .ok (.aload_n 0, 1) := dk_42 (dk_at dksX2_feedNow_0 13 rfl rfl)
theorem dX2_feedNow_14 : decode cX2_feedNow 14 = .ok (.iload_n 2, 1) := dk_28 (dk_at dksX2_feedNow_0 14 rfl rfl)
theorem dX2_feedNow_15 : decode cX2_feedNow 15 = .ok (.bipush 6, 2) := dk_16 6 (dk_at dksX2_feedNow_0 15 rfl rfl)
theorem dX2_feedNow_17 : decode cX2_feedNow 17 = .ok (.invokevirtual 71, 3) := dk_182 0 71 (dk_at dksX2_feedNow_0 17 rfl rfl)
theorem dX2_feedNow_20 : decode cX2_feedNow 20 = .ok (.iconst 1, 1) := dk_4 (dk_at dksX2_feedNow_0 20 rfl rfl)
theorem dX2_feedNow_21 : decode cX2_feedNow 21 = .ok (.if_icmp .ne 4, 3) := dk_160 0 4 (dk_at dksX2_feedNow_0 21 rfl rfl)
theorem dX2_feedNow_24 : decode cX2_feedNow 24 = .ok (.return_, 1) := dk_177 (dk_at dksX2_feedNow_1 0 rfl rfl)
theorem dX2_feedNow_25 : decode cX2_feedNow 25 = .ok (.aload_n 0, 1) := dk_42 (dk_at dksX2_feedNow_1 1 rfl rfl)
theorem dX2_feedNow_26 : decode cX2_feedNow 26 = .ok (.iload_n 1, 1) := dk_27 (dk_at dksX2_feedNow_1 2 rfl rfl)
theorem dX2_feedNow_27 : decode cX2_feedNow 27 = .ok (.invokevirtual 334, 3) := dk_182 1 78 (dk_at dksX2_feedNow_1 3 rfl rfl)
theorem dX2_feedNow_30 : decode cX2_feedNow 30 = .ok (.istore_n 3, 1) := dk_62 (dk_at dksX2_feedNow_1 6 rfl rfl)
theorem dX2_feedNow_31 : decode cX2_feedNow 31 = .ok (.aload_n 0, 1) := dk_42 (dk_at dksX2_feedNow_1 7 rfl rfl)
theorem dX2_feedNow_32 : decode cX2_feedNow 32 = .ok (.bipush 10, 2) := dk_16 10 (dk_at dksX2_feedNow_1 8 rfl rfl)
theorem dX2_feedNow_34 : decode cX2_feedNow 34 = .ok (.invokevirtual 337, 3) := dk_182 1 81 (dk_at dksX2_feedNow_1 10 rfl rfl)
theorem dX2_feedNow_37 : decode cX2_feedNow 37 = .ok (.iload_n 3, 1) := dk_29 (dk_at dksX2_feedNow_1 13 rfl rfl)
theorem dX2_feedNow_38 : decode cX2_feedNow 38 = .ok (.if_icmp .ge 23, 3) := dk_162 0 23 (dk_at dksX2_feedNow_1 14 rfl rfl)
theorem dX2_feedNow_41 : decode cX2_feedNow 41 = .ok (.aload_n 0, 1) := dk_42 (dk_at dksX2_feedNow_1 17 rfl rfl)
theorem dX2_feedNow_42 : decode cX2_feedNow 42 = .ok (.iload_n 2, 1) := dk_28 (dk_at dksX2_feedNow_1 18 rfl rfl)
theorem dX2_feedNow_43 : decode cX2_feedNow 43 = .ok (.iconst 3, 1) := dk_6 (dk_at dksX2_feedNow_1 19 rfl rfl)
theorem dX2_feedNow_44 : decode cX2_feedNow 44 = .ok (.aload_n 0, 1) := dk_42 (dk_at dksX2_feedNow_1 20 rfl rfl)
theorem dX2_feedNow_45 : decode cX2_feedNow 45 = .ok (.iload_n 2, 1) := dk_28 (dk_at dksX2_feedNow_1 21 rfl rfl)
theorem dX2_feedNow_46 : decode cX2_feedNow 46 = .ok (.iconst 3, 1) := dk_6 (dk_at dksX2_feedNow_1 22 rfl rfl)
theorem dX2_feedNow_47 : decode cX2_feedNow 47 = .ok (.invokevirtual 71, 3) := dk_182 0 71 (dk_at dksX2_feedNow_2 0 rfl rfl)
theorem dX2_feedNow_50 : decode cX2_feedNow 50 = .ok (.iconst 1, 1) := dk_4 (dk_at dksX2_feedNow_2 3 rfl rfl)
theorem dX2_feedNow_51 : decode cX2_feedNow 51 = .ok (.iadd, 1) := dk_96 (dk_at dksX2_feedNow_2 4 rfl rfl)
theorem dX2_feedNow_52 : decode cX2_feedNow 52 = .ok (.i2l, 1) := dk_133 (dk_at dksX2_feedNow_2 5 rfl rfl)
theorem dX2_feedNow_53 : decode cX2_feedNow 53 = .ok (.iconst 0, 1) := dk_3 (dk_at dksX2_feedNow_2 6 rfl rfl)
theorem dX2_feedNow_54 : decode cX2_feedNow 54 = .ok (.iconst 4, 1) := dk_7 (dk_at dksX2_feedNow_2 7 rfl rfl)
theorem dX2_feedNow_55 : decode cX2_feedNow 55 = .ok (.invokestatic 294, 3) := dk_184 1 38 (dk_at dksX2_feedNow_2 8 rfl rfl)
theorem dX2_feedNow_58 : decode cX2_feedNow 58 = .ok (.invokevirtual 82, 3) := dk_182 0 82 (dk_at dksX2_feedNow_2 11 rfl rfl)
theorem dX2_feedNow_61 : decode cX2_feedNow 61 = .ok (.return_, 1) := dk_177 (dk_at dksX2_feedNow_2 14 rfl rfl)
abbrev cX2_findsOf : ByteArray := prog_20_method_72_code
def yX2_findsOf : MethodName := ⟨RX2, "findsOf", "(I)I"⟩
def dkwX2_findsOf_0 : List UInt8 := [42, 27, 42, 27, 3, 182, 0, 71, 182, 1, 51, 172]
abbrev dktX2_findsOf_0 : List UInt8 := dkwX2_findsOf_0 ++ []
theorem dksX2_findsOf_0 : cX2_findsOf.data.toList.drop 0 = dktX2_findsOf_0 := by decide +kernel
theorem dX2_findsOf_0 : decode cX2_findsOf 0 = .ok (.aload_n 0, 1) := dk_42 (dk_at dksX2_findsOf_0 0 rfl rfl)
theorem dX2_findsOf_1 : decode cX2_findsOf 1 = .ok (.iload_n 1, 1) := dk_27 (dk_at dksX2_findsOf_0 1 rfl rfl)
theorem dX2_findsOf_2 : decode cX2_findsOf 2 = .ok (.aload_n 0, 1) := dk_42 (dk_at dksX2_findsOf_0 2 rfl rfl)
theorem dX2_findsOf_3 : decode cX2_findsOf 3 = .ok (.iload_n 1, 1) := dk_27 (dk_at dksX2_findsOf_0 3 rfl rfl)
theorem dX2_findsOf_4 : decode cX2_findsOf 4 = .ok (.iconst 0, 1) := dk_3 (dk_at dksX2_findsOf_0 4 rfl rfl)
theorem dX2_findsOf_5 : decode cX2_findsOf 5 = .ok (.invokevirtual 71, 3) := dk_182 0 71 (dk_at dksX2_findsOf_0 5 rfl rfl)
theorem dX2_findsOf_8 : decode cX2_findsOf 8 = .ok (.invokevirtual 307, 3) := dk_182 1 51 (dk_at dksX2_findsOf_0 8 rfl rfl)
theorem dX2_findsOf_11 : decode cX2_findsOf 11 = .ok (.ireturn, 1) := dk_172 (dk_at dksX2_findsOf_0 11 rfl rfl)
abbrev cX2_findsIn : ByteArray := prog_20_method_71_code
def yX2_findsIn : MethodName := ⟨RX2, "findsIn", "(II)I"⟩
def dkwX2_findsIn_1 : List UInt8 := [5, 108, 100, 16, 10, 182, 1, 47, 172]
abbrev dktX2_findsIn_1 : List UInt8 := dkwX2_findsIn_1 ++ []
def dkwX2_findsIn_0 : List UInt8 := [42, 27, 28, 182, 1, 44, 42, 42, 180, 0, 7, 6, 46, 4, 8, 42, 180, 0, 7, 16, 80, 28, 96, 46]
abbrev dktX2_findsIn_0 : List UInt8 := dkwX2_findsIn_0 ++ dktX2_findsIn_1
theorem dksX2_findsIn_0 : cX2_findsIn.data.toList.drop 0 = dktX2_findsIn_0 := by decide +kernel
theorem dksX2_findsIn_1 : cX2_findsIn.data.toList.drop 24 = dktX2_findsIn_1 := dk_seg dksX2_findsIn_0 24 rfl rfl
theorem dX2_findsIn_0 : decode cX2_findsIn 0 = .ok (.aload_n 0, 1) := dk_42 (dk_at dksX2_findsIn_0 0 rfl rfl)
theorem dX2_findsIn_1 : decode cX2_findsIn 1 = .ok (.iload_n 1, 1) := dk_27 (dk_at dksX2_findsIn_0 1 rfl rfl)
theorem dX2_findsIn_2 : decode cX2_findsIn 2 = .ok (.iload_n 2, 1) := dk_28 (dk_at dksX2_findsIn_0 2 rfl rfl)
theorem dX2_findsIn_3 : decode cX2_findsIn 3 = .ok (.invokevirtual 300, 3) := dk_182 1 44 (dk_at dksX2_findsIn_0 3 rfl rfl)
theorem dX2_findsIn_6 : decode cX2_findsIn 6 = .ok (.aload_n 0, 1) := dk_42 (dk_at dksX2_findsIn_0 6 rfl rfl)
theorem dX2_findsIn_7 : decode cX2_findsIn 7 = .ok (.aload_n 0, 1) := dk_42 (dk_at dksX2_findsIn_0 7 rfl rfl)
theorem dX2_findsIn_8 : decode cX2_findsIn 8 = .ok (.getfield 7, 3) := dk_180 0 7 (dk_at dksX2_findsIn_0 8 rfl rfl)
theorem dX2_findsIn_11 : decode cX2_findsIn 11 = .ok (.iconst 3, 1) := dk_6 (dk_at dksX2_findsIn_0 11 rfl rfl)
theorem dX2_findsIn_12 : decode cX2_findsIn 12 = .ok (.iaload, 1) := dk_46 (dk_at dksX2_findsIn_0 12 rfl rfl)
theorem dX2_findsIn_13 : decode cX2_findsIn 13 = .ok (.iconst 1, 1) := dk_4 (dk_at dksX2_findsIn_0 13 rfl rfl)
theorem dX2_findsIn_14 : decode cX2_findsIn 14 = .ok (.iconst 5, 1) := dk_8 (dk_at dksX2_findsIn_0 14 rfl rfl)
theorem dX2_findsIn_15 : decode cX2_findsIn 15 = .ok (.aload_n 0, 1) := dk_42 (dk_at dksX2_findsIn_0 15 rfl rfl)
theorem dX2_findsIn_16 : decode cX2_findsIn 16 = .ok (.getfield 7, 3) := dk_180 0 7 (dk_at dksX2_findsIn_0 16 rfl rfl)
theorem dX2_findsIn_19 : decode cX2_findsIn 19 = .ok (.bipush 80, 2) := dk_16 80 (dk_at dksX2_findsIn_0 19 rfl rfl)
theorem dX2_findsIn_21 : decode cX2_findsIn 21 = .ok (.iload_n 2, 1) := dk_28 (dk_at dksX2_findsIn_0 21 rfl rfl)
theorem dX2_findsIn_22 : decode cX2_findsIn 22 = .ok (.iadd, 1) := dk_96 (dk_at dksX2_findsIn_0 22 rfl rfl)
theorem dX2_findsIn_23 : decode cX2_findsIn 23 = .ok (.iaload, 1) := dk_46 (dk_at dksX2_findsIn_0 23 rfl rfl)
theorem dX2_findsIn_24 : decode cX2_findsIn 24 = .ok (.iconst 2, 1) := dk_5 (dk_at dksX2_findsIn_1 0 rfl rfl)
theorem dX2_findsIn_25 : decode cX2_findsIn 25 = .ok (.idiv, 1) := dk_108 (dk_at dksX2_findsIn_1 1 rfl rfl)
theorem dX2_findsIn_26 : decode cX2_findsIn 26 = .ok (.isub, 1) := dk_100 (dk_at dksX2_findsIn_1 2 rfl rfl)
theorem dX2_findsIn_27 : decode cX2_findsIn 27 = .ok (.bipush 10, 2) := dk_16 10 (dk_at dksX2_findsIn_1 3 rfl rfl)
theorem dX2_findsIn_29 : decode cX2_findsIn 29 = .ok (.invokevirtual 303, 3) := dk_182 1 47 (dk_at dksX2_findsIn_1 5 rfl rfl)
theorem dX2_findsIn_32 : decode cX2_findsIn 32 = .ok (.ireturn, 1) := dk_172 (dk_at dksX2_findsIn_1 8 rfl rfl)
abbrev cX2_nameIn : ByteArray := prog_20_method_69_code
def yX2_nameIn : MethodName := ⟨RX2, "nameIn", "(II)V"⟩
def dkwX2_nameIn_5 : List UInt8 := [182, 1, 41, 79, 177]
abbrev dktX2_nameIn_5 : List UInt8 := dkwX2_nameIn_5 ++ []
def dkwX2_nameIn_4 : List UInt8 := [79, 42, 180, 0, 32, 16, 8, 42, 27, 5, 182, 0, 71, 79, 42, 180, 0, 32, 16, 9, 42, 27, 28]
abbrev dktX2_nameIn_4 : List UInt8 := dkwX2_nameIn_4 ++ dktX2_nameIn_5
def dkwX2_nameIn_3 : List UInt8 := [180, 0, 32, 16, 6, 42, 27, 8, 182, 0, 71, 79, 42, 180, 0, 32, 16, 7, 42, 27, 4, 182, 0, 71]
abbrev dktX2_nameIn_3 : List UInt8 := dkwX2_nameIn_3 ++ dktX2_nameIn_4
def dkwX2_nameIn_2 : List UInt8 := [180, 0, 7, 16, 80, 28, 96, 46, 79, 42, 180, 0, 32, 8, 42, 27, 7, 182, 0, 71, 79, 42]
abbrev dktX2_nameIn_2 : List UInt8 := dkwX2_nameIn_2 ++ dktX2_nameIn_3
def dkwX2_nameIn_1 : List UInt8 := [5, 42, 27, 16, 7, 182, 0, 71, 79, 42, 180, 0, 32, 6, 28, 79, 42, 180, 0, 32, 7, 42]
abbrev dktX2_nameIn_1 : List UInt8 := dkwX2_nameIn_1 ++ dktX2_nameIn_2
def dkwX2_nameIn_0 : List UInt8 := [42, 180, 0, 32, 3, 42, 180, 0, 7, 16, 10, 46, 79, 42, 180, 0, 32, 4, 27, 79, 42, 180, 0, 32]
abbrev dktX2_nameIn_0 : List UInt8 := dkwX2_nameIn_0 ++ dktX2_nameIn_1
theorem dksX2_nameIn_0 : cX2_nameIn.data.toList.drop 0 = dktX2_nameIn_0 := by decide +kernel
theorem dksX2_nameIn_1 : cX2_nameIn.data.toList.drop 24 = dktX2_nameIn_1 := dk_seg dksX2_nameIn_0 24 rfl rfl
theorem dksX2_nameIn_2 : cX2_nameIn.data.toList.drop 46 = dktX2_nameIn_2 := dk_seg dksX2_nameIn_1 22 rfl rfl
theorem dksX2_nameIn_3 : cX2_nameIn.data.toList.drop 68 = dktX2_nameIn_3 := dk_seg dksX2_nameIn_2 22 rfl rfl
theorem dksX2_nameIn_4 : cX2_nameIn.data.toList.drop 92 = dktX2_nameIn_4 := dk_seg dksX2_nameIn_3 24 rfl rfl
theorem dksX2_nameIn_5 : cX2_nameIn.data.toList.drop 115 = dktX2_nameIn_5 := dk_seg dksX2_nameIn_4 23 rfl rfl
theorem dX2_nameIn_0 : decode cX2_nameIn 0 = .ok (.aload_n 0, 1) := dk_42 (dk_at dksX2_nameIn_0 0 rfl rfl)
theorem dX2_nameIn_1 : decode cX2_nameIn 1 = .ok (.getfield 32, 3) := dk_180 0 32 (dk_at dksX2_nameIn_0 1 rfl rfl)
theorem dX2_nameIn_4 : decode cX2_nameIn 4 = .ok (.iconst 0, 1) := dk_3 (dk_at dksX2_nameIn_0 4 rfl rfl)
theorem dX2_nameIn_5 : decode cX2_nameIn 5 = .ok (.aload_n 0, 1) := dk_42 (dk_at dksX2_nameIn_0 5 rfl rfl)
theorem dX2_nameIn_6 : decode cX2_nameIn 6 = .ok (.getfield 7, 3) := dk_180 0 7 (dk_at dksX2_nameIn_0 6 rfl rfl)
theorem dX2_nameIn_9 : decode cX2_nameIn 9 = .ok (.bipush 10, 2) := dk_16 10 (dk_at dksX2_nameIn_0 9 rfl rfl)
theorem dX2_nameIn_11 : decode cX2_nameIn 11 = .ok (.iaload, 1) := dk_46 (dk_at dksX2_nameIn_0 11 rfl rfl)
theorem dX2_nameIn_12 : decode cX2_nameIn 12 = .ok (.iastore, 1) := dk_79 (dk_at dksX2_nameIn_0 12 rfl rfl)
theorem dX2_nameIn_13 : decode cX2_nameIn 13 = .ok (.aload_n 0, 1) := dk_42 (dk_at dksX2_nameIn_0 13 rfl rfl)
theorem dX2_nameIn_14 : decode cX2_nameIn 14 = .ok (.getfield 32, 3) := dk_180 0 32 (dk_at dksX2_nameIn_0 14 rfl rfl)
theorem dX2_nameIn_17 : decode cX2_nameIn 17 = .ok (.iconst 1, 1) := dk_4 (dk_at dksX2_nameIn_0 17 rfl rfl)
theorem dX2_nameIn_18 : decode cX2_nameIn 18 = .ok (.iload_n 1, 1) := dk_27 (dk_at dksX2_nameIn_0 18 rfl rfl)
theorem dX2_nameIn_19 : decode cX2_nameIn 19 = .ok (.iastore, 1) := dk_79 (dk_at dksX2_nameIn_0 19 rfl rfl)
theorem dX2_nameIn_20 : decode cX2_nameIn 20 = .ok (.aload_n 0, 1) := dk_42 (dk_at dksX2_nameIn_0 20 rfl rfl)
theorem dX2_nameIn_21 : decode cX2_nameIn 21 = .ok (.getfield 32, 3) := dk_180 0 32 (dk_at dksX2_nameIn_0 21 rfl rfl)
theorem dX2_nameIn_24 : decode cX2_nameIn 24 = .ok (.iconst 2, 1) := dk_5 (dk_at dksX2_nameIn_1 0 rfl rfl)
theorem dX2_nameIn_25 : decode cX2_nameIn 25 = .ok (.aload_n 0, 1) := dk_42 (dk_at dksX2_nameIn_1 1 rfl rfl)
theorem dX2_nameIn_26 : decode cX2_nameIn 26 = .ok (.iload_n 1, 1) := dk_27 (dk_at dksX2_nameIn_1 2 rfl rfl)
theorem dX2_nameIn_27 : decode cX2_nameIn 27 = .ok (.bipush 7, 2) := dk_16 7 (dk_at dksX2_nameIn_1 3 rfl rfl)
theorem dX2_nameIn_29 : decode cX2_nameIn 29 = .ok (.invokevirtual 71, 3) := dk_182 0 71 (dk_at dksX2_nameIn_1 5 rfl rfl)
theorem dX2_nameIn_32 : decode cX2_nameIn 32 = .ok (.iastore, 1) := dk_79 (dk_at dksX2_nameIn_1 8 rfl rfl)
theorem dX2_nameIn_33 : decode cX2_nameIn 33 = .ok (.aload_n 0, 1) := dk_42 (dk_at dksX2_nameIn_1 9 rfl rfl)
theorem dX2_nameIn_34 : decode cX2_nameIn 34 = .ok (.getfield 32, 3) := dk_180 0 32 (dk_at dksX2_nameIn_1 10 rfl rfl)
theorem dX2_nameIn_37 : decode cX2_nameIn 37 = .ok (.iconst 3, 1) := dk_6 (dk_at dksX2_nameIn_1 13 rfl rfl)
theorem dX2_nameIn_38 : decode cX2_nameIn 38 = .ok (.iload_n 2, 1) := dk_28 (dk_at dksX2_nameIn_1 14 rfl rfl)
theorem dX2_nameIn_39 : decode cX2_nameIn 39 = .ok (.iastore, 1) := dk_79 (dk_at dksX2_nameIn_1 15 rfl rfl)
theorem dX2_nameIn_40 : decode cX2_nameIn 40 = .ok (.aload_n 0, 1) := dk_42 (dk_at dksX2_nameIn_1 16 rfl rfl)
theorem dX2_nameIn_41 : decode cX2_nameIn 41 = .ok (.getfield 32, 3) := dk_180 0 32 (dk_at dksX2_nameIn_1 17 rfl rfl)
theorem dX2_nameIn_44 : decode cX2_nameIn 44 = .ok (.iconst 4, 1) := dk_7 (dk_at dksX2_nameIn_1 20 rfl rfl)
theorem dX2_nameIn_45 : decode cX2_nameIn 45 = .ok (.aload_n 0, 1) := dk_42 (dk_at dksX2_nameIn_1 21 rfl rfl)
theorem dX2_nameIn_46 : decode cX2_nameIn 46 = .ok (.getfield 7, 3) := dk_180 0 7 (dk_at dksX2_nameIn_2 0 rfl rfl)
theorem dX2_nameIn_49 : decode cX2_nameIn 49 = .ok (.bipush 80, 2) := dk_16 80 (dk_at dksX2_nameIn_2 3 rfl rfl)
theorem dX2_nameIn_51 : decode cX2_nameIn 51 = .ok (.iload_n 2, 1) := dk_28 (dk_at dksX2_nameIn_2 5 rfl rfl)
theorem dX2_nameIn_52 : decode cX2_nameIn 52 = .ok (.iadd, 1) := dk_96 (dk_at dksX2_nameIn_2 6 rfl rfl)
theorem dX2_nameIn_53 : decode cX2_nameIn 53 = .ok (.iaload, 1) := dk_46 (dk_at dksX2_nameIn_2 7 rfl rfl)
theorem dX2_nameIn_54 : decode cX2_nameIn 54 = .ok (.iastore, 1) := dk_79 (dk_at dksX2_nameIn_2 8 rfl rfl)
theorem dX2_nameIn_55 : decode cX2_nameIn 55 = .ok (.aload_n 0, 1) := dk_42 (dk_at dksX2_nameIn_2 9 rfl rfl)
theorem dX2_nameIn_56 : decode cX2_nameIn 56 = .ok (.getfield 32, 3) := dk_180 0 32 (dk_at dksX2_nameIn_2 10 rfl rfl)
theorem dX2_nameIn_59 : decode cX2_nameIn 59 = .ok (.iconst 5, 1) := dk_8 (dk_at dksX2_nameIn_2 13 rfl rfl)
theorem dX2_nameIn_60 : decode cX2_nameIn 60 = .ok (.aload_n 0, 1) := dk_42 (dk_at dksX2_nameIn_2 14 rfl rfl)
theorem dX2_nameIn_61 : decode cX2_nameIn 61 = .ok (.iload_n 1, 1) := dk_27 (dk_at dksX2_nameIn_2 15 rfl rfl)
theorem dX2_nameIn_62 : decode cX2_nameIn 62 = .ok (.iconst 4, 1) := dk_7 (dk_at dksX2_nameIn_2 16 rfl rfl)
theorem dX2_nameIn_63 : decode cX2_nameIn 63 = .ok (.invokevirtual 71, 3) := dk_182 0 71 (dk_at dksX2_nameIn_2 17 rfl rfl)
theorem dX2_nameIn_66 : decode cX2_nameIn 66 = .ok (.iastore, 1) := dk_79 (dk_at dksX2_nameIn_2 20 rfl rfl)
theorem dX2_nameIn_67 : decode cX2_nameIn 67 = .ok (.aload_n 0, 1) := dk_42 (dk_at dksX2_nameIn_2 21 rfl rfl)
theorem dX2_nameIn_68 : decode cX2_nameIn 68 = .ok (.getfield 32, 3) := dk_180 0 32 (dk_at dksX2_nameIn_3 0 rfl rfl)
theorem dX2_nameIn_71 : decode cX2_nameIn 71 = .ok (.bipush 6, 2) := dk_16 6 (dk_at dksX2_nameIn_3 3 rfl rfl)
theorem dX2_nameIn_73 : decode cX2_nameIn 73 = .ok (.aload_n 0, 1) := dk_42 (dk_at dksX2_nameIn_3 5 rfl rfl)
theorem dX2_nameIn_74 : decode cX2_nameIn 74 = .ok (.iload_n 1, 1) := dk_27 (dk_at dksX2_nameIn_3 6 rfl rfl)
theorem dX2_nameIn_75 : decode cX2_nameIn 75 = .ok (.iconst 5, 1) := dk_8 (dk_at dksX2_nameIn_3 7 rfl rfl)
theorem dX2_nameIn_76 : decode cX2_nameIn 76 = .ok (.invokevirtual 71, 3) := dk_182 0 71 (dk_at dksX2_nameIn_3 8 rfl rfl)
theorem dX2_nameIn_79 : decode cX2_nameIn 79 = .ok (.iastore, 1) := dk_79 (dk_at dksX2_nameIn_3 11 rfl rfl)
theorem dX2_nameIn_80 : decode cX2_nameIn 80 = .ok (.aload_n 0, 1) := dk_42 (dk_at dksX2_nameIn_3 12 rfl rfl)
theorem dX2_nameIn_81 : decode cX2_nameIn 81 = .ok (.getfield 32, 3) := dk_180 0 32 (dk_at dksX2_nameIn_3 13 rfl rfl)
theorem dX2_nameIn_84 : decode cX2_nameIn 84 = .ok (.bipush 7, 2) := dk_16 7 (dk_at dksX2_nameIn_3 16 rfl rfl)
theorem dX2_nameIn_86 : decode cX2_nameIn 86 = .ok (.aload_n 0, 1) := dk_42 (dk_at dksX2_nameIn_3 18 rfl rfl)
theorem dX2_nameIn_87 : decode cX2_nameIn 87 = .ok (.iload_n 1, 1) := dk_27 (dk_at dksX2_nameIn_3 19 rfl rfl)
theorem dX2_nameIn_88 : decode cX2_nameIn 88 = .ok (.iconst 1, 1) := dk_4 (dk_at dksX2_nameIn_3 20 rfl rfl)
theorem dX2_nameIn_89 : decode cX2_nameIn 89 = .ok (.invokevirtual 71, 3) := dk_182 0 71 (dk_at dksX2_nameIn_3 21 rfl rfl)
theorem dX2_nameIn_92 : decode cX2_nameIn 92 = .ok (.iastore, 1) := dk_79 (dk_at dksX2_nameIn_4 0 rfl rfl)
theorem dX2_nameIn_93 : decode cX2_nameIn 93 = .ok (.aload_n 0, 1) := dk_42 (dk_at dksX2_nameIn_4 1 rfl rfl)
theorem dX2_nameIn_94 : decode cX2_nameIn 94 = .ok (.getfield 32, 3) := dk_180 0 32 (dk_at dksX2_nameIn_4 2 rfl rfl)
theorem dX2_nameIn_97 : decode cX2_nameIn 97 = .ok (.bipush 8, 2) := dk_16 8 (dk_at dksX2_nameIn_4 5 rfl rfl)
theorem dX2_nameIn_99 : decode cX2_nameIn 99 = .ok (.aload_n 0, 1) := dk_42 (dk_at dksX2_nameIn_4 7 rfl rfl)
theorem dX2_nameIn_100 : decode cX2_nameIn 100 = .ok (.iload_n 1, 1) := dk_27 (dk_at dksX2_nameIn_4 8 rfl rfl)
theorem dX2_nameIn_101 : decode cX2_nameIn 101 = .ok (.iconst 2, 1) := dk_5 (dk_at dksX2_nameIn_4 9 rfl rfl)
theorem dX2_nameIn_102 : decode cX2_nameIn 102 = .ok (.invokevirtual 71, 3) := dk_182 0 71 (dk_at dksX2_nameIn_4 10 rfl rfl)
theorem dX2_nameIn_105 : decode cX2_nameIn 105 = .ok (.iastore, 1) := dk_79 (dk_at dksX2_nameIn_4 13 rfl rfl)
theorem dX2_nameIn_106 : decode cX2_nameIn 106 = .ok (.aload_n 0, 1) := dk_42 (dk_at dksX2_nameIn_4 14 rfl rfl)
theorem dX2_nameIn_107 : decode cX2_nameIn 107 = .ok (.getfield 32, 3) := dk_180 0 32 (dk_at dksX2_nameIn_4 15 rfl rfl)
theorem dX2_nameIn_110 : decode cX2_nameIn 110 = .ok (.bipush 9, 2) := dk_16 9 (dk_at dksX2_nameIn_4 18 rfl rfl)
theorem dX2_nameIn_112 : decode cX2_nameIn 112 = .ok (.aload_n 0, 1) := dk_42 (dk_at dksX2_nameIn_4 20 rfl rfl)
theorem dX2_nameIn_113 : decode cX2_nameIn 113 = .ok (.iload_n 1, 1) := dk_27 (dk_at dksX2_nameIn_4 21 rfl rfl)
theorem dX2_nameIn_114 : decode cX2_nameIn 114 = .ok (.iload_n 2, 1) := dk_28 (dk_at dksX2_nameIn_4 22 rfl rfl)
theorem dX2_nameIn_115 : decode cX2_nameIn 115 = .ok (.invokevirtual 297, 3) := dk_182 1 41 (dk_at dksX2_nameIn_5 0 rfl rfl)
theorem dX2_nameIn_118 : decode cX2_nameIn 118 = .ok (.iastore, 1) := dk_79 (dk_at dksX2_nameIn_5 3 rfl rfl)
theorem dX2_nameIn_119 : decode cX2_nameIn 119 = .ok (.return_, 1) := dk_177 (dk_at dksX2_nameIn_5 4 rfl rfl)
abbrev cX2_crowdOf : ByteArray := prog_20_method_68_code
def yX2_crowdOf : MethodName := ⟨RX2, "crowdOf", "(II)I"⟩
def dkwX2_crowdOf_2 : List UInt8 := [167, 0, 4, 3, 96, 62, 132, 4, 1, 167, 255, 205, 29, 172]
abbrev dktX2_crowdOf_2 : List UInt8 := dkwX2_crowdOf_2 ++ []
def dkwX2_crowdOf_1 : List UInt8 := [21, 4, 16, 6, 182, 0, 71, 6, 159, 0, 18, 42, 21, 4, 3, 182, 0, 71, 28, 160, 0, 7, 4]
abbrev dktX2_crowdOf_1 : List UInt8 := dkwX2_crowdOf_1 ++ dktX2_crowdOf_2
def dkwX2_crowdOf_0 : List UInt8 := [3, 62, 3, 54, 4, 21, 4, 42, 180, 0, 7, 4, 46, 162, 0, 46, 29, 21, 4, 27, 159, 0, 30, 42]
abbrev dktX2_crowdOf_0 : List UInt8 := dkwX2_crowdOf_0 ++ dktX2_crowdOf_1
theorem dksX2_crowdOf_0 : cX2_crowdOf.data.toList.drop 0 = dktX2_crowdOf_0 := by decide +kernel
theorem dksX2_crowdOf_1 : cX2_crowdOf.data.toList.drop 24 = dktX2_crowdOf_1 := dk_seg dksX2_crowdOf_0 24 rfl rfl
theorem dksX2_crowdOf_2 : cX2_crowdOf.data.toList.drop 47 = dktX2_crowdOf_2 := dk_seg dksX2_crowdOf_1 23 rfl rfl
theorem dX2_crowdOf_0 : decode cX2_crowdOf 0 = .ok (.iconst 0, 1) := dk_3 (dk_at dksX2_crowdOf_0 0 rfl rfl)
theorem dX2_crowdOf_1 : decode cX2_crowdOf 1 = .ok (.istore_n 3, 1) := dk_62 (dk_at dksX2_crowdOf_0 1 rfl rfl)
theorem dX2_crowdOf_2 : decode cX2_crowdOf 2 = .ok (.iconst 0, 1) := dk_3 (dk_at dksX2_crowdOf_0 2 rfl rfl)
theorem dX2_crowdOf_3 : decode cX2_crowdOf 3 = .ok (.istore 4, 2) := dk_54 4 (dk_at dksX2_crowdOf_0 3 rfl rfl)
theorem dX2_crowdOf_5 : decode cX2_crowdOf 5 = .ok (.iload 4, 2) := dk_21 4 (dk_at dksX2_crowdOf_0 5 rfl rfl)
theorem dX2_crowdOf_7 : decode cX2_crowdOf 7 = .ok (.aload_n 0, 1) := dk_42 (dk_at dksX2_crowdOf_0 7 rfl rfl)
theorem dX2_crowdOf_8 : decode cX2_crowdOf 8 = .ok (.getfield 7, 3) := dk_180 0 7 (dk_at dksX2_crowdOf_0 8 rfl rfl)
theorem dX2_crowdOf_11 : decode cX2_crowdOf 11 = .ok (.iconst 1, 1) := dk_4 (dk_at dksX2_crowdOf_0 11 rfl rfl)
theorem dX2_crowdOf_12 : decode cX2_crowdOf 12 = .ok (.iaload, 1) := dk_46 (dk_at dksX2_crowdOf_0 12 rfl rfl)
theorem dX2_crowdOf_13 : decode cX2_crowdOf 13 = .ok (.if_icmp .ge 46, 3) := dk_162 0 46 (dk_at dksX2_crowdOf_0 13 rfl rfl)
theorem dX2_crowdOf_16 : decode cX2_crowdOf 16 = .ok (.iload_n 3, 1) := dk_29 (dk_at dksX2_crowdOf_0 16 rfl rfl)
theorem dX2_crowdOf_17 : decode cX2_crowdOf 17 = .ok (.iload 4, 2) := dk_21 4 (dk_at dksX2_crowdOf_0 17 rfl rfl)
theorem dX2_crowdOf_19 : decode cX2_crowdOf 19 = .ok (.iload_n 1, 1) := dk_27 (dk_at dksX2_crowdOf_0 19 rfl rfl)
theorem dX2_crowdOf_20 : decode cX2_crowdOf 20 = .ok (.if_icmp .eq 30, 3) := dk_159 0 30 (dk_at dksX2_crowdOf_0 20 rfl rfl)
theorem dX2_crowdOf_23 : decode cX2_crowdOf 23 = .ok (.aload_n 0, 1) := dk_42 (dk_at dksX2_crowdOf_0 23 rfl rfl)
theorem dX2_crowdOf_24 : decode cX2_crowdOf 24 = .ok (.iload 4, 2) := dk_21 4 (dk_at dksX2_crowdOf_1 0 rfl rfl)
theorem dX2_crowdOf_26 : decode cX2_crowdOf 26 = .ok (.bipush 6, 2) := dk_16 6 (dk_at dksX2_crowdOf_1 2 rfl rfl)
theorem dX2_crowdOf_28 : decode cX2_crowdOf 28 = .ok (.invokevirtual 71, 3) := dk_182 0 71 (dk_at dksX2_crowdOf_1 4 rfl rfl)
theorem dX2_crowdOf_31 : decode cX2_crowdOf 31 = .ok (.iconst 3, 1) := dk_6 (dk_at dksX2_crowdOf_1 7 rfl rfl)
theorem dX2_crowdOf_32 : decode cX2_crowdOf 32 = .ok (.if_icmp .eq 18, 3) := dk_159 0 18 (dk_at dksX2_crowdOf_1 8 rfl rfl)
theorem dX2_crowdOf_35 : decode cX2_crowdOf 35 = .ok (.aload_n 0, 1) := dk_42 (dk_at dksX2_crowdOf_1 11 rfl rfl)
theorem dX2_crowdOf_36 : decode cX2_crowdOf 36 = .ok (.iload 4, 2) := dk_21 4 (dk_at dksX2_crowdOf_1 12 rfl rfl)
theorem dX2_crowdOf_38 : decode cX2_crowdOf 38 = .ok (.iconst 0, 1) := dk_3 (dk_at dksX2_crowdOf_1 14 rfl rfl)
theorem dX2_crowdOf_39 : decode cX2_crowdOf 39 = .ok (.invokevirtual 71, 3) := dk_182 0 71 (dk_at dksX2_crowdOf_1 15 rfl rfl)
theorem dX2_crowdOf_42 : decode cX2_crowdOf 42 = .ok (.iload_n 2, 1) := dk_28 (dk_at dksX2_crowdOf_1 18 rfl rfl)
theorem dX2_crowdOf_43 : decode cX2_crowdOf 43 = .ok (.if_icmp .ne 7, 3) := dk_160 0 7 (dk_at dksX2_crowdOf_1 19 rfl rfl)
theorem dX2_crowdOf_46 : decode cX2_crowdOf 46 = .ok (.iconst 1, 1) := dk_4 (dk_at dksX2_crowdOf_1 22 rfl rfl)
theorem dX2_crowdOf_47 : decode cX2_crowdOf 47 = .ok (.goto 4, 3) := dk_167 0 4 (dk_at dksX2_crowdOf_2 0 rfl rfl)
theorem dX2_crowdOf_50 : decode cX2_crowdOf 50 = .ok (.iconst 0, 1) := dk_3 (dk_at dksX2_crowdOf_2 3 rfl rfl)
theorem dX2_crowdOf_51 : decode cX2_crowdOf 51 = .ok (.iadd, 1) := dk_96 (dk_at dksX2_crowdOf_2 4 rfl rfl)
theorem dX2_crowdOf_52 : decode cX2_crowdOf 52 = .ok (.istore_n 3, 1) := dk_62 (dk_at dksX2_crowdOf_2 5 rfl rfl)
theorem dX2_crowdOf_53 : decode cX2_crowdOf 53 = .ok (.iinc 4 1, 3) := dk_132 4 1 (dk_at dksX2_crowdOf_2 6 rfl rfl)
theorem dX2_crowdOf_56 : decode cX2_crowdOf 56 = .ok (.goto (-51), 3) := dk_167 255 205 (dk_at dksX2_crowdOf_2 9 rfl rfl)
theorem dX2_crowdOf_59 : decode cX2_crowdOf 59 = .ok (.iload_n 3, 1) := dk_29 (dk_at dksX2_crowdOf_2 12 rfl rfl)
theorem dX2_crowdOf_60 : decode cX2_crowdOf 60 = .ok (.ireturn, 1) := dk_172 (dk_at dksX2_crowdOf_2 13 rfl rfl)
abbrev cX2_says : ByteArray := prog_20_method_67_code
def yX2_says : MethodName := ⟨RX2, "says", "(IIII)I"⟩
def dkwX2_says_3 : List UInt8 := [172]
abbrev dktX2_says_3 : List UInt8 := dkwX2_says_3 ++ []
def dkwX2_says_2 : List UInt8 := [182, 1, 35, 3, 21, 4, 184, 1, 38, 172, 132, 5, 1, 167, 255, 199, 29, 133, 3, 21, 4, 184, 1, 38]
abbrev dktX2_says_2 : List UInt8 := dkwX2_says_2 ++ dktX2_says_3
def dkwX2_says_1 : List UInt8 := [180, 0, 16, 17, 2, 217, 27, 104, 4, 96, 8, 21, 5, 104, 96, 46, 28, 160, 0, 17, 42, 27, 21, 5]
abbrev dktX2_says_1 : List UInt8 := dkwX2_says_1 ++ dktX2_says_2
def dkwX2_says_0 : List UInt8 := [3, 54, 5, 27, 155, 0, 59, 21, 5, 42, 180, 0, 16, 17, 2, 217, 27, 104, 46, 162, 0, 44, 42]
abbrev dktX2_says_0 : List UInt8 := dkwX2_says_0 ++ dktX2_says_1
theorem dksX2_says_0 : cX2_says.data.toList.drop 0 = dktX2_says_0 := by decide +kernel
theorem dksX2_says_1 : cX2_says.data.toList.drop 23 = dktX2_says_1 := dk_seg dksX2_says_0 23 rfl rfl
theorem dksX2_says_2 : cX2_says.data.toList.drop 47 = dktX2_says_2 := dk_seg dksX2_says_1 24 rfl rfl
theorem dksX2_says_3 : cX2_says.data.toList.drop 71 = dktX2_says_3 := dk_seg dksX2_says_2 24 rfl rfl
theorem dX2_says_0 : decode cX2_says 0 = .ok (.iconst 0, 1) := dk_3 (dk_at dksX2_says_0 0 rfl rfl)
theorem dX2_says_1 : decode cX2_says 1 = .ok (.istore 5, 2) := dk_54 5 (dk_at dksX2_says_0 1 rfl rfl)
theorem dX2_says_3 : decode cX2_says 3 = .ok (.iload_n 1, 1) := dk_27 (dk_at dksX2_says_0 3 rfl rfl)
theorem dX2_says_4 : decode cX2_says 4 = .ok (.ifCond .lt 59, 3) := dk_155 0 59 (dk_at dksX2_says_0 4 rfl rfl)
theorem dX2_says_7 : decode cX2_says 7 = .ok (.iload 5, 2) := dk_21 5 (dk_at dksX2_says_0 7 rfl rfl)
theorem dX2_says_9 : decode cX2_says 9 = .ok (.aload_n 0, 1) := dk_42 (dk_at dksX2_says_0 9 rfl rfl)
theorem dX2_says_10 : decode cX2_says 10 = .ok (.getfield 16, 3) := dk_180 0 16 (dk_at dksX2_says_0 10 rfl rfl)
theorem dX2_says_13 : decode cX2_says 13 = .ok (.sipush 729, 3) := dk_17 2 217 (dk_at dksX2_says_0 13 rfl rfl)
theorem dX2_says_16 : decode cX2_says 16 = .ok (.iload_n 1, 1) := dk_27 (dk_at dksX2_says_0 16 rfl rfl)
theorem dX2_says_17 : decode cX2_says 17 = .ok (.imul, 1) := dk_104 (dk_at dksX2_says_0 17 rfl rfl)
theorem dX2_says_18 : decode cX2_says 18 = .ok (.iaload, 1) := dk_46 (dk_at dksX2_says_0 18 rfl rfl)
theorem dX2_says_19 : decode cX2_says 19 = .ok (.if_icmp .ge 44, 3) := dk_162 0 44 (dk_at dksX2_says_0 19 rfl rfl)
theorem dX2_says_22 : decode cX2_says 22 = .ok (.aload_n 0, 1) := dk_42 (dk_at dksX2_says_0 22 rfl rfl)
theorem dX2_says_23 : decode cX2_says 23 = .ok (.getfield 16, 3) := dk_180 0 16 (dk_at dksX2_says_1 0 rfl rfl)
theorem dX2_says_26 : decode cX2_says 26 = .ok (.sipush 729, 3) := dk_17 2 217 (dk_at dksX2_says_1 3 rfl rfl)
theorem dX2_says_29 : decode cX2_says 29 = .ok (.iload_n 1, 1) := dk_27 (dk_at dksX2_says_1 6 rfl rfl)
theorem dX2_says_30 : decode cX2_says 30 = .ok (.imul, 1) := dk_104 (dk_at dksX2_says_1 7 rfl rfl)
theorem dX2_says_31 : decode cX2_says 31 = .ok (.iconst 1, 1) := dk_4 (dk_at dksX2_says_1 8 rfl rfl)
theorem dX2_says_32 : decode cX2_says 32 = .ok (.iadd, 1) := dk_96 (dk_at dksX2_says_1 9 rfl rfl)
theorem dX2_says_33 : decode cX2_says 33 = .ok (.iconst 5, 1) := dk_8 (dk_at dksX2_says_1 10 rfl rfl)
theorem dX2_says_34 : decode cX2_says 34 = .ok (.iload 5, 2) := dk_21 5 (dk_at dksX2_says_1 11 rfl rfl)
theorem dX2_says_36 : decode cX2_says 36 = .ok (.imul, 1) := dk_104 (dk_at dksX2_says_1 13 rfl rfl)
theorem dX2_says_37 : decode cX2_says 37 = .ok (.iadd, 1) := dk_96 (dk_at dksX2_says_1 14 rfl rfl)
theorem dX2_says_38 : decode cX2_says 38 = .ok (.iaload, 1) := dk_46 (dk_at dksX2_says_1 15 rfl rfl)
theorem dX2_says_39 : decode cX2_says 39 = .ok (.iload_n 2, 1) := dk_28 (dk_at dksX2_says_1 16 rfl rfl)
theorem dX2_says_40 : decode cX2_says 40 = .ok (.if_icmp .ne 17, 3) := dk_160 0 17 (dk_at dksX2_says_1 17 rfl rfl)
theorem dX2_says_43 : decode cX2_says 43 = .ok (.aload_n 0, 1) := dk_42 (dk_at dksX2_says_1 20 rfl rfl)
theorem dX2_says_44 : decode cX2_says 44 = .ok (.iload_n 1, 1) := dk_27 (dk_at dksX2_says_1 21 rfl rfl)
theorem dX2_says_45 : decode cX2_says 45 = .ok (.iload 5, 2) := dk_21 5 (dk_at dksX2_says_1 22 rfl rfl)
theorem dX2_says_47 : decode cX2_says 47 = .ok (.invokevirtual 291, 3) := dk_182 1 35 (dk_at dksX2_says_2 0 rfl rfl)
theorem dX2_says_50 : decode cX2_says 50 = .ok (.iconst 0, 1) := dk_3 (dk_at dksX2_says_2 3 rfl rfl)
theorem dX2_says_51 : decode cX2_says 51 = .ok (.iload 4, 2) := dk_21 4 (dk_at dksX2_says_2 4 rfl rfl)
theorem dX2_says_53 : decode cX2_says 53 = .ok (.invokestatic 294, 3) := dk_184 1 38 (dk_at dksX2_says_2 6 rfl rfl)
theorem dX2_says_56 : decode cX2_says 56 = .ok (.ireturn, 1) := dk_172 (dk_at dksX2_says_2 9 rfl rfl)
theorem dX2_says_57 : decode cX2_says 57 = .ok (.iinc 5 1, 3) := dk_132 5 1 (dk_at dksX2_says_2 10 rfl rfl)
theorem dX2_says_60 : decode cX2_says 60 = .ok (.goto (-57), 3) := dk_167 255 199 (dk_at dksX2_says_2 13 rfl rfl)
theorem dX2_says_63 : decode cX2_says 63 = .ok (.iload_n 3, 1) := dk_29 (dk_at dksX2_says_2 16 rfl rfl)
theorem dX2_says_64 : decode cX2_says 64 = .ok (.i2l, 1) := dk_133 (dk_at dksX2_says_2 17 rfl rfl)
theorem dX2_says_65 : decode cX2_says 65 = .ok (.iconst 0, 1) := dk_3 (dk_at dksX2_says_2 18 rfl rfl)
theorem dX2_says_66 : decode cX2_says 66 = .ok (.iload 4, 2) := dk_21 4 (dk_at dksX2_says_2 19 rfl rfl)
theorem dX2_says_68 : decode cX2_says 68 = .ok (.invokestatic 294, 3) := dk_184 1 38 (dk_at dksX2_says_2 21 rfl rfl)
theorem dX2_says_71 : decode cX2_says 71 = .ok (.ireturn, 1) := dk_172 (dk_at dksX2_says_3 0 rfl rfl)
abbrev cX2_summedUp : ByteArray := prog_20_method_66_code
def yX2_summedUp : MethodName := ⟨RX2, "summedUp", "(II)J"⟩
def dkwX2_summedUp_15 : List UInt8 := [167, 254, 198, 42, 180, 0, 35, 3, 47, 173]
abbrev dktX2_summedUp_15 : List UInt8 := dkwX2_summedUp_15 ++ []
def dkwX2_summedUp_14 : List UInt8 := [180, 0, 39, 21, 6, 4, 100, 51, 42, 180, 0, 39, 21, 6, 51, 184, 1, 31, 84, 132, 7, 1]
abbrev dktX2_summedUp_14 : List UInt8 := dkwX2_summedUp_14 ++ dktX2_summedUp_15
def dkwX2_summedUp_13 : List UInt8 := [167, 0, 4, 3, 84, 167, 0, 36, 132, 6, 255, 42, 180, 0, 39, 21, 6, 4, 100, 21, 8, 42]
abbrev dktX2_summedUp_13 : List UInt8 := dkwX2_summedUp_13 ++ dktX2_summedUp_14
def dkwX2_summedUp_12 : List UInt8 := [160, 0, 32, 42, 180, 0, 39, 21, 6, 4, 100, 42, 180, 0, 39, 21, 6, 4, 100, 51, 154, 0, 7, 4]
abbrev dktX2_summedUp_12 : List UInt8 := dkwX2_summedUp_12 ++ dktX2_summedUp_13
def dkwX2_summedUp_11 : List UInt8 := [180, 0, 35, 21, 5, 4, 96, 47, 184, 1, 27, 84, 132, 6, 1, 167, 0, 72, 21, 8, 16, 20]
abbrev dktX2_summedUp_11 : List UInt8 := dkwX2_summedUp_11 ++ dktX2_summedUp_12
def dkwX2_summedUp_10 : List UInt8 := [16, 20, 162, 0, 40, 132, 5, 254, 42, 180, 0, 39, 21, 6, 21, 8, 42, 180, 0, 35, 21, 5, 47, 42]
abbrev dktX2_summedUp_10 : List UInt8 := dkwX2_summedUp_10 ++ dktX2_summedUp_11
def dkwX2_summedUp_9 : List UInt8 := [180, 0, 35, 21, 5, 4, 100, 47, 42, 180, 0, 35, 21, 5, 47, 184, 1, 23, 80, 167, 0, 116, 21, 8]
abbrev dktX2_summedUp_9 : List UInt8 := dkwX2_summedUp_9 ++ dktX2_summedUp_10
def dkwX2_summedUp_8 : List UInt8 := [167, 0, 159, 21, 8, 16, 10, 162, 0, 39, 132, 5, 255, 42, 180, 0, 35, 21, 5, 4, 100, 21, 8, 42]
abbrev dktX2_summedUp_8 : List UInt8 := dkwX2_summedUp_8 ++ dktX2_summedUp_9
def dkwX2_summedUp_7 : List UInt8 := [42, 180, 0, 35, 21, 5, 4, 100, 42, 21, 8, 42, 180, 0, 35, 21, 5, 4, 100, 47, 182, 1, 19, 80]
abbrev dktX2_summedUp_7 : List UInt8 := dkwX2_summedUp_7 ++ dktX2_summedUp_8
def dkwX2_summedUp_6 : List UInt8 := [180, 0, 35, 21, 5, 4, 100, 42, 180, 0, 35, 21, 5, 47, 80, 167, 0, 192, 21, 8, 8, 163, 0, 30]
abbrev dktX2_summedUp_6 : List UInt8 := dkwX2_summedUp_6 ++ dktX2_summedUp_7
def dkwX2_summedUp_5 : List UInt8 := [21, 8, 7, 160, 0, 38, 132, 5, 255, 132, 6, 255, 42, 180, 0, 39, 21, 6, 51, 154, 0, 211, 42]
abbrev dktX2_summedUp_5 : List UInt8 := dkwX2_summedUp_5 ++ dktX2_summedUp_6
def dkwX2_summedUp_4 : List UInt8 := [154, 0, 9, 21, 9, 133, 167, 0, 11, 42, 180, 0, 32, 21, 9, 46, 133, 80, 132, 5, 1, 167, 0, 233]
abbrev dktX2_summedUp_4 : List UInt8 := dkwX2_summedUp_4 ++ dktX2_summedUp_5
def dkwX2_summedUp_3 : List UInt8 := [5, 21, 7, 104, 96, 4, 96, 46, 54, 9, 21, 8, 4, 163, 0, 35, 42, 180, 0, 35, 21, 5, 21, 8]
abbrev dktX2_summedUp_3 : List UInt8 := dkwX2_summedUp_3 ++ dktX2_summedUp_4
def dkwX2_summedUp_2 : List UInt8 := [46, 162, 1, 51, 42, 180, 0, 16, 21, 4, 5, 21, 7, 104, 96, 46, 54, 8, 42, 180, 0, 16, 21, 4]
abbrev dktX2_summedUp_2 : List UInt8 := dkwX2_summedUp_2 ++ dktX2_summedUp_3
def dkwX2_summedUp_1 : List UInt8 := [54, 5, 3, 54, 6, 42, 180, 0, 16, 29, 4, 96, 46, 54, 7, 21, 7, 42, 180, 0, 16, 29, 5, 96]
abbrev dktX2_summedUp_1 : List UInt8 := dkwX2_summedUp_1 ++ dktX2_summedUp_2
def dkwX2_summedUp_0 : List UInt8 := [17, 2, 217, 27, 104, 4, 96, 8, 28, 104, 96, 62, 17, 2, 217, 27, 104, 16, 121, 96, 54, 4, 3]
abbrev dktX2_summedUp_0 : List UInt8 := dkwX2_summedUp_0 ++ dktX2_summedUp_1
theorem dksX2_summedUp_0 : cX2_summedUp.data.toList.drop 0 = dktX2_summedUp_0 := by decide +kernel
theorem dksX2_summedUp_1 : cX2_summedUp.data.toList.drop 23 = dktX2_summedUp_1 := dk_seg dksX2_summedUp_0 23 rfl rfl
theorem dksX2_summedUp_2 : cX2_summedUp.data.toList.drop 47 = dktX2_summedUp_2 := dk_seg dksX2_summedUp_1 24 rfl rfl
theorem dksX2_summedUp_3 : cX2_summedUp.data.toList.drop 71 = dktX2_summedUp_3 := dk_seg dksX2_summedUp_2 24 rfl rfl
theorem dksX2_summedUp_4 : cX2_summedUp.data.toList.drop 95 = dktX2_summedUp_4 := dk_seg dksX2_summedUp_3 24 rfl rfl
theorem dksX2_summedUp_5 : cX2_summedUp.data.toList.drop 119 = dktX2_summedUp_5 := dk_seg dksX2_summedUp_4 24 rfl rfl
theorem dksX2_summedUp_6 : cX2_summedUp.data.toList.drop 142 = dktX2_summedUp_6 := dk_seg dksX2_summedUp_5 23 rfl rfl
theorem dksX2_summedUp_7 : cX2_summedUp.data.toList.drop 166 = dktX2_summedUp_7 := dk_seg dksX2_summedUp_6 24 rfl rfl
theorem dksX2_summedUp_8 : cX2_summedUp.data.toList.drop 190 = dktX2_summedUp_8 := dk_seg dksX2_summedUp_7 24 rfl rfl
theorem dksX2_summedUp_9 : cX2_summedUp.data.toList.drop 214 = dktX2_summedUp_9 := dk_seg dksX2_summedUp_8 24 rfl rfl
theorem dksX2_summedUp_10 : cX2_summedUp.data.toList.drop 238 = dktX2_summedUp_10 := dk_seg dksX2_summedUp_9 24 rfl rfl
theorem dksX2_summedUp_11 : cX2_summedUp.data.toList.drop 262 = dktX2_summedUp_11 := dk_seg dksX2_summedUp_10 24 rfl rfl
theorem dksX2_summedUp_12 : cX2_summedUp.data.toList.drop 284 = dktX2_summedUp_12 := dk_seg dksX2_summedUp_11 22 rfl rfl
theorem dksX2_summedUp_13 : cX2_summedUp.data.toList.drop 308 = dktX2_summedUp_13 := dk_seg dksX2_summedUp_12 24 rfl rfl
theorem dksX2_summedUp_14 : cX2_summedUp.data.toList.drop 330 = dktX2_summedUp_14 := dk_seg dksX2_summedUp_13 22 rfl rfl
theorem dksX2_summedUp_15 : cX2_summedUp.data.toList.drop 352 = dktX2_summedUp_15 := dk_seg dksX2_summedUp_14 22 rfl rfl
theorem dX2_summedUp_0 : decode cX2_summedUp 0 = .ok (.sipush 729, 3) := dk_17 2 217 (dk_at dksX2_summedUp_0 0 rfl rfl)
theorem dX2_summedUp_3 : decode cX2_summedUp 3 = .ok (.iload_n 1, 1) := dk_27 (dk_at dksX2_summedUp_0 3 rfl rfl)
theorem dX2_summedUp_4 : decode cX2_summedUp 4 = .ok (.imul, 1) := dk_104 (dk_at dksX2_summedUp_0 4 rfl rfl)
theorem dX2_summedUp_5 : decode cX2_summedUp 5 = .ok (.iconst 1, 1) := dk_4 (dk_at dksX2_summedUp_0 5 rfl rfl)
theorem dX2_summedUp_6 : decode cX2_summedUp 6 = .ok (.iadd, 1) := dk_96 (dk_at dksX2_summedUp_0 6 rfl rfl)
theorem dX2_summedUp_7 : decode cX2_summedUp 7 = .ok (.iconst 5, 1) := dk_8 (dk_at dksX2_summedUp_0 7 rfl rfl)
theorem dX2_summedUp_8 : decode cX2_summedUp 8 = .ok (.iload_n 2, 1) := dk_28 (dk_at dksX2_summedUp_0 8 rfl rfl)
theorem dX2_summedUp_9 : decode cX2_summedUp 9 = .ok (.imul, 1) := dk_104 (dk_at dksX2_summedUp_0 9 rfl rfl)
theorem dX2_summedUp_10 : decode cX2_summedUp 10 = .ok (.iadd, 1) := dk_96 (dk_at dksX2_summedUp_0 10 rfl rfl)
theorem dX2_summedUp_11 : decode cX2_summedUp 11 = .ok (.istore_n 3, 1) := dk_62 (dk_at dksX2_summedUp_0 11 rfl rfl)
theorem dX2_summedUp_12 : decode cX2_summedUp 12 = .ok (.sipush 729, 3) := dk_17 2 217 (dk_at dksX2_summedUp_0 12 rfl rfl)
theorem dX2_summedUp_15 : decode cX2_summedUp 15 = .ok (.iload_n 1, 1) := dk_27 (dk_at dksX2_summedUp_0 15 rfl rfl)
theorem dX2_summedUp_16 : decode cX2_summedUp 16 = .ok (.imul, 1) := dk_104 (dk_at dksX2_summedUp_0 16 rfl rfl)
theorem dX2_summedUp_17 : decode cX2_summedUp 17 = .ok (.bipush 121, 2) := dk_16 121 (dk_at dksX2_summedUp_0 17 rfl rfl)
theorem dX2_summedUp_19 : decode cX2_summedUp 19 = .ok (.iadd, 1) := dk_96 (dk_at dksX2_summedUp_0 19 rfl rfl)
theorem dX2_summedUp_20 : decode cX2_summedUp 20 = .ok (.istore 4, 2) := dk_54 4 (dk_at dksX2_summedUp_0 20 rfl rfl)
theorem dX2_summedUp_22 : decode cX2_summedUp 22 = .ok (.iconst 0, 1) := dk_3 (dk_at dksX2_summedUp_0 22 rfl rfl)
theorem dX2_summedUp_23 : decode cX2_summedUp 23 = .ok (.istore 5, 2) := dk_54 5 (dk_at dksX2_summedUp_1 0 rfl rfl)
theorem dX2_summedUp_25 : decode cX2_summedUp 25 = .ok (.iconst 0, 1) := dk_3 (dk_at dksX2_summedUp_1 2 rfl rfl)
theorem dX2_summedUp_26 : decode cX2_summedUp 26 = .ok (.istore 6, 2) := dk_54 6 (dk_at dksX2_summedUp_1 3 rfl rfl)
theorem dX2_summedUp_28 : decode cX2_summedUp 28 = .ok (.aload_n 0, 1) := dk_42 (dk_at dksX2_summedUp_1 5 rfl rfl)
theorem dX2_summedUp_29 : decode cX2_summedUp 29 = .ok (.getfield 16, 3) := dk_180 0 16 (dk_at dksX2_summedUp_1 6 rfl rfl)
theorem dX2_summedUp_32 : decode cX2_summedUp 32 = .ok (.iload_n 3, 1) := dk_29 (dk_at dksX2_summedUp_1 9 rfl rfl)
theorem dX2_summedUp_33 : decode cX2_summedUp 33 = .ok (.iconst 1, 1) := dk_4 (dk_at dksX2_summedUp_1 10 rfl rfl)
theorem dX2_summedUp_34 : decode cX2_summedUp 34 = .ok (.iadd, 1) := dk_96 (dk_at dksX2_summedUp_1 11 rfl rfl)
theorem dX2_summedUp_35 : decode cX2_summedUp 35 = .ok (.iaload, 1) := dk_46 (dk_at dksX2_summedUp_1 12 rfl rfl)
theorem dX2_summedUp_36 : decode cX2_summedUp 36 = .ok (.istore 7, 2) := dk_54 7 (dk_at dksX2_summedUp_1 13 rfl rfl)
theorem dX2_summedUp_38 : decode cX2_summedUp 38 = .ok (.iload 7, 2) := dk_21 7 (dk_at dksX2_summedUp_1 15 rfl rfl)
theorem dX2_summedUp_40 : decode cX2_summedUp 40 = .ok (.aload_n 0, 1) := dk_42 (dk_at dksX2_summedUp_1 17 rfl rfl)
theorem dX2_summedUp_41 : decode cX2_summedUp 41 = .ok (.getfield 16, 3) := dk_180 0 16 (dk_at dksX2_summedUp_1 18 rfl rfl)
theorem dX2_summedUp_44 : decode cX2_summedUp 44 = .ok (.iload_n 3, 1) := dk_29 (dk_at dksX2_summedUp_1 21 rfl rfl)
theorem dX2_summedUp_45 : decode cX2_summedUp 45 = .ok (.iconst 2, 1) := dk_5 (dk_at dksX2_summedUp_1 22 rfl rfl)
theorem dX2_summedUp_46 : decode cX2_summedUp 46 = .ok (.iadd, 1) := dk_96 (dk_at dksX2_summedUp_1 23 rfl rfl)
theorem dX2_summedUp_47 : decode cX2_summedUp 47 = .ok (.iaload, 1) := dk_46 (dk_at dksX2_summedUp_2 0 rfl rfl)
theorem dX2_summedUp_48 : decode cX2_summedUp 48 = .ok (.if_icmp .ge 307, 3) := dk_162 1 51 (dk_at dksX2_summedUp_2 1 rfl rfl)
theorem dX2_summedUp_51 : decode cX2_summedUp 51 = .ok (.aload_n 0, 1) := dk_42 (dk_at dksX2_summedUp_2 4 rfl rfl)
theorem dX2_summedUp_52 : decode cX2_summedUp 52 = .ok (.getfield 16, 3) := dk_180 0 16 (dk_at dksX2_summedUp_2 5 rfl rfl)
theorem dX2_summedUp_55 : decode cX2_summedUp 55 = .ok (.iload 4, 2) := dk_21 4 (dk_at dksX2_summedUp_2 8 rfl rfl)
theorem dX2_summedUp_57 : decode cX2_summedUp 57 = .ok (.iconst 2, 1) := dk_5 (dk_at dksX2_summedUp_2 10 rfl rfl)
theorem dX2_summedUp_58 : decode cX2_summedUp 58 = .ok (.iload 7, 2) := dk_21 7 (dk_at dksX2_summedUp_2 11 rfl rfl)
theorem dX2_summedUp_60 : decode cX2_summedUp 60 = .ok (.imul, 1) := dk_104 (dk_at dksX2_summedUp_2 13 rfl rfl)
theorem dX2_summedUp_61 : decode cX2_summedUp 61 = .ok (.iadd, 1) := dk_96 (dk_at dksX2_summedUp_2 14 rfl rfl)
theorem dX2_summedUp_62 : decode cX2_summedUp 62 = .ok (.iaload, 1) := dk_46 (dk_at dksX2_summedUp_2 15 rfl rfl)
theorem dX2_summedUp_63 : decode cX2_summedUp 63 = .ok (.istore 8, 2) := dk_54 8 (dk_at dksX2_summedUp_2 16 rfl rfl)
theorem dX2_summedUp_65 : decode cX2_summedUp 65 = .ok (.aload_n 0, 1) := dk_42 (dk_at dksX2_summedUp_2 18 rfl rfl)
theorem dX2_summedUp_66 : decode cX2_summedUp 66 = .ok (.getfield 16, 3) := dk_180 0 16 (dk_at dksX2_summedUp_2 19 rfl rfl)
theorem dX2_summedUp_69 : decode cX2_summedUp 69 = .ok (.iload 4, 2) := dk_21 4 (dk_at dksX2_summedUp_2 22 rfl rfl)
theorem dX2_summedUp_71 : decode cX2_summedUp 71 = .ok (.iconst 2, 1) := dk_5 (dk_at dksX2_summedUp_3 0 rfl rfl)
theorem dX2_summedUp_72 : decode cX2_summedUp 72 = .ok (.iload 7, 2) := dk_21 7 (dk_at dksX2_summedUp_3 1 rfl rfl)
theorem dX2_summedUp_74 : decode cX2_summedUp 74 = .ok (.imul, 1) := dk_104 (dk_at dksX2_summedUp_3 3 rfl rfl)
theorem dX2_summedUp_75 : decode cX2_summedUp 75 = .ok (.iadd, 1) := dk_96 (dk_at dksX2_summedUp_3 4 rfl rfl)
theorem dX2_summedUp_76 : decode cX2_summedUp 76 = .ok (.iconst 1, 1) := dk_4 (dk_at dksX2_summedUp_3 5 rfl rfl)
theorem dX2_summedUp_77 : decode cX2_summedUp 77 = .ok (.iadd, 1) := dk_96 (dk_at dksX2_summedUp_3 6 rfl rfl)
theorem dX2_summedUp_78 : decode cX2_summedUp 78 = .ok (.iaload, 1) := dk_46 (dk_at dksX2_summedUp_3 7 rfl rfl)
theorem dX2_summedUp_79 : decode cX2_summedUp 79 = .ok (.istore 9, 2) := dk_54 9 (dk_at dksX2_summedUp_3 8 rfl rfl)
theorem dX2_summedUp_81 : decode cX2_summedUp 81 = .ok (.iload 8, 2) := dk_21 8 (dk_at dksX2_summedUp_3 10 rfl rfl)
theorem dX2_summedUp_83 : decode cX2_summedUp 83 = .ok (.iconst 1, 1) := dk_4 (dk_at dksX2_summedUp_3 12 rfl rfl)
theorem dX2_summedUp_84 : decode cX2_summedUp 84 = .ok (.if_icmp .gt 35, 3) := dk_163 0 35 (dk_at dksX2_summedUp_3 13 rfl rfl)
theorem dX2_summedUp_87 : decode cX2_summedUp 87 = .ok (.aload_n 0, 1) := dk_42 (dk_at dksX2_summedUp_3 16 rfl rfl)
theorem dX2_summedUp_88 : decode cX2_summedUp 88 = .ok (.getfield 35, 3) := dk_180 0 35 (dk_at dksX2_summedUp_3 17 rfl rfl)
theorem dX2_summedUp_91 : decode cX2_summedUp 91 = .ok (.iload 5, 2) := dk_21 5 (dk_at dksX2_summedUp_3 20 rfl rfl)
theorem dX2_summedUp_93 : decode cX2_summedUp 93 = .ok (.iload 8, 2) := dk_21 8 (dk_at dksX2_summedUp_3 22 rfl rfl)
theorem dX2_summedUp_95 : decode cX2_summedUp 95 = .ok (.ifCond .ne 9, 3) := dk_154 0 9 (dk_at dksX2_summedUp_4 0 rfl rfl)
theorem dX2_summedUp_98 : decode cX2_summedUp 98 = .ok (.iload 9, 2) := dk_21 9 (dk_at dksX2_summedUp_4 3 rfl rfl)
theorem dX2_summedUp_100 : decode cX2_summedUp 100 = .ok (.i2l, 1) := dk_133 (dk_at dksX2_summedUp_4 5 rfl rfl)
theorem dX2_summedUp_101 : decode cX2_summedUp 101 = .ok (.goto 11, 3) := dk_167 0 11 (dk_at dksX2_summedUp_4 6 rfl rfl)
theorem dX2_summedUp_104 : decode cX2_summedUp 104 = .ok (.aload_n 0, 1) := dk_42 (dk_at dksX2_summedUp_4 9 rfl rfl)
theorem dX2_summedUp_105 : decode cX2_summedUp 105 = .ok (.getfield 32, 3) := dk_180 0 32 (dk_at dksX2_summedUp_4 10 rfl rfl)
theorem dX2_summedUp_108 : decode cX2_summedUp 108 = .ok (.iload 9, 2) := dk_21 9 (dk_at dksX2_summedUp_4 13 rfl rfl)
theorem dX2_summedUp_110 : decode cX2_summedUp 110 = .ok (.iaload, 1) := dk_46 (dk_at dksX2_summedUp_4 15 rfl rfl)
theorem dX2_summedUp_111 : decode cX2_summedUp 111 = .ok (.i2l, 1) := dk_133 (dk_at dksX2_summedUp_4 16 rfl rfl)
theorem dX2_summedUp_112 : decode cX2_summedUp 112 = .ok (.lastore, 1) := dk_80 (dk_at dksX2_summedUp_4 17 rfl rfl)
theorem dX2_summedUp_113 : decode cX2_summedUp 113 = .ok (.iinc 5 1, 3) := dk_132 5 1 (dk_at dksX2_summedUp_4 18 rfl rfl)
theorem dX2_summedUp_116 : decode cX2_summedUp 116 = .ok (.goto 233, 3) := dk_167 0 233 (dk_at dksX2_summedUp_4 21 rfl rfl)
theorem dX2_summedUp_119 : decode cX2_summedUp 119 = .ok (.iload 8, 2) := dk_21 8 (dk_at dksX2_summedUp_5 0 rfl rfl)
theorem dX2_summedUp_121 : decode cX2_summedUp 121 = .ok (.iconst 4, 1) := dk_7 (dk_at dksX2_summedUp_5 2 rfl rfl)
theorem dX2_summedUp_122 : decode cX2_summedUp 122 = .ok (.if_icmp .ne 38, 3) := dk_160 0 38 (dk_at dksX2_summedUp_5 3 rfl rfl)
theorem dX2_summedUp_125 : decode cX2_summedUp 125 = .ok (.iinc 5 (-1), 3) := dk_132 5 255 (dk_at dksX2_summedUp_5 6 rfl rfl)
theorem dX2_summedUp_128 : decode cX2_summedUp 128 = .ok (.iinc 6 (-1), 3) := dk_132 6 255 (dk_at dksX2_summedUp_5 9 rfl rfl)
theorem dX2_summedUp_131 : decode cX2_summedUp 131 = .ok (.aload_n 0, 1) := dk_42 (dk_at dksX2_summedUp_5 12 rfl rfl)
theorem dX2_summedUp_132 : decode cX2_summedUp 132 = .ok (.getfield 39, 3) := dk_180 0 39 (dk_at dksX2_summedUp_5 13 rfl rfl)
theorem dX2_summedUp_135 : decode cX2_summedUp 135 = .ok (.iload 6, 2) := dk_21 6 (dk_at dksX2_summedUp_5 16 rfl rfl)
theorem dX2_summedUp_137 : decode cX2_summedUp 137 = .ok (.baload, 1) := dk_51 (dk_at dksX2_summedUp_5 18 rfl rfl)
theorem dX2_summedUp_138 : decode cX2_summedUp 138 = .ok (.ifCond .ne 211, 3) := dk_154 0 211 (dk_at dksX2_summedUp_5 19 rfl rfl)
theorem dX2_summedUp_141 : decode cX2_summedUp 141 = .ok (.aload_n 0, 1) := dk_42 (dk_at dksX2_summedUp_5 22 rfl rfl)
theorem dX2_summedUp_142 : decode cX2_summedUp 142 = .ok (.getfield 35, 3) := dk_180 0 35 (dk_at dksX2_summedUp_6 0 rfl rfl)
theorem dX2_summedUp_145 : decode cX2_summedUp 145 = .ok (.iload 5, 2) := dk_21 5 (dk_at dksX2_summedUp_6 3 rfl rfl)
theorem dX2_summedUp_147 : decode cX2_summedUp 147 = .ok (.iconst 1, 1) := dk_4 (dk_at dksX2_summedUp_6 5 rfl rfl)
theorem dX2_summedUp_148 : decode cX2_summedUp 148 = .ok (.isub, 1) := dk_100 (dk_at dksX2_summedUp_6 6 rfl rfl)
theorem dX2_summedUp_149 : decode cX2_summedUp 149 = .ok (.aload_n 0, 1) := dk_42 (dk_at dksX2_summedUp_6 7 rfl rfl)
theorem dX2_summedUp_150 : decode cX2_summedUp 150 = .ok (.getfield 35, 3) := dk_180 0 35 (dk_at dksX2_summedUp_6 8 rfl rfl)
theorem dX2_summedUp_153 : decode cX2_summedUp 153 = .ok (.iload 5, 2) := dk_21 5 (dk_at dksX2_summedUp_6 11 rfl rfl)
theorem dX2_summedUp_155 : decode cX2_summedUp 155 = .ok (.laload, 1) := dk_47 (dk_at dksX2_summedUp_6 13 rfl rfl)
theorem dX2_summedUp_156 : decode cX2_summedUp 156 = .ok (.lastore, 1) := dk_80 (dk_at dksX2_summedUp_6 14 rfl rfl)
theorem dX2_summedUp_157 : decode cX2_summedUp 157 = .ok (.goto 192, 3) := dk_167 0 192 (dk_at dksX2_summedUp_6 15 rfl rfl)
theorem dX2_summedUp_160 : decode cX2_summedUp 160 = .ok (.iload 8, 2) := dk_21 8 (dk_at dksX2_summedUp_6 18 rfl rfl)
theorem dX2_summedUp_162 : decode cX2_summedUp 162 = .ok (.iconst 5, 1) := dk_8 (dk_at dksX2_summedUp_6 20 rfl rfl)
theorem dX2_summedUp_163 : decode cX2_summedUp 163 = .ok (.if_icmp .gt 30, 3) := dk_163 0 30 (dk_at dksX2_summedUp_6 21 rfl rfl)
theorem dX2_summedUp_166 : decode cX2_summedUp 166 = .ok (.aload_n 0, 1) := dk_42 (dk_at dksX2_summedUp_7 0 rfl rfl)
theorem dX2_summedUp_167 : decode cX2_summedUp 167 = .ok (.getfield 35, 3) := dk_180 0 35 (dk_at dksX2_summedUp_7 1 rfl rfl)
theorem dX2_summedUp_170 : decode cX2_summedUp 170 = .ok (.iload 5, 2) := dk_21 5 (dk_at dksX2_summedUp_7 4 rfl rfl)
theorem dX2_summedUp_172 : decode cX2_summedUp 172 = .ok (.iconst 1, 1) := dk_4 (dk_at dksX2_summedUp_7 6 rfl rfl)
theorem dX2_summedUp_173 : decode cX2_summedUp 173 = .ok (.isub, 1) := dk_100 (dk_at dksX2_summedUp_7 7 rfl rfl)
theorem dX2_summedUp_174 : decode cX2_summedUp 174 = .ok (.aload_n 0, 1) := dk_42 (dk_at dksX2_summedUp_7 8 rfl rfl)
theorem dX2_summedUp_175 : decode cX2_summedUp 175 = .ok (.iload 8, 2) := dk_21 8 (dk_at dksX2_summedUp_7 9 rfl rfl)
theorem dX2_summedUp_177 : decode cX2_summedUp 177 = .ok (.aload_n 0, 1) := dk_42 (dk_at dksX2_summedUp_7 11 rfl rfl)
theorem dX2_summedUp_178 : decode cX2_summedUp 178 = .ok (.getfield 35, 3) := dk_180 0 35 (dk_at dksX2_summedUp_7 12 rfl rfl)
theorem dX2_summedUp_181 : decode cX2_summedUp 181 = .ok (.iload 5, 2) := dk_21 5 (dk_at dksX2_summedUp_7 15 rfl rfl)
theorem dX2_summedUp_183 : decode cX2_summedUp 183 = .ok (.iconst 1, 1) := dk_4 (dk_at dksX2_summedUp_7 17 rfl rfl)
theorem dX2_summedUp_184 : decode cX2_summedUp 184 = .ok (.isub, 1) := dk_100 (dk_at dksX2_summedUp_7 18 rfl rfl)
theorem dX2_summedUp_185 : decode cX2_summedUp 185 = .ok (.laload, 1) := dk_47 (dk_at dksX2_summedUp_7 19 rfl rfl)
theorem dX2_summedUp_186 : decode cX2_summedUp 186 = .ok (.invokevirtual 275, 3) := dk_182 1 19 (dk_at dksX2_summedUp_7 20 rfl rfl)
theorem dX2_summedUp_189 : decode cX2_summedUp 189 = .ok (.lastore, 1) := dk_80 (dk_at dksX2_summedUp_7 23 rfl rfl)
theorem dX2_summedUp_190 : decode cX2_summedUp 190 = .ok (.goto 159, 3) := dk_167 0 159 (dk_at dksX2_summedUp_8 0 rfl rfl)
theorem dX2_summedUp_193 : decode cX2_summedUp 193 = .ok (.iload 8, 2) := dk_21 8 (dk_at dksX2_summedUp_8 3 rfl rfl)
theorem dX2_summedUp_195 : decode cX2_summedUp 195 = .ok (.bipush 10, 2) := dk_16 10 (dk_at dksX2_summedUp_8 5 rfl rfl)
theorem dX2_summedUp_197 : decode cX2_summedUp 197 = .ok (.if_icmp .ge 39, 3) := dk_162 0 39 (dk_at dksX2_summedUp_8 7 rfl rfl)
theorem dX2_summedUp_200 : decode cX2_summedUp 200 = .ok (.iinc 5 (-1), 3) := dk_132 5 255 (dk_at dksX2_summedUp_8 10 rfl rfl)
theorem dX2_summedUp_203 : decode cX2_summedUp 203 = .ok (.aload_n 0, 1) := dk_42 (dk_at dksX2_summedUp_8 13 rfl rfl)
theorem dX2_summedUp_204 : decode cX2_summedUp 204 = .ok (.getfield 35, 3) := dk_180 0 35 (dk_at dksX2_summedUp_8 14 rfl rfl)
theorem dX2_summedUp_207 : decode cX2_summedUp 207 = .ok (.iload 5, 2) := dk_21 5 (dk_at dksX2_summedUp_8 17 rfl rfl)
theorem dX2_summedUp_209 : decode cX2_summedUp 209 = .ok (.iconst 1, 1) := dk_4 (dk_at dksX2_summedUp_8 19 rfl rfl)
theorem dX2_summedUp_210 : decode cX2_summedUp 210 = .ok (.isub, 1) := dk_100 (dk_at dksX2_summedUp_8 20 rfl rfl)
theorem dX2_summedUp_211 : decode cX2_summedUp 211 = .ok (.iload 8, 2) := dk_21 8 (dk_at dksX2_summedUp_8 21 rfl rfl)
theorem dX2_summedUp_213 : decode cX2_summedUp 213 = .ok (.aload_n 0, 1) := dk_42 (dk_at dksX2_summedUp_8 23 rfl rfl)
theorem dX2_summedUp_214 : decode cX2_summedUp 214 = .ok (.getfield 35, 3) := dk_180 0 35 (dk_at dksX2_summedUp_9 0 rfl rfl)
theorem dX2_summedUp_217 : decode cX2_summedUp 217 = .ok (.iload 5, 2) := dk_21 5 (dk_at dksX2_summedUp_9 3 rfl rfl)
theorem dX2_summedUp_219 : decode cX2_summedUp 219 = .ok (.iconst 1, 1) := dk_4 (dk_at dksX2_summedUp_9 5 rfl rfl)
theorem dX2_summedUp_220 : decode cX2_summedUp 220 = .ok (.isub, 1) := dk_100 (dk_at dksX2_summedUp_9 6 rfl rfl)
theorem dX2_summedUp_221 : decode cX2_summedUp 221 = .ok (.laload, 1) := dk_47 (dk_at dksX2_summedUp_9 7 rfl rfl)
theorem dX2_summedUp_222 : decode cX2_summedUp 222 = .ok (.aload_n 0, 1) := dk_42 (dk_at dksX2_summedUp_9 8 rfl rfl)
theorem dX2_summedUp_223 : decode cX2_summedUp 223 = .ok (.getfield 35, 3) := dk_180 0 35 (dk_at dksX2_summedUp_9 9 rfl rfl)
theorem dX2_summedUp_226 : decode cX2_summedUp 226 = .ok (.iload 5, 2) := dk_21 5 (dk_at dksX2_summedUp_9 12 rfl rfl)
theorem dX2_summedUp_228 : decode cX2_summedUp 228 = .ok (.laload, 1) := dk_47 (dk_at dksX2_summedUp_9 14 rfl rfl)
theorem dX2_summedUp_229 : decode cX2_summedUp 229 = .ok (.invokestatic 279, 3) := dk_184 1 23 (dk_at dksX2_summedUp_9 15 rfl rfl)
theorem dX2_summedUp_232 : decode cX2_summedUp 232 = .ok (.lastore, 1) := dk_80 (dk_at dksX2_summedUp_9 18 rfl rfl)
theorem dX2_summedUp_233 : decode cX2_summedUp 233 = .ok (.goto 116, 3) := dk_167 0 116 (dk_at dksX2_summedUp_9 19 rfl rfl)
theorem dX2_summedUp_236 : decode cX2_summedUp 236 = .ok (.iload 8, 2) := dk_21 8 (dk_at dksX2_summedUp_9 22 rfl rfl)
theorem dX2_summedUp_238 : decode cX2_summedUp 238 = .ok (.bipush 20, 2) := dk_16 20 (dk_at dksX2_summedUp_10 0 rfl rfl)
theorem dX2_summedUp_240 : decode cX2_summedUp 240 = .ok (.if_icmp .ge 40, 3) := dk_162 0 40 (dk_at dksX2_summedUp_10 2 rfl rfl)
theorem dX2_summedUp_243 : decode cX2_summedUp 243 = .ok (.iinc 5 (-2), 3) := dk_132 5 254 (dk_at dksX2_summedUp_10 5 rfl rfl)
theorem dX2_summedUp_246 : decode cX2_summedUp 246 = .ok (.aload_n 0, 1) := dk_42 (dk_at dksX2_summedUp_10 8 rfl rfl)
theorem dX2_summedUp_247 : decode cX2_summedUp 247 = .ok (.getfield 39, 3) := dk_180 0 39 (dk_at dksX2_summedUp_10 9 rfl rfl)
theorem dX2_summedUp_250 : decode cX2_summedUp 250 = .ok (.iload 6, 2) := dk_21 6 (dk_at dksX2_summedUp_10 12 rfl rfl)
theorem dX2_summedUp_252 : decode cX2_summedUp 252 = .ok (.iload 8, 2) := dk_21 8 (dk_at dksX2_summedUp_10 14 rfl rfl)
theorem dX2_summedUp_254 : decode cX2_summedUp 254 = .ok (.aload_n 0, 1) := dk_42 (dk_at dksX2_summedUp_10 16 rfl rfl)
theorem dX2_summedUp_255 : decode cX2_summedUp 255 = .ok (.getfield 35, 3) := dk_180 0 35 (dk_at dksX2_summedUp_10 17 rfl rfl)
theorem dX2_summedUp_258 : decode cX2_summedUp 258 = .ok (.iload 5, 2) := dk_21 5 (dk_at dksX2_summedUp_10 20 rfl rfl)
theorem dX2_summedUp_260 : decode cX2_summedUp 260 = .ok (.laload, 1) := dk_47 (dk_at dksX2_summedUp_10 22 rfl rfl)
theorem dX2_summedUp_261 : decode cX2_summedUp 261 = .ok (.aload_n 0, 1) := dk_42 (dk_at dksX2_summedUp_10 23 rfl rfl)
theorem dX2_summedUp_262 : decode cX2_summedUp 262 = .ok (.getfield 35, 3) := dk_180 0 35 (dk_at dksX2_summedUp_11 0 rfl rfl)
theorem dX2_summedUp_265 : decode cX2_summedUp 265 = .ok (.iload 5, 2) := dk_21 5 (dk_at dksX2_summedUp_11 3 rfl rfl)
theorem dX2_summedUp_267 : decode cX2_summedUp 267 = .ok (.iconst 1, 1) := dk_4 (dk_at dksX2_summedUp_11 5 rfl rfl)
theorem dX2_summedUp_268 : decode cX2_summedUp 268 = .ok (.iadd, 1) := dk_96 (dk_at dksX2_summedUp_11 6 rfl rfl)
theorem dX2_summedUp_269 : decode cX2_summedUp 269 = .ok (.laload, 1) := dk_47 (dk_at dksX2_summedUp_11 7 rfl rfl)
theorem dX2_summedUp_270 : decode cX2_summedUp 270 = .ok (.invokestatic 283, 3) := dk_184 1 27 (dk_at dksX2_summedUp_11 8 rfl rfl)
theorem dX2_summedUp_273 : decode cX2_summedUp 273 = .ok (.bastore, 1) := dk_84 (dk_at dksX2_summedUp_11 11 rfl rfl)
theorem dX2_summedUp_274 : decode cX2_summedUp 274 = .ok (.iinc 6 1, 3) := dk_132 6 1 (dk_at dksX2_summedUp_11 12 rfl rfl)
theorem dX2_summedUp_277 : decode cX2_summedUp 277 = .ok (.goto 72, 3) := dk_167 0 72 (dk_at dksX2_summedUp_11 15 rfl rfl)
theorem dX2_summedUp_280 : decode cX2_summedUp 280 = .ok (.iload 8, 2) := dk_21 8 (dk_at dksX2_summedUp_11 18 rfl rfl)
theorem dX2_summedUp_282 : decode cX2_summedUp 282 = .ok (.bipush 20, 2) := dk_16 20 (dk_at dksX2_summedUp_11 20 rfl rfl)
theorem dX2_summedUp_284 : decode cX2_summedUp 284 = .ok (.if_icmp .ne 32, 3) := dk_160 0 32 (dk_at dksX2_summedUp_12 0 rfl rfl)
theorem dX2_summedUp_287 : decode cX2_summedUp 287 = .ok (.aload_n 0, 1) := dk_42 (dk_at dksX2_summedUp_12 3 rfl rfl)
theorem dX2_summedUp_288 : decode cX2_summedUp 288 = .ok (.getfield 39, 3) := dk_180 0 39 (dk_at dksX2_summedUp_12 4 rfl rfl)
theorem dX2_summedUp_291 : decode cX2_summedUp 291 = .ok (.iload 6, 2) := dk_21 6 (dk_at dksX2_summedUp_12 7 rfl rfl)
theorem dX2_summedUp_293 : decode cX2_summedUp 293 = .ok (.iconst 1, 1) := dk_4 (dk_at dksX2_summedUp_12 9 rfl rfl)
theorem dX2_summedUp_294 : decode cX2_summedUp 294 = .ok (.isub, 1) := dk_100 (dk_at dksX2_summedUp_12 10 rfl rfl)
theorem dX2_summedUp_295 : decode cX2_summedUp 295 = .ok (.aload_n 0, 1) := dk_42 (dk_at dksX2_summedUp_12 11 rfl rfl)
theorem dX2_summedUp_296 : decode cX2_summedUp 296 = .ok (.getfield 39, 3) := dk_180 0 39 (dk_at dksX2_summedUp_12 12 rfl rfl)
theorem dX2_summedUp_299 : decode cX2_summedUp 299 = .ok (.iload 6, 2) := dk_21 6 (dk_at dksX2_summedUp_12 15 rfl rfl)
theorem dX2_summedUp_301 : decode cX2_summedUp 301 = .ok (.iconst 1, 1) := dk_4 (dk_at dksX2_summedUp_12 17 rfl rfl)
theorem dX2_summedUp_302 : decode cX2_summedUp 302 = .ok (.isub, 1) := dk_100 (dk_at dksX2_summedUp_12 18 rfl rfl)
theorem dX2_summedUp_303 : decode cX2_summedUp 303 = .ok (.baload, 1) := dk_51 (dk_at dksX2_summedUp_12 19 rfl rfl)
theorem dX2_summedUp_304 : decode cX2_summedUp 304 = .ok (.ifCond .ne 7, 3) := dk_154 0 7 (dk_at dksX2_summedUp_12 20 rfl rfl)
theorem dX2_summedUp_307 : decode cX2_summedUp 307 = .ok (.iconst 1, 1) := dk_4 (dk_at dksX2_summedUp_12 23 rfl rfl)
theorem dX2_summedUp_308 : decode cX2_summedUp 308 = .ok (.goto 4, 3) := dk_167 0 4 (dk_at dksX2_summedUp_13 0 rfl rfl)
theorem dX2_summedUp_311 : decode cX2_summedUp 311 = .ok (.iconst 0, 1) := dk_3 (dk_at dksX2_summedUp_13 3 rfl rfl)
theorem dX2_summedUp_312 : decode cX2_summedUp 312 = .ok (.bastore, 1) := dk_84 (dk_at dksX2_summedUp_13 4 rfl rfl)
theorem dX2_summedUp_313 : decode cX2_summedUp 313 = .ok (.goto 36, 3) := dk_167 0 36 (dk_at dksX2_summedUp_13 5 rfl rfl)
theorem dX2_summedUp_316 : decode cX2_summedUp 316 = .ok (.iinc 6 (-1), 3) := dk_132 6 255 (dk_at dksX2_summedUp_13 8 rfl rfl)
theorem dX2_summedUp_319 : decode cX2_summedUp 319 = .ok (.aload_n 0, 1) := dk_42 (dk_at dksX2_summedUp_13 11 rfl rfl)
theorem dX2_summedUp_320 : decode cX2_summedUp 320 = .ok (.getfield 39, 3) := dk_180 0 39 (dk_at dksX2_summedUp_13 12 rfl rfl)
theorem dX2_summedUp_323 : decode cX2_summedUp 323 = .ok (.iload 6, 2) := dk_21 6 (dk_at dksX2_summedUp_13 15 rfl rfl)
theorem dX2_summedUp_325 : decode cX2_summedUp 325 = .ok (.iconst 1, 1) := dk_4 (dk_at dksX2_summedUp_13 17 rfl rfl)
theorem dX2_summedUp_326 : decode cX2_summedUp 326 = .ok (.isub, 1) := dk_100 (dk_at dksX2_summedUp_13 18 rfl rfl)
theorem dX2_summedUp_327 : decode cX2_summedUp 327 = .ok (.iload 8, 2) := dk_21 8 (dk_at dksX2_summedUp_13 19 rfl rfl)
theorem dX2_summedUp_329 : decode cX2_summedUp 329 = .ok (.aload_n 0, 1) := dk_42 (dk_at dksX2_summedUp_13 21 rfl rfl)
theorem dX2_summedUp_330 : decode cX2_summedUp 330 = .ok (.getfield 39, 3) := dk_180 0 39 (dk_at dksX2_summedUp_14 0 rfl rfl)
theorem dX2_summedUp_333 : decode cX2_summedUp 333 = .ok (.iload 6, 2) := dk_21 6 (dk_at dksX2_summedUp_14 3 rfl rfl)
theorem dX2_summedUp_335 : decode cX2_summedUp 335 = .ok (.iconst 1, 1) := dk_4 (dk_at dksX2_summedUp_14 5 rfl rfl)
theorem dX2_summedUp_336 : decode cX2_summedUp 336 = .ok (.isub, 1) := dk_100 (dk_at dksX2_summedUp_14 6 rfl rfl)
theorem dX2_summedUp_337 : decode cX2_summedUp 337 = .ok (.baload, 1) := dk_51 (dk_at dksX2_summedUp_14 7 rfl rfl)
theorem dX2_summedUp_338 : decode cX2_summedUp 338 = .ok (.aload_n 0, 1) := dk_42 (dk_at dksX2_summedUp_14 8 rfl rfl)
theorem dX2_summedUp_339 : decode cX2_summedUp 339 = .ok (.getfield 39, 3) := dk_180 0 39 (dk_at dksX2_summedUp_14 9 rfl rfl)
theorem dX2_summedUp_342 : decode cX2_summedUp 342 = .ok (.iload 6, 2) := dk_21 6 (dk_at dksX2_summedUp_14 12 rfl rfl)
theorem dX2_summedUp_344 : decode cX2_summedUp 344 = .ok (.baload, 1) := dk_51 (dk_at dksX2_summedUp_14 14 rfl rfl)
theorem dX2_summedUp_345 : decode cX2_summedUp 345 = .ok (.invokestatic 287, 3) := dk_184 1 31 (dk_at dksX2_summedUp_14 15 rfl rfl)
theorem dX2_summedUp_348 : decode cX2_summedUp 348 = .ok (.bastore, 1) := dk_84 (dk_at dksX2_summedUp_14 18 rfl rfl)
theorem dX2_summedUp_349 : decode cX2_summedUp 349 = .ok (.iinc 7 1, 3) := dk_132 7 1 (dk_at dksX2_summedUp_14 19 rfl rfl)
theorem dX2_summedUp_352 : decode cX2_summedUp 352 = .ok (.goto (-314), 3) := dk_167 254 198 (dk_at dksX2_summedUp_15 0 rfl rfl)
theorem dX2_summedUp_355 : decode cX2_summedUp 355 = .ok (.aload_n 0, 1) := dk_42 (dk_at dksX2_summedUp_15 3 rfl rfl)
theorem dX2_summedUp_356 : decode cX2_summedUp 356 = .ok (.getfield 35, 3) := dk_180 0 35 (dk_at dksX2_summedUp_15 4 rfl rfl)
theorem dX2_summedUp_359 : decode cX2_summedUp 359 = .ok (.iconst 0, 1) := dk_3 (dk_at dksX2_summedUp_15 7 rfl rfl)
theorem dX2_summedUp_360 : decode cX2_summedUp 360 = .ok (.laload, 1) := dk_47 (dk_at dksX2_summedUp_15 8 rfl rfl)
theorem dX2_summedUp_361 : decode cX2_summedUp 361 = .ok (.lreturn, 1) := dk_173 (dk_at dksX2_summedUp_15 9 rfl rfl)
abbrev cX2_prefixed : ByteArray := prog_20_method_64_code
def yX2_prefixed : MethodName := ⟨RX2, "prefixed", "(IJ)J"⟩
def dkwX2_prefixed_1 : List UInt8 := [167, 0, 4, 32, 184, 1, 12, 133, 167, 0, 8, 42, 32, 182, 1, 16, 173]
abbrev dktX2_prefixed_1 : List UInt8 := dkwX2_prefixed_1 ++ []
def dkwX2_prefixed_0 : List UInt8 := [27, 8, 160, 0, 8, 32, 117, 167, 0, 32, 27, 5, 160, 0, 22, 32, 9, 148, 156, 0, 8, 32, 117]
abbrev dktX2_prefixed_0 : List UInt8 := dkwX2_prefixed_0 ++ dktX2_prefixed_1
theorem dksX2_prefixed_0 : cX2_prefixed.data.toList.drop 0 = dktX2_prefixed_0 := by decide +kernel
theorem dksX2_prefixed_1 : cX2_prefixed.data.toList.drop 23 = dktX2_prefixed_1 := dk_seg dksX2_prefixed_0 23 rfl rfl
theorem dX2_prefixed_0 : decode cX2_prefixed 0 = .ok (.iload_n 1, 1) := dk_27 (dk_at dksX2_prefixed_0 0 rfl rfl)
theorem dX2_prefixed_1 : decode cX2_prefixed 1 = .ok (.iconst 5, 1) := dk_8 (dk_at dksX2_prefixed_0 1 rfl rfl)
theorem dX2_prefixed_2 : decode cX2_prefixed 2 = .ok (.if_icmp .ne 8, 3) := dk_160 0 8 (dk_at dksX2_prefixed_0 2 rfl rfl)
theorem dX2_prefixed_5 : decode cX2_prefixed 5 = .ok (.lload_n 2, 1) := dk_32 (dk_at dksX2_prefixed_0 5 rfl rfl)
theorem dX2_prefixed_6 : decode cX2_prefixed 6 = .ok (.lneg, 1) := dk_117 (dk_at dksX2_prefixed_0 6 rfl rfl)
theorem dX2_prefixed_7 : decode cX2_prefixed 7 = .ok (.goto 32, 3) := dk_167 0 32 (dk_at dksX2_prefixed_0 7 rfl rfl)
theorem dX2_prefixed_10 : decode cX2_prefixed 10 = .ok (.iload_n 1, 1) := dk_27 (dk_at dksX2_prefixed_0 10 rfl rfl)
theorem dX2_prefixed_11 : decode cX2_prefixed 11 = .ok (.iconst 2, 1) := dk_5 (dk_at dksX2_prefixed_0 11 rfl rfl)
theorem dX2_prefixed_12 : decode cX2_prefixed 12 = .ok (.if_icmp .ne 22, 3) := dk_160 0 22 (dk_at dksX2_prefixed_0 12 rfl rfl)
theorem dX2_prefixed_15 : decode cX2_prefixed 15 = .ok (.lload_n 2, 1) := dk_32 (dk_at dksX2_prefixed_0 15 rfl rfl)
theorem dX2_prefixed_16 : decode cX2_prefixed 16 = .ok (.lconst 0, 1) := dk_9 (dk_at dksX2_prefixed_0 16 rfl rfl)
theorem dX2_prefixed_17 : decode cX2_prefixed 17 = .ok (.lcmp, 1) := dk_148 (dk_at dksX2_prefixed_0 17 rfl rfl)
theorem dX2_prefixed_18 : decode cX2_prefixed 18 = .ok (.ifCond .ge 8, 3) := dk_156 0 8 (dk_at dksX2_prefixed_0 18 rfl rfl)
theorem dX2_prefixed_21 : decode cX2_prefixed 21 = .ok (.lload_n 2, 1) := dk_32 (dk_at dksX2_prefixed_0 21 rfl rfl)
theorem dX2_prefixed_22 : decode cX2_prefixed 22 = .ok (.lneg, 1) := dk_117 (dk_at dksX2_prefixed_0 22 rfl rfl)
theorem dX2_prefixed_23 : decode cX2_prefixed 23 = .ok (.goto 4, 3) := dk_167 0 4 (dk_at dksX2_prefixed_1 0 rfl rfl)
theorem dX2_prefixed_26 : decode cX2_prefixed 26 = .ok (.lload_n 2, 1) := dk_32 (dk_at dksX2_prefixed_1 3 rfl rfl)
theorem dX2_prefixed_27 : decode cX2_prefixed 27 = .ok (.invokestatic 268, 3) := dk_184 1 12 (dk_at dksX2_prefixed_1 4 rfl rfl)
theorem dX2_prefixed_30 : decode cX2_prefixed 30 = .ok (.i2l, 1) := dk_133 (dk_at dksX2_prefixed_1 7 rfl rfl)
theorem dX2_prefixed_31 : decode cX2_prefixed 31 = .ok (.goto 8, 3) := dk_167 0 8 (dk_at dksX2_prefixed_1 8 rfl rfl)
theorem dX2_prefixed_34 : decode cX2_prefixed 34 = .ok (.aload_n 0, 1) := dk_42 (dk_at dksX2_prefixed_1 11 rfl rfl)
theorem dX2_prefixed_35 : decode cX2_prefixed 35 = .ok (.lload_n 2, 1) := dk_32 (dk_at dksX2_prefixed_1 12 rfl rfl)
theorem dX2_prefixed_36 : decode cX2_prefixed 36 = .ok (.invokevirtual 272, 3) := dk_182 1 16 (dk_at dksX2_prefixed_1 13 rfl rfl)
theorem dX2_prefixed_39 : decode cX2_prefixed 39 = .ok (.lreturn, 1) := dk_173 (dk_at dksX2_prefixed_1 16 rfl rfl)
abbrev cX2_bits : ByteArray := prog_20_method_6_code
def yX2_bits : MethodName := ⟨RX2, "bits", "(J)I"⟩
def dkwX2_bits_0 : List UInt8 := [3, 61, 30, 66, 33, 9, 148, 153, 0, 15, 132, 2, 1, 33, 33, 10, 101, 127, 66, 167, 255, 241, 28, 172]
abbrev dktX2_bits_0 : List UInt8 := dkwX2_bits_0 ++ []
theorem dksX2_bits_0 : cX2_bits.data.toList.drop 0 = dktX2_bits_0 := by decide +kernel
theorem dX2_bits_0 : decode cX2_bits 0 = .ok (.iconst 0, 1) := dk_3 (dk_at dksX2_bits_0 0 rfl rfl)
theorem dX2_bits_1 : decode cX2_bits 1 = .ok (.istore_n 2, 1) := dk_61 (dk_at dksX2_bits_0 1 rfl rfl)
theorem dX2_bits_2 : decode cX2_bits 2 = .ok (.lload_n 0, 1) := dk_30 (dk_at dksX2_bits_0 2 rfl rfl)
theorem dX2_bits_3 : decode cX2_bits 3 = .ok (.lstore_n 3, 1) := dk_66 (dk_at dksX2_bits_0 3 rfl rfl)
theorem dX2_bits_4 : decode cX2_bits 4 = .ok (.lload_n 3, 1) := dk_33 (dk_at dksX2_bits_0 4 rfl rfl)
theorem dX2_bits_5 : decode cX2_bits 5 = .ok (.lconst 0, 1) := dk_9 (dk_at dksX2_bits_0 5 rfl rfl)
theorem dX2_bits_6 : decode cX2_bits 6 = .ok (.lcmp, 1) := dk_148 (dk_at dksX2_bits_0 6 rfl rfl)
theorem dX2_bits_7 : decode cX2_bits 7 = .ok (.ifCond .eq 15, 3) := dk_153 0 15 (dk_at dksX2_bits_0 7 rfl rfl)
theorem dX2_bits_10 : decode cX2_bits 10 = .ok (.iinc 2 1, 3) := dk_132 2 1 (dk_at dksX2_bits_0 10 rfl rfl)
theorem dX2_bits_13 : decode cX2_bits 13 = .ok (.lload_n 3, 1) := dk_33 (dk_at dksX2_bits_0 13 rfl rfl)
theorem dX2_bits_14 : decode cX2_bits 14 = .ok (.lload_n 3, 1) := dk_33 (dk_at dksX2_bits_0 14 rfl rfl)
theorem dX2_bits_15 : decode cX2_bits 15 = .ok (.lconst 1, 1) := dk_10 (dk_at dksX2_bits_0 15 rfl rfl)
theorem dX2_bits_16 : decode cX2_bits 16 = .ok (.lsub, 1) := dk_101 (dk_at dksX2_bits_0 16 rfl rfl)
theorem dX2_bits_17 : decode cX2_bits 17 = .ok (.land, 1) := dk_127 (dk_at dksX2_bits_0 17 rfl rfl)
theorem dX2_bits_18 : decode cX2_bits 18 = .ok (.lstore_n 3, 1) := dk_66 (dk_at dksX2_bits_0 18 rfl rfl)
theorem dX2_bits_19 : decode cX2_bits 19 = .ok (.goto (-15), 3) := dk_167 255 241 (dk_at dksX2_bits_0 19 rfl rfl)
theorem dX2_bits_22 : decode cX2_bits 22 = .ok (.iload_n 2, 1) := dk_28 (dk_at dksX2_bits_0 22 rfl rfl)
theorem dX2_bits_23 : decode cX2_bits 23 = .ok (.ireturn, 1) := dk_172 (dk_at dksX2_bits_0 23 rfl rfl)
abbrev cX2_fearOf : ByteArray := prog_20_method_63_code
def yX2_fearOf : MethodName := ⟨RX2, "fearOf", "(J)J"⟩
def dkwX2_fearOf_1 : List UInt8 := [182, 0, 71, 133, 167, 0, 4, 9, 173]
abbrev dktX2_fearOf_1 : List UInt8 := dkwX2_fearOf_1 ++ []
def dkwX2_fearOf_0 : List UInt8 := [31, 9, 148, 155, 0, 27, 31, 42, 180, 0, 7, 4, 46, 133, 148, 156, 0, 15, 42, 31, 136, 16, 7]
abbrev dktX2_fearOf_0 : List UInt8 := dkwX2_fearOf_0 ++ dktX2_fearOf_1
theorem dksX2_fearOf_0 : cX2_fearOf.data.toList.drop 0 = dktX2_fearOf_0 := by decide +kernel
theorem dksX2_fearOf_1 : cX2_fearOf.data.toList.drop 23 = dktX2_fearOf_1 := dk_seg dksX2_fearOf_0 23 rfl rfl
theorem dX2_fearOf_0 : decode cX2_fearOf 0 = .ok (.lload_n 1, 1) := dk_31 (dk_at dksX2_fearOf_0 0 rfl rfl)
theorem dX2_fearOf_1 : decode cX2_fearOf 1 = .ok (.lconst 0, 1) := dk_9 (dk_at dksX2_fearOf_0 1 rfl rfl)
theorem dX2_fearOf_2 : decode cX2_fearOf 2 = .ok (.lcmp, 1) := dk_148 (dk_at dksX2_fearOf_0 2 rfl rfl)
theorem dX2_fearOf_3 : decode cX2_fearOf 3 = .ok (.ifCond .lt 27, 3) := dk_155 0 27 (dk_at dksX2_fearOf_0 3 rfl rfl)
theorem dX2_fearOf_6 : decode cX2_fearOf 6 = .ok (.lload_n 1, 1) := dk_31 (dk_at dksX2_fearOf_0 6 rfl rfl)
theorem dX2_fearOf_7 : decode cX2_fearOf 7 = .ok (.aload_n 0, 1) := dk_42 (dk_at dksX2_fearOf_0 7 rfl rfl)
theorem dX2_fearOf_8 : decode cX2_fearOf 8 = .ok (.getfield 7, 3) := dk_180 0 7 (dk_at dksX2_fearOf_0 8 rfl rfl)
theorem dX2_fearOf_11 : decode cX2_fearOf 11 = .ok (.iconst 1, 1) := dk_4 (dk_at dksX2_fearOf_0 11 rfl rfl)
theorem dX2_fearOf_12 : decode cX2_fearOf 12 = .ok (.iaload, 1) := dk_46 (dk_at dksX2_fearOf_0 12 rfl rfl)
theorem dX2_fearOf_13 : decode cX2_fearOf 13 = .ok (.i2l, 1) := dk_133 (dk_at dksX2_fearOf_0 13 rfl rfl)
theorem dX2_fearOf_14 : decode cX2_fearOf 14 = .ok (.lcmp, 1) := dk_148 (dk_at dksX2_fearOf_0 14 rfl rfl)
theorem dX2_fearOf_15 : decode cX2_fearOf 15 = .ok (.ifCond .ge 15, 3) := dk_156 0 15 (dk_at dksX2_fearOf_0 15 rfl rfl)
theorem dX2_fearOf_18 : decode cX2_fearOf 18 = .ok (.aload_n 0, 1) := dk_42 (dk_at dksX2_fearOf_0 18 rfl rfl)
theorem dX2_fearOf_19 : decode cX2_fearOf 19 = .ok (.lload_n 1, 1) := dk_31 (dk_at dksX2_fearOf_0 19 rfl rfl)
theorem dX2_fearOf_20 : decode cX2_fearOf 20 = .ok (.l2i, 1) := dk_136 (dk_at dksX2_fearOf_0 20 rfl rfl)
theorem dX2_fearOf_21 : decode cX2_fearOf 21 = .ok (.bipush 7, 2) := dk_16 7 (dk_at dksX2_fearOf_0 21 rfl rfl)
theorem dX2_fearOf_23 : decode cX2_fearOf 23 = .ok (.invokevirtual 71, 3) := dk_182 0 71 (dk_at dksX2_fearOf_1 0 rfl rfl)
theorem dX2_fearOf_26 : decode cX2_fearOf 26 = .ok (.i2l, 1) := dk_133 (dk_at dksX2_fearOf_1 3 rfl rfl)
theorem dX2_fearOf_27 : decode cX2_fearOf 27 = .ok (.goto 4, 3) := dk_167 0 4 (dk_at dksX2_fearOf_1 4 rfl rfl)
theorem dX2_fearOf_30 : decode cX2_fearOf 30 = .ok (.lconst 0, 1) := dk_9 (dk_at dksX2_fearOf_1 7 rfl rfl)
theorem dX2_fearOf_31 : decode cX2_fearOf 31 = .ok (.lreturn, 1) := dk_173 (dk_at dksX2_fearOf_1 8 rfl rfl)
abbrev cX2_two : ByteArray := prog_20_method_61_code
def yX2_two : MethodName := ⟨RX2, "two", "(IJJ)J"⟩
def dkwX2_two_3 : List UInt8 := [154, 0, 7, 9, 167, 0, 9, 31, 33, 109, 184, 1, 8, 173]
abbrev dktX2_two_3 : List UInt8 := dkwX2_two_3 ++ []
def dkwX2_two_2 : List UInt8 := [31, 33, 97, 184, 1, 8, 173, 31, 33, 101, 184, 1, 8, 173, 31, 33, 105, 184, 1, 8, 173, 33, 9, 148]
abbrev dktX2_two_2 : List UInt8 := dkwX2_two_2 ++ dktX2_two_3
def dkwX2_two_1 : List UInt8 := [170, 0, 0, 0, 0, 0, 48, 0, 0, 0, 6, 0, 0, 0, 8, 0, 0, 0, 27, 0, 0, 0, 34, 0, 0, 0, 41]
abbrev dktX2_two_1 : List UInt8 := dkwX2_two_1 ++ dktX2_two_2
def dkwX2_two_0 : List UInt8 := [26]
abbrev dktX2_two_0 : List UInt8 := dkwX2_two_0 ++ dktX2_two_1
theorem dksX2_two_0 : cX2_two.data.toList.drop 0 = dktX2_two_0 := by decide +kernel
theorem dksX2_two_1 : cX2_two.data.toList.drop 1 = dktX2_two_1 := dk_seg dksX2_two_0 1 rfl rfl
theorem dksX2_two_2 : cX2_two.data.toList.drop 28 = dktX2_two_2 := dk_seg dksX2_two_1 27 rfl rfl
theorem dksX2_two_3 : cX2_two.data.toList.drop 52 = dktX2_two_3 := dk_seg dksX2_two_2 24 rfl rfl
theorem dX2_two_0 : decode cX2_two 0 = .ok (.iload_n 0, 1) := dk_26 (dk_at dksX2_two_0 0 rfl rfl)
theorem dX2_two_1 : decode cX2_two 1 = .ok (.tableswitch 48 6 8 #[27, 34, 41], 27) := by decide +kernel
theorem dX2_two_28 : decode cX2_two 28 = .ok (.lload_n 1, 1) := dk_31 (dk_at dksX2_two_2 0 rfl rfl)
theorem dX2_two_29 : decode cX2_two 29 = .ok (.lload_n 3, 1) := dk_33 (dk_at dksX2_two_2 1 rfl rfl)
theorem dX2_two_30 : decode cX2_two 30 = .ok (.ladd, 1) := dk_97 (dk_at dksX2_two_2 2 rfl rfl)
theorem dX2_two_31 : decode cX2_two 31 = .ok (.invokestatic 264, 3) := dk_184 1 8 (dk_at dksX2_two_2 3 rfl rfl)
theorem dX2_two_34 : decode cX2_two 34 = .ok (.lreturn, 1) := dk_173 (dk_at dksX2_two_2 6 rfl rfl)
theorem dX2_two_35 : decode cX2_two 35 = .ok (.lload_n 1, 1) := dk_31 (dk_at dksX2_two_2 7 rfl rfl)
theorem dX2_two_36 : decode cX2_two 36 = .ok (.lload_n 3, 1) := dk_33 (dk_at dksX2_two_2 8 rfl rfl)
theorem dX2_two_37 : decode cX2_two 37 = .ok (.lsub, 1) := dk_101 (dk_at dksX2_two_2 9 rfl rfl)
theorem dX2_two_38 : decode cX2_two 38 = .ok (.invokestatic 264, 3) := dk_184 1 8 (dk_at dksX2_two_2 10 rfl rfl)
theorem dX2_two_41 : decode cX2_two 41 = .ok (.lreturn, 1) := dk_173 (dk_at dksX2_two_2 13 rfl rfl)
theorem dX2_two_42 : decode cX2_two 42 = .ok (.lload_n 1, 1) := dk_31 (dk_at dksX2_two_2 14 rfl rfl)
theorem dX2_two_43 : decode cX2_two 43 = .ok (.lload_n 3, 1) := dk_33 (dk_at dksX2_two_2 15 rfl rfl)
theorem dX2_two_44 : decode cX2_two 44 = .ok (.lmul, 1) := dk_105 (dk_at dksX2_two_2 16 rfl rfl)
theorem dX2_two_45 : decode cX2_two 45 = .ok (.invokestatic 264, 3) := dk_184 1 8 (dk_at dksX2_two_2 17 rfl rfl)
theorem dX2_two_48 : decode cX2_two 48 = .ok (.lreturn, 1) := dk_173 (dk_at dksX2_two_2 20 rfl rfl)
theorem dX2_two_49 : decode cX2_two 49 = .ok (.lload_n 3, 1) := dk_33 (dk_at dksX2_two_2 21 rfl rfl)
theorem dX2_two_50 : decode cX2_two 50 = .ok (.lconst 0, 1) := dk_9 (dk_at dksX2_two_2 22 rfl rfl)
theorem dX2_two_51 : decode cX2_two 51 = .ok (.lcmp, 1) := dk_148 (dk_at dksX2_two_2 23 rfl rfl)
theorem dX2_two_52 : decode cX2_two 52 = .ok (.ifCond .ne 7, 3) := dk_154 0 7 (dk_at dksX2_two_3 0 rfl rfl)
theorem dX2_two_55 : decode cX2_two 55 = .ok (.lconst 0, 1) := dk_9 (dk_at dksX2_two_3 3 rfl rfl)
theorem dX2_two_56 : decode cX2_two 56 = .ok (.goto 9, 3) := dk_167 0 9 (dk_at dksX2_two_3 4 rfl rfl)
theorem dX2_two_59 : decode cX2_two 59 = .ok (.lload_n 1, 1) := dk_31 (dk_at dksX2_two_3 7 rfl rfl)
theorem dX2_two_60 : decode cX2_two 60 = .ok (.lload_n 3, 1) := dk_33 (dk_at dksX2_two_3 8 rfl rfl)
theorem dX2_two_61 : decode cX2_two 61 = .ok (.ldiv, 1) := dk_109 (dk_at dksX2_two_3 9 rfl rfl)
theorem dX2_two_62 : decode cX2_two 62 = .ok (.invokestatic 264, 3) := dk_184 1 8 (dk_at dksX2_two_3 10 rfl rfl)
theorem dX2_two_65 : decode cX2_two 65 = .ok (.lreturn, 1) := dk_173 (dk_at dksX2_two_3 13 rfl rfl)
abbrev cX2_clip : ByteArray := prog_20_method_60_code
def yX2_clip : MethodName := ⟨RX2, "clip", "(J)J"⟩
def dkwX2_clip_1 : List UInt8 := [20, 1, 6, 167, 0, 4, 30, 173]
abbrev dktX2_clip_1 : List UInt8 := dkwX2_clip_1 ++ []
def dkwX2_clip_0 : List UInt8 := [30, 20, 1, 4, 148, 158, 0, 9, 20, 1, 4, 167, 0, 18, 30, 20, 1, 6, 148, 156, 0, 9]
abbrev dktX2_clip_0 : List UInt8 := dkwX2_clip_0 ++ dktX2_clip_1
theorem dksX2_clip_0 : cX2_clip.data.toList.drop 0 = dktX2_clip_0 := by decide +kernel
theorem dksX2_clip_1 : cX2_clip.data.toList.drop 22 = dktX2_clip_1 := dk_seg dksX2_clip_0 22 rfl rfl
theorem dX2_clip_0 : decode cX2_clip 0 = .ok (.lload_n 0, 1) := dk_30 (dk_at dksX2_clip_0 0 rfl rfl)
theorem dX2_clip_1 : decode cX2_clip 1 = .ok (.ldc2_w 260, 3) := dk_20 1 4 (dk_at dksX2_clip_0 1 rfl rfl)
theorem dX2_clip_4 : decode cX2_clip 4 = .ok (.lcmp, 1) := dk_148 (dk_at dksX2_clip_0 4 rfl rfl)
theorem dX2_clip_5 : decode cX2_clip 5 = .ok (.ifCond .le 9, 3) := dk_158 0 9 (dk_at dksX2_clip_0 5 rfl rfl)
theorem dX2_clip_8 : decode cX2_clip 8 = .ok (.ldc2_w 260, 3) := dk_20 1 4 (dk_at dksX2_clip_0 8 rfl rfl)
theorem dX2_clip_11 : decode cX2_clip 11 = .ok (.goto 18, 3) := dk_167 0 18 (dk_at dksX2_clip_0 11 rfl rfl)
theorem dX2_clip_14 : decode cX2_clip 14 = .ok (.lload_n 0, 1) := dk_30 (dk_at dksX2_clip_0 14 rfl rfl)
theorem dX2_clip_15 : decode cX2_clip 15 = .ok (.ldc2_w 262, 3) := dk_20 1 6 (dk_at dksX2_clip_0 15 rfl rfl)
theorem dX2_clip_18 : decode cX2_clip 18 = .ok (.lcmp, 1) := dk_148 (dk_at dksX2_clip_0 18 rfl rfl)
theorem dX2_clip_19 : decode cX2_clip 19 = .ok (.ifCond .ge 9, 3) := dk_156 0 9 (dk_at dksX2_clip_0 19 rfl rfl)
theorem dX2_clip_22 : decode cX2_clip 22 = .ok (.ldc2_w 262, 3) := dk_20 1 6 (dk_at dksX2_clip_1 0 rfl rfl)
theorem dX2_clip_25 : decode cX2_clip 25 = .ok (.goto 4, 3) := dk_167 0 4 (dk_at dksX2_clip_1 3 rfl rfl)
theorem dX2_clip_28 : decode cX2_clip 28 = .ok (.lload_n 0, 1) := dk_30 (dk_at dksX2_clip_1 6 rfl rfl)
theorem dX2_clip_29 : decode cX2_clip 29 = .ok (.lreturn, 1) := dk_173 (dk_at dksX2_clip_1 7 rfl rfl)
abbrev cX2_isAsked : ByteArray := prog_20_method_62_code
def yX2_isAsked : MethodName := ⟨RX2, "isAsked", "(IJJ)Z"⟩
def dkwX2_isAsked_4 : List UInt8 := [167, 0, 18, 3, 167, 0, 14, 31, 33, 148, 153, 0, 7, 4, 167, 0, 4, 3, 172]
abbrev dktX2_isAsked_4 : List UInt8 := dkwX2_isAsked_4 ++ []
def dkwX2_isAsked_3 : List UInt8 := [155, 0, 7, 4, 167, 0, 38, 3, 167, 0, 34, 26, 16, 14, 160, 0, 17, 31, 33, 148, 154, 0, 7, 4]
abbrev dktX2_isAsked_3 : List UInt8 := dkwX2_isAsked_3 ++ dktX2_isAsked_4
def dkwX2_isAsked_2 : List UInt8 := [33, 148, 158, 0, 7, 4, 167, 0, 58, 3, 167, 0, 54, 26, 16, 13, 160, 0, 17, 31, 33, 148]
abbrev dktX2_isAsked_2 : List UInt8 := dkwX2_isAsked_2 ++ dktX2_isAsked_3
def dkwX2_isAsked_1 : List UInt8 := [160, 0, 17, 31, 33, 148, 157, 0, 7, 4, 167, 0, 78, 3, 167, 0, 74, 26, 16, 12, 160, 0, 17, 31]
abbrev dktX2_isAsked_1 : List UInt8 := dkwX2_isAsked_1 ++ dktX2_isAsked_2
def dkwX2_isAsked_0 : List UInt8 := [26, 16, 10, 160, 0, 17, 31, 33, 148, 156, 0, 7, 4, 167, 0, 98, 3, 167, 0, 94, 26, 16, 11]
abbrev dktX2_isAsked_0 : List UInt8 := dkwX2_isAsked_0 ++ dktX2_isAsked_1
theorem dksX2_isAsked_0 : cX2_isAsked.data.toList.drop 0 = dktX2_isAsked_0 := by decide +kernel
theorem dksX2_isAsked_1 : cX2_isAsked.data.toList.drop 23 = dktX2_isAsked_1 := dk_seg dksX2_isAsked_0 23 rfl rfl
theorem dksX2_isAsked_2 : cX2_isAsked.data.toList.drop 47 = dktX2_isAsked_2 := dk_seg dksX2_isAsked_1 24 rfl rfl
theorem dksX2_isAsked_3 : cX2_isAsked.data.toList.drop 69 = dktX2_isAsked_3 := dk_seg dksX2_isAsked_2 22 rfl rfl
theorem dksX2_isAsked_4 : cX2_isAsked.data.toList.drop 93 = dktX2_isAsked_4 := dk_seg dksX2_isAsked_3 24 rfl rfl
theorem dX2_isAsked_0 : decode cX2_isAsked 0 = .ok (.iload_n 0, 1) := dk_26 (dk_at dksX2_isAsked_0 0 rfl rfl)
theorem dX2_isAsked_1 : decode cX2_isAsked 1 = .ok (.bipush 10, 2) := dk_16 10 (dk_at dksX2_isAsked_0 1 rfl rfl)
theorem dX2_isAsked_3 : decode cX2_isAsked 3 = .ok (.if_icmp .ne 17, 3) := dk_160 0 17 (dk_at dksX2_isAsked_0 3 rfl rfl)
theorem dX2_isAsked_6 : decode cX2_isAsked 6 = .ok (.lload_n 1, 1) := dk_31 (dk_at dksX2_isAsked_0 6 rfl rfl)
theorem dX2_isAsked_7 : decode cX2_isAsked 7 = .ok (.lload_n 3, 1) := dk_33 (dk_at dksX2_isAsked_0 7 rfl rfl)
theorem dX2_isAsked_8 : decode cX2_isAsked 8 = .ok (.lcmp, 1) := dk_148 (dk_at dksX2_isAsked_0 8 rfl rfl)
theorem dX2_isAsked_9 : decode cX2_isAsked 9 = .ok (.ifCond .ge 7, 3) := dk_156 0 7 (dk_at dksX2_isAsked_0 9 rfl rfl)
theorem dX2_isAsked_12 : decode cX2_isAsked 12 = .ok (.iconst 1, 1) := dk_4 (dk_at dksX2_isAsked_0 12 rfl rfl)
theorem dX2_isAsked_13 : decode cX2_isAsked 13 = .ok (.goto 98, 3) := dk_167 0 98 (dk_at dksX2_isAsked_0 13 rfl rfl)
theorem dX2_isAsked_16 : decode cX2_isAsked 16 = .ok (.iconst 0, 1) := dk_3 (dk_at dksX2_isAsked_0 16 rfl rfl)
theorem dX2_isAsked_17 : decode cX2_isAsked 17 = .ok (.goto 94, 3) := dk_167 0 94 (dk_at dksX2_isAsked_0 17 rfl rfl)
theorem dX2_isAsked_20 : decode cX2_isAsked 20 = .ok (.iload_n 0, 1) := dk_26 (dk_at dksX2_isAsked_0 20 rfl rfl)
theorem dX2_isAsked_21 : decode cX2_isAsked 21 = .ok (.bipush 11, 2) := dk_16 11 (dk_at dksX2_isAsked_0 21 rfl rfl)
theorem dX2_isAsked_23 : decode cX2_isAsked 23 = .ok (.if_icmp .ne 17, 3) := dk_160 0 17 (dk_at dksX2_isAsked_1 0 rfl rfl)
theorem dX2_isAsked_26 : decode cX2_isAsked 26 = .ok (.lload_n 1, 1) := dk_31 (dk_at dksX2_isAsked_1 3 rfl rfl)
theorem dX2_isAsked_27 : decode cX2_isAsked 27 = .ok (.lload_n 3, 1) := dk_33 (dk_at dksX2_isAsked_1 4 rfl rfl)
theorem dX2_isAsked_28 : decode cX2_isAsked 28 = .ok (.lcmp, 1) := dk_148 (dk_at dksX2_isAsked_1 5 rfl rfl)
theorem dX2_isAsked_29 : decode cX2_isAsked 29 = .ok (.ifCond .gt 7, 3) := dk_157 0 7 (dk_at dksX2_isAsked_1 6 rfl rfl)
theorem dX2_isAsked_32 : decode cX2_isAsked 32 = .ok (.iconst 1, 1) := dk_4 (dk_at dksX2_isAsked_1 9 rfl rfl)
theorem dX2_isAsked_33 : decode cX2_isAsked 33 = .ok (.goto 78, 3) := dk_167 0 78 (dk_at dksX2_isAsked_1 10 rfl rfl)
theorem dX2_isAsked_36 : decode cX2_isAsked 36 = .ok (.iconst 0, 1) := dk_3 (dk_at dksX2_isAsked_1 13 rfl rfl)
theorem dX2_isAsked_37 : decode cX2_isAsked 37 = .ok (.goto 74, 3) := dk_167 0 74 (dk_at dksX2_isAsked_1 14 rfl rfl)
theorem dX2_isAsked_40 : decode cX2_isAsked 40 = .ok (.iload_n 0, 1) := dk_26 (dk_at dksX2_isAsked_1 17 rfl rfl)
theorem dX2_isAsked_41 : decode cX2_isAsked 41 = .ok (.bipush 12, 2) := dk_16 12 (dk_at dksX2_isAsked_1 18 rfl rfl)
theorem dX2_isAsked_43 : decode cX2_isAsked 43 = .ok (.if_icmp .ne 17, 3) := dk_160 0 17 (dk_at dksX2_isAsked_1 20 rfl rfl)
theorem dX2_isAsked_46 : decode cX2_isAsked 46 = .ok (.lload_n 1, 1) := dk_31 (dk_at dksX2_isAsked_1 23 rfl rfl)
theorem dX2_isAsked_47 : decode cX2_isAsked 47 = .ok (.lload_n 3, 1) := dk_33 (dk_at dksX2_isAsked_2 0 rfl rfl)
theorem dX2_isAsked_48 : decode cX2_isAsked 48 = .ok (.lcmp, 1) := dk_148 (dk_at dksX2_isAsked_2 1 rfl rfl)
theorem dX2_isAsked_49 : decode cX2_isAsked 49 = .ok (.ifCond .le 7, 3) := dk_158 0 7 (dk_at dksX2_isAsked_2 2 rfl rfl)
theorem dX2_isAsked_52 : decode cX2_isAsked 52 = .ok (.iconst 1, 1) := dk_4 (dk_at dksX2_isAsked_2 5 rfl rfl)
theorem dX2_isAsked_53 : decode cX2_isAsked 53 = .ok (.goto 58, 3) := dk_167 0 58 (dk_at dksX2_isAsked_2 6 rfl rfl)
theorem dX2_isAsked_56 : decode cX2_isAsked 56 = .ok (.iconst 0, 1) := dk_3 (dk_at dksX2_isAsked_2 9 rfl rfl)
theorem dX2_isAsked_57 : decode cX2_isAsked 57 = .ok (.goto 54, 3) := dk_167 0 54 (dk_at dksX2_isAsked_2 10 rfl rfl)
theorem dX2_isAsked_60 : decode cX2_isAsked 60 = .ok (.iload_n 0, 1) := dk_26 (dk_at dksX2_isAsked_2 13 rfl rfl)
theorem dX2_isAsked_61 : decode cX2_isAsked 61 = .ok (.bipush 13, 2) := dk_16 13 (dk_at dksX2_isAsked_2 14 rfl rfl)
theorem dX2_isAsked_63 : decode cX2_isAsked 63 = .ok (.if_icmp .ne 17, 3) := dk_160 0 17 (dk_at dksX2_isAsked_2 16 rfl rfl)
theorem dX2_isAsked_66 : decode cX2_isAsked 66 = .ok (.lload_n 1, 1) := dk_31 (dk_at dksX2_isAsked_2 19 rfl rfl)
theorem dX2_isAsked_67 : decode cX2_isAsked 67 = .ok (.lload_n 3, 1) := dk_33 (dk_at dksX2_isAsked_2 20 rfl rfl)
theorem dX2_isAsked_68 : decode cX2_isAsked 68 = .ok (.lcmp, 1) := dk_148 (dk_at dksX2_isAsked_2 21 rfl rfl)
theorem dX2_isAsked_69 : decode cX2_isAsked 69 = .ok (.ifCond .lt 7, 3) := dk_155 0 7 (dk_at dksX2_isAsked_3 0 rfl rfl)
theorem dX2_isAsked_72 : decode cX2_isAsked 72 = .ok (.iconst 1, 1) := dk_4 (dk_at dksX2_isAsked_3 3 rfl rfl)
theorem dX2_isAsked_73 : decode cX2_isAsked 73 = .ok (.goto 38, 3) := dk_167 0 38 (dk_at dksX2_isAsked_3 4 rfl rfl)
theorem dX2_isAsked_76 : decode cX2_isAsked 76 = .ok (.iconst 0, 1) := dk_3 (dk_at dksX2_isAsked_3 7 rfl rfl)
theorem dX2_isAsked_77 : decode cX2_isAsked 77 = .ok (.goto 34, 3) := dk_167 0 34 (dk_at dksX2_isAsked_3 8 rfl rfl)
theorem dX2_isAsked_80 : decode cX2_isAsked 80 = .ok (.iload_n 0, 1) := dk_26 (dk_at dksX2_isAsked_3 11 rfl rfl)
theorem dX2_isAsked_81 : decode cX2_isAsked 81 = .ok (.bipush 14, 2) := dk_16 14 (dk_at dksX2_isAsked_3 12 rfl rfl)
theorem dX2_isAsked_83 : decode cX2_isAsked 83 = .ok (.if_icmp .ne 17, 3) := dk_160 0 17 (dk_at dksX2_isAsked_3 14 rfl rfl)
theorem dX2_isAsked_86 : decode cX2_isAsked 86 = .ok (.lload_n 1, 1) := dk_31 (dk_at dksX2_isAsked_3 17 rfl rfl)
theorem dX2_isAsked_87 : decode cX2_isAsked 87 = .ok (.lload_n 3, 1) := dk_33 (dk_at dksX2_isAsked_3 18 rfl rfl)
theorem dX2_isAsked_88 : decode cX2_isAsked 88 = .ok (.lcmp, 1) := dk_148 (dk_at dksX2_isAsked_3 19 rfl rfl)
theorem dX2_isAsked_89 : decode cX2_isAsked 89 = .ok (.ifCond .ne 7, 3) := dk_154 0 7 (dk_at dksX2_isAsked_3 20 rfl rfl)
theorem dX2_isAsked_92 : decode cX2_isAsked 92 = .ok (.iconst 1, 1) := dk_4 (dk_at dksX2_isAsked_3 23 rfl rfl)
theorem dX2_isAsked_93 : decode cX2_isAsked 93 = .ok (.goto 18, 3) := dk_167 0 18 (dk_at dksX2_isAsked_4 0 rfl rfl)
theorem dX2_isAsked_96 : decode cX2_isAsked 96 = .ok (.iconst 0, 1) := dk_3 (dk_at dksX2_isAsked_4 3 rfl rfl)
theorem dX2_isAsked_97 : decode cX2_isAsked 97 = .ok (.goto 14, 3) := dk_167 0 14 (dk_at dksX2_isAsked_4 4 rfl rfl)
theorem dX2_isAsked_100 : decode cX2_isAsked 100 = .ok (.lload_n 1, 1) := dk_31 (dk_at dksX2_isAsked_4 7 rfl rfl)
theorem dX2_isAsked_101 : decode cX2_isAsked 101 = .ok (.lload_n 3, 1) := dk_33 (dk_at dksX2_isAsked_4 8 rfl rfl)
theorem dX2_isAsked_102 : decode cX2_isAsked 102 = .ok (.lcmp, 1) := dk_148 (dk_at dksX2_isAsked_4 9 rfl rfl)
theorem dX2_isAsked_103 : decode cX2_isAsked 103 = .ok (.ifCond .eq 7, 3) := dk_153 0 7 (dk_at dksX2_isAsked_4 10 rfl rfl)
theorem dX2_isAsked_106 : decode cX2_isAsked 106 = .ok (.iconst 1, 1) := dk_4 (dk_at dksX2_isAsked_4 13 rfl rfl)
theorem dX2_isAsked_107 : decode cX2_isAsked 107 = .ok (.goto 4, 3) := dk_167 0 4 (dk_at dksX2_isAsked_4 14 rfl rfl)
theorem dX2_isAsked_110 : decode cX2_isAsked 110 = .ok (.iconst 0, 1) := dk_3 (dk_at dksX2_isAsked_4 17 rfl rfl)
theorem dX2_isAsked_111 : decode cX2_isAsked 111 = .ok (.ireturn, 1) := dk_172 (dk_at dksX2_isAsked_4 18 rfl rfl)
abbrev cX2_joined : ByteArray := prog_20_method_65_code
def yX2_joined : MethodName := ⟨RX2, "joined", "(IZZ)Z"⟩
def dkwX2_joined_1 : List UInt8 := [154, 0, 7, 28, 153, 0, 7, 4, 167, 0, 4, 3, 172]
abbrev dktX2_joined_1 : List UInt8 := dkwX2_joined_1 ++ []
def dkwX2_joined_0 : List UInt8 := [26, 16, 21, 160, 0, 19, 27, 153, 0, 11, 28, 153, 0, 7, 4, 167, 0, 20, 3, 167, 0, 16, 27]
abbrev dktX2_joined_0 : List UInt8 := dkwX2_joined_0 ++ dktX2_joined_1
theorem dksX2_joined_0 : cX2_joined.data.toList.drop 0 = dktX2_joined_0 := by decide +kernel
theorem dksX2_joined_1 : cX2_joined.data.toList.drop 23 = dktX2_joined_1 := dk_seg dksX2_joined_0 23 rfl rfl
theorem dX2_joined_0 : decode cX2_joined 0 = .ok (.iload_n 0, 1) := dk_26 (dk_at dksX2_joined_0 0 rfl rfl)
theorem dX2_joined_1 : decode cX2_joined 1 = .ok (.bipush 21, 2) := dk_16 21 (dk_at dksX2_joined_0 1 rfl rfl)
theorem dX2_joined_3 : decode cX2_joined 3 = .ok (.if_icmp .ne 19, 3) := dk_160 0 19 (dk_at dksX2_joined_0 3 rfl rfl)
theorem dX2_joined_6 : decode cX2_joined 6 = .ok (.iload_n 1, 1) := dk_27 (dk_at dksX2_joined_0 6 rfl rfl)
theorem dX2_joined_7 : decode cX2_joined 7 = .ok (.ifCond .eq 11, 3) := dk_153 0 11 (dk_at dksX2_joined_0 7 rfl rfl)
theorem dX2_joined_10 : decode cX2_joined 10 = .ok (.iload_n 2, 1) := dk_28 (dk_at dksX2_joined_0 10 rfl rfl)
theorem dX2_joined_11 : decode cX2_joined 11 = .ok (.ifCond .eq 7, 3) := dk_153 0 7 (dk_at dksX2_joined_0 11 rfl rfl)
theorem dX2_joined_14 : decode cX2_joined 14 = .ok (.iconst 1, 1) := dk_4 (dk_at dksX2_joined_0 14 rfl rfl)
theorem dX2_joined_15 : decode cX2_joined 15 = .ok (.goto 20, 3) := dk_167 0 20 (dk_at dksX2_joined_0 15 rfl rfl)
theorem dX2_joined_18 : decode cX2_joined 18 = .ok (.iconst 0, 1) := dk_3 (dk_at dksX2_joined_0 18 rfl rfl)
theorem dX2_joined_19 : decode cX2_joined 19 = .ok (.goto 16, 3) := dk_167 0 16 (dk_at dksX2_joined_0 19 rfl rfl)
theorem dX2_joined_22 : decode cX2_joined 22 = .ok (.iload_n 1, 1) := dk_27 (dk_at dksX2_joined_0 22 rfl rfl)
theorem dX2_joined_23 : decode cX2_joined 23 = .ok (.ifCond .ne 7, 3) := dk_154 0 7 (dk_at dksX2_joined_1 0 rfl rfl)
theorem dX2_joined_26 : decode cX2_joined 26 = .ok (.iload_n 2, 1) := dk_28 (dk_at dksX2_joined_1 3 rfl rfl)
theorem dX2_joined_27 : decode cX2_joined 27 = .ok (.ifCond .eq 7, 3) := dk_153 0 7 (dk_at dksX2_joined_1 4 rfl rfl)
theorem dX2_joined_30 : decode cX2_joined 30 = .ok (.iconst 1, 1) := dk_4 (dk_at dksX2_joined_1 7 rfl rfl)
theorem dX2_joined_31 : decode cX2_joined 31 = .ok (.goto 4, 3) := dk_167 0 4 (dk_at dksX2_joined_1 8 rfl rfl)
theorem dX2_joined_34 : decode cX2_joined 34 = .ok (.iconst 0, 1) := dk_3 (dk_at dksX2_joined_1 11 rfl rfl)
theorem dX2_joined_35 : decode cX2_joined 35 = .ok (.ireturn, 1) := dk_172 (dk_at dksX2_joined_1 12 rfl rfl)
abbrev cX2_cut : ByteArray := prog_20_method_4_code
def yX2_cut : MethodName := ⟨RX2, "cut", "(JII)I"⟩
def dkwX2_cut_1 : List UInt8 := [172]
abbrev dktX2_cut_1 : List UInt8 := dkwX2_cut_1 ++ []
def dkwX2_cut_0 : List UInt8 := [30, 28, 133, 148, 156, 0, 7, 28, 167, 0, 16, 30, 29, 133, 148, 158, 0, 7, 29, 167, 0, 5, 30, 136]
abbrev dktX2_cut_0 : List UInt8 := dkwX2_cut_0 ++ dktX2_cut_1
theorem dksX2_cut_0 : cX2_cut.data.toList.drop 0 = dktX2_cut_0 := by decide +kernel
theorem dksX2_cut_1 : cX2_cut.data.toList.drop 24 = dktX2_cut_1 := dk_seg dksX2_cut_0 24 rfl rfl
theorem dX2_cut_0 : decode cX2_cut 0 = .ok (.lload_n 0, 1) := dk_30 (dk_at dksX2_cut_0 0 rfl rfl)
theorem dX2_cut_1 : decode cX2_cut 1 = .ok (.iload_n 2, 1) := dk_28 (dk_at dksX2_cut_0 1 rfl rfl)
theorem dX2_cut_2 : decode cX2_cut 2 = .ok (.i2l, 1) := dk_133 (dk_at dksX2_cut_0 2 rfl rfl)
theorem dX2_cut_3 : decode cX2_cut 3 = .ok (.lcmp, 1) := dk_148 (dk_at dksX2_cut_0 3 rfl rfl)
theorem dX2_cut_4 : decode cX2_cut 4 = .ok (.ifCond .ge 7, 3) := dk_156 0 7 (dk_at dksX2_cut_0 4 rfl rfl)
theorem dX2_cut_7 : decode cX2_cut 7 = .ok (.iload_n 2, 1) := dk_28 (dk_at dksX2_cut_0 7 rfl rfl)
theorem dX2_cut_8 : decode cX2_cut 8 = .ok (.goto 16, 3) := dk_167 0 16 (dk_at dksX2_cut_0 8 rfl rfl)
theorem dX2_cut_11 : decode cX2_cut 11 = .ok (.lload_n 0, 1) := dk_30 (dk_at dksX2_cut_0 11 rfl rfl)
theorem dX2_cut_12 : decode cX2_cut 12 = .ok (.iload_n 3, 1) := dk_29 (dk_at dksX2_cut_0 12 rfl rfl)
theorem dX2_cut_13 : decode cX2_cut 13 = .ok (.i2l, 1) := dk_133 (dk_at dksX2_cut_0 13 rfl rfl)
theorem dX2_cut_14 : decode cX2_cut 14 = .ok (.lcmp, 1) := dk_148 (dk_at dksX2_cut_0 14 rfl rfl)
theorem dX2_cut_15 : decode cX2_cut 15 = .ok (.ifCond .le 7, 3) := dk_158 0 7 (dk_at dksX2_cut_0 15 rfl rfl)
theorem dX2_cut_18 : decode cX2_cut 18 = .ok (.iload_n 3, 1) := dk_29 (dk_at dksX2_cut_0 18 rfl rfl)
theorem dX2_cut_19 : decode cX2_cut 19 = .ok (.goto 5, 3) := dk_167 0 5 (dk_at dksX2_cut_0 19 rfl rfl)
theorem dX2_cut_22 : decode cX2_cut 22 = .ok (.lload_n 0, 1) := dk_30 (dk_at dksX2_cut_0 22 rfl rfl)
theorem dX2_cut_23 : decode cX2_cut 23 = .ok (.l2i, 1) := dk_136 (dk_at dksX2_cut_0 23 rfl rfl)
theorem dX2_cut_24 : decode cX2_cut 24 = .ok (.ireturn, 1) := dk_172 (dk_at dksX2_cut_1 0 rfl rfl)
abbrev cX2_drawn : ByteArray := prog_20_method_76_code
def yX2_drawn : MethodName := ⟨RX2, "drawn", "(I)I"⟩
def dkwX2_drawn_0 : List UInt8 := [42, 180, 0, 7, 16, 11, 46, 27, 112, 61, 42, 182, 1, 54, 28, 172]
abbrev dktX2_drawn_0 : List UInt8 := dkwX2_drawn_0 ++ []
theorem dksX2_drawn_0 : cX2_drawn.data.toList.drop 0 = dktX2_drawn_0 := by decide +kernel
theorem dX2_drawn_0 : decode cX2_drawn 0 = .ok (.aload_n 0, 1) := dk_42 (dk_at dksX2_drawn_0 0 rfl rfl)
theorem dX2_drawn_1 : decode cX2_drawn 1 = .ok (.getfield 7, 3) := dk_180 0 7 (dk_at dksX2_drawn_0 1 rfl rfl)
theorem dX2_drawn_4 : decode cX2_drawn 4 = .ok (.bipush 11, 2) := dk_16 11 (dk_at dksX2_drawn_0 4 rfl rfl)
theorem dX2_drawn_6 : decode cX2_drawn 6 = .ok (.iaload, 1) := dk_46 (dk_at dksX2_drawn_0 6 rfl rfl)
theorem dX2_drawn_7 : decode cX2_drawn 7 = .ok (.iload_n 1, 1) := dk_27 (dk_at dksX2_drawn_0 7 rfl rfl)
theorem dX2_drawn_8 : decode cX2_drawn 8 = .ok (.irem, 1) := dk_112 (dk_at dksX2_drawn_0 8 rfl rfl)
theorem dX2_drawn_9 : decode cX2_drawn 9 = .ok (.istore_n 2, 1) := dk_61 (dk_at dksX2_drawn_0 9 rfl rfl)
theorem dX2_drawn_10 : decode cX2_drawn 10 = .ok (.aload_n 0, 1) := dk_42 (dk_at dksX2_drawn_0 10 rfl rfl)
theorem dX2_drawn_11 : decode cX2_drawn 11 = .ok (.invokevirtual 310, 3) := dk_182 1 54 (dk_at dksX2_drawn_0 11 rfl rfl)
theorem dX2_drawn_14 : decode cX2_drawn 14 = .ok (.iload_n 2, 1) := dk_28 (dk_at dksX2_drawn_0 14 rfl rfl)
theorem dX2_drawn_15 : decode cX2_drawn 15 = .ok (.ireturn, 1) := dk_172 (dk_at dksX2_drawn_0 15 rfl rfl)
abbrev cX2_anew : ByteArray := prog_20_method_77_code
def yX2_anew : MethodName := ⟨RX2, "anew", "()V"⟩
def dkwX2_anew_1 : List UInt8 := [20, 1, 61, 113, 136, 79, 177]
abbrev dktX2_anew_1 : List UInt8 := dkwX2_anew_1 ++ []
def dkwX2_anew_0 : List UInt8 := [42, 180, 0, 7, 16, 11, 42, 180, 0, 7, 16, 11, 46, 133, 20, 1, 57, 105, 20, 1, 59, 97]
abbrev dktX2_anew_0 : List UInt8 := dkwX2_anew_0 ++ dktX2_anew_1
theorem dksX2_anew_0 : cX2_anew.data.toList.drop 0 = dktX2_anew_0 := by decide +kernel
theorem dksX2_anew_1 : cX2_anew.data.toList.drop 22 = dktX2_anew_1 := dk_seg dksX2_anew_0 22 rfl rfl
theorem dX2_anew_0 : decode cX2_anew 0 = .ok (.aload_n 0, 1) := dk_42 (dk_at dksX2_anew_0 0 rfl rfl)
theorem dX2_anew_1 : decode cX2_anew 1 = .ok (.getfield 7, 3) := dk_180 0 7 (dk_at dksX2_anew_0 1 rfl rfl)
theorem dX2_anew_4 : decode cX2_anew 4 = .ok (.bipush 11, 2) := dk_16 11 (dk_at dksX2_anew_0 4 rfl rfl)
theorem dX2_anew_6 : decode cX2_anew 6 = .ok (.aload_n 0, 1) := dk_42 (dk_at dksX2_anew_0 6 rfl rfl)
theorem dX2_anew_7 : decode cX2_anew 7 = .ok (.getfield 7, 3) := dk_180 0 7 (dk_at dksX2_anew_0 7 rfl rfl)
theorem dX2_anew_10 : decode cX2_anew 10 = .ok (.bipush 11, 2) := dk_16 11 (dk_at dksX2_anew_0 10 rfl rfl)
theorem dX2_anew_12 : decode cX2_anew 12 = .ok (.iaload, 1) := dk_46 (dk_at dksX2_anew_0 12 rfl rfl)
theorem dX2_anew_13 : decode cX2_anew 13 = .ok (.i2l, 1) := dk_133 (dk_at dksX2_anew_0 13 rfl rfl)
theorem dX2_anew_14 : decode cX2_anew 14 = .ok (.ldc2_w 313, 3) := dk_20 1 57 (dk_at dksX2_anew_0 14 rfl rfl)
theorem dX2_anew_17 : decode cX2_anew 17 = .ok (.lmul, 1) := dk_105 (dk_at dksX2_anew_0 17 rfl rfl)
theorem dX2_anew_18 : decode cX2_anew 18 = .ok (.ldc2_w 315, 3) := dk_20 1 59 (dk_at dksX2_anew_0 18 rfl rfl)
theorem dX2_anew_21 : decode cX2_anew 21 = .ok (.ladd, 1) := dk_97 (dk_at dksX2_anew_0 21 rfl rfl)
theorem dX2_anew_22 : decode cX2_anew 22 = .ok (.ldc2_w 317, 3) := dk_20 1 61 (dk_at dksX2_anew_1 0 rfl rfl)
theorem dX2_anew_25 : decode cX2_anew 25 = .ok (.lrem, 1) := dk_113 (dk_at dksX2_anew_1 3 rfl rfl)
theorem dX2_anew_26 : decode cX2_anew 26 = .ok (.l2i, 1) := dk_136 (dk_at dksX2_anew_1 4 rfl rfl)
theorem dX2_anew_27 : decode cX2_anew 27 = .ok (.iastore, 1) := dk_79 (dk_at dksX2_anew_1 5 rfl rfl)
theorem dX2_anew_28 : decode cX2_anew 28 = .ok (.return_, 1) := dk_177 (dk_at dksX2_anew_1 6 rfl rfl)
abbrev cX2_kill : ByteArray := prog_20_method_93_code
def yX2_kill : MethodName := ⟨RX2, "kill", "(II)Z"⟩
def dkwX2_kill_0 : List UInt8 := [42, 27, 28, 182, 1, 105, 154, 0, 5, 3, 172, 42, 182, 1, 93, 42, 27, 28, 182, 1, 114, 4, 172]
abbrev dktX2_kill_0 : List UInt8 := dkwX2_kill_0 ++ []
theorem dksX2_kill_0 : cX2_kill.data.toList.drop 0 = dktX2_kill_0 := by decide +kernel
theorem dX2_kill_0 : decode cX2_kill 0 = .ok (.aload_n 0, 1) := dk_42 (dk_at dksX2_kill_0 0 rfl rfl)
theorem dX2_kill_1 : decode cX2_kill 1 = .ok (.iload_n 1, 1) := dk_27 (dk_at dksX2_kill_0 1 rfl rfl)
theorem dX2_kill_2 : decode cX2_kill 2 = .ok (.iload_n 2, 1) := dk_28 (dk_at dksX2_kill_0 2 rfl rfl)
theorem dX2_kill_3 : decode cX2_kill 3 = .ok (.invokevirtual 361, 3) := dk_182 1 105 (dk_at dksX2_kill_0 3 rfl rfl)
theorem dX2_kill_6 : decode cX2_kill 6 = .ok (.ifCond .ne 5, 3) := dk_154 0 5 (dk_at dksX2_kill_0 6 rfl rfl)
theorem dX2_kill_9 : decode cX2_kill 9 = .ok (.iconst 0, 1) := dk_3 (dk_at dksX2_kill_0 9 rfl rfl)
theorem dX2_kill_10 : decode cX2_kill 10 = .ok (.ireturn, 1) := dk_172 (dk_at dksX2_kill_0 10 rfl rfl)
theorem dX2_kill_11 : decode cX2_kill 11 = .ok (.aload_n 0, 1) := dk_42 (dk_at dksX2_kill_0 11 rfl rfl)
theorem dX2_kill_12 : decode cX2_kill 12 = .ok (.invokevirtual 349, 3) := dk_182 1 93 (dk_at dksX2_kill_0 12 rfl rfl)
theorem dX2_kill_15 : decode cX2_kill 15 = .ok (.aload_n 0, 1) := dk_42 (dk_at dksX2_kill_0 15 rfl rfl)
theorem dX2_kill_16 : decode cX2_kill 16 = .ok (.iload_n 1, 1) := dk_27 (dk_at dksX2_kill_0 16 rfl rfl)
theorem dX2_kill_17 : decode cX2_kill 17 = .ok (.iload_n 2, 1) := dk_28 (dk_at dksX2_kill_0 17 rfl rfl)
theorem dX2_kill_18 : decode cX2_kill 18 = .ok (.invokevirtual 370, 3) := dk_182 1 114 (dk_at dksX2_kill_0 18 rfl rfl)
theorem dX2_kill_21 : decode cX2_kill 21 = .ok (.iconst 1, 1) := dk_4 (dk_at dksX2_kill_0 21 rfl rfl)
theorem dX2_kill_22 : decode cX2_kill 22 = .ok (.ireturn, 1) := dk_172 (dk_at dksX2_kill_0 22 rfl rfl)
abbrev cX2_killNow : ByteArray := prog_20_method_92_code
def yX2_killNow : MethodName := ⟨RX2, "killNow", "(II)V"⟩
def dkwX2_killNow_0 : List UInt8 := [42, 27, 8, 182, 1, 75, 42, 28, 16, 6, 182, 0, 71, 4, 160, 0, 8, 42, 28, 182, 1, 111, 177]
abbrev dktX2_killNow_0 : List UInt8 := dkwX2_killNow_0 ++ []
theorem dksX2_killNow_0 : cX2_killNow.data.toList.drop 0 = dktX2_killNow_0 := by decide +kernel
theorem dX2_killNow_0 : decode cX2_killNow 0 = .ok (.aload_n 0, 1) := dk_42 (dk_at dksX2_killNow_0 0 rfl rfl)
theorem dX2_killNow_1 : decode cX2_killNow 1 = .ok (.iload_n 1, 1) := dk_27 (dk_at dksX2_killNow_0 1 rfl rfl)
theorem dX2_killNow_2 : decode cX2_killNow 2 = .ok (.iconst 5, 1) := dk_8 (dk_at dksX2_killNow_0 2 rfl rfl)
theorem dX2_killNow_3 : decode cX2_killNow 3 = .ok (.invokevirtual 331, 3) := dk_182 1 75 (dk_at dksX2_killNow_0 3 rfl rfl)
theorem dX2_killNow_6 : decode cX2_killNow 6 = .ok (.aload_n 0, 1) := dk_42 (dk_at dksX2_killNow_0 6 rfl rfl)
theorem dX2_killNow_7 : decode cX2_killNow 7 = .ok (.iload_n 2, 1) := dk_28 (dk_at dksX2_killNow_0 7 rfl rfl)
theorem dX2_killNow_8 : decode cX2_killNow 8 = .ok (.bipush 6, 2) := dk_16 6 (dk_at dksX2_killNow_0 8 rfl rfl)
theorem dX2_killNow_10 : decode cX2_killNow 10 = .ok (.invokevirtual 71, 3) := dk_182 0 71 (dk_at dksX2_killNow_0 10 rfl rfl)
theorem dX2_killNow_13 : decode cX2_killNow 13 = .ok (.iconst 1, 1) := dk_4 (dk_at dksX2_killNow_0 13 rfl rfl)
theorem dX2_killNow_14 : decode cX2_killNow 14 = .ok (.if_icmp .ne 8, 3) := dk_160 0 8 (dk_at dksX2_killNow_0 14 rfl rfl)
theorem dX2_killNow_17 : decode cX2_killNow 17 = .ok (.aload_n 0, 1) := dk_42 (dk_at dksX2_killNow_0 17 rfl rfl)
theorem dX2_killNow_18 : decode cX2_killNow 18 = .ok (.iload_n 2, 1) := dk_28 (dk_at dksX2_killNow_0 18 rfl rfl)
theorem dX2_killNow_19 : decode cX2_killNow 19 = .ok (.invokevirtual 367, 3) := dk_182 1 111 (dk_at dksX2_killNow_0 19 rfl rfl)
theorem dX2_killNow_22 : decode cX2_killNow 22 = .ok (.return_, 1) := dk_177 (dk_at dksX2_killNow_0 22 rfl rfl)
abbrev cX2_die : ByteArray := prog_20_method_78_code
def yX2_die : MethodName := ⟨RX2, "die", "(II)V"⟩
def dkwX2_die_1 : List UInt8 := [177]
abbrev dktX2_die_1 : List UInt8 := dkwX2_die_1 ++ []
def dkwX2_die_0 : List UInt8 := [42, 27, 16, 6, 6, 182, 0, 82, 42, 27, 28, 182, 1, 63, 42, 89, 180, 1, 66, 4, 96, 181, 1, 66]
abbrev dktX2_die_0 : List UInt8 := dkwX2_die_0 ++ dktX2_die_1
theorem dksX2_die_0 : cX2_die.data.toList.drop 0 = dktX2_die_0 := by decide +kernel
theorem dksX2_die_1 : cX2_die.data.toList.drop 24 = dktX2_die_1 := dk_seg dksX2_die_0 24 rfl rfl
theorem dX2_die_0 : decode cX2_die 0 = .ok (.aload_n 0, 1) := dk_42 (dk_at dksX2_die_0 0 rfl rfl)
theorem dX2_die_1 : decode cX2_die 1 = .ok (.iload_n 1, 1) := dk_27 (dk_at dksX2_die_0 1 rfl rfl)
theorem dX2_die_2 : decode cX2_die 2 = .ok (.bipush 6, 2) := dk_16 6 (dk_at dksX2_die_0 2 rfl rfl)
theorem dX2_die_4 : decode cX2_die 4 = .ok (.iconst 3, 1) := dk_6 (dk_at dksX2_die_0 4 rfl rfl)
theorem dX2_die_5 : decode cX2_die 5 = .ok (.invokevirtual 82, 3) := dk_182 0 82 (dk_at dksX2_die_0 5 rfl rfl)
theorem dX2_die_8 : decode cX2_die 8 = .ok (.aload_n 0, 1) := dk_42 (dk_at dksX2_die_0 8 rfl rfl)
theorem dX2_die_9 : decode cX2_die 9 = .ok (.iload_n 1, 1) := dk_27 (dk_at dksX2_die_0 9 rfl rfl)
theorem dX2_die_10 : decode cX2_die 10 = .ok (.iload_n 2, 1) := dk_28 (dk_at dksX2_die_0 10 rfl rfl)
theorem dX2_die_11 : decode cX2_die 11 = .ok (.invokevirtual 319, 3) := dk_182 1 63 (dk_at dksX2_die_0 11 rfl rfl)
theorem dX2_die_14 : decode cX2_die 14 = .ok (.aload_n 0, 1) := dk_42 (dk_at dksX2_die_0 14 rfl rfl)
theorem dX2_die_15 : decode cX2_die 15 = .ok (.dup, 1) := dk_89 (dk_at dksX2_die_0 15 rfl rfl)
theorem dX2_die_16 : decode cX2_die 16 = .ok (.getfield 322, 3) := dk_180 1 66 (dk_at dksX2_die_0 16 rfl rfl)
theorem dX2_die_19 : decode cX2_die 19 = .ok (.iconst 1, 1) := dk_4 (dk_at dksX2_die_0 19 rfl rfl)
theorem dX2_die_20 : decode cX2_die 20 = .ok (.iadd, 1) := dk_96 (dk_at dksX2_die_0 20 rfl rfl)
theorem dX2_die_21 : decode cX2_die 21 = .ok (.putfield 322, 3) := dk_181 1 66 (dk_at dksX2_die_0 21 rfl rfl)
theorem dX2_die_24 : decode cX2_die 24 = .ok (.return_, 1) := dk_177 (dk_at dksX2_die_1 0 rfl rfl)
abbrev cX2_pardonNow : ByteArray := prog_20_method_91_code
def yX2_pardonNow : MethodName := ⟨RX2, "pardonNow", "(I)V"⟩
def dkwX2_pardonNow_0 : List UInt8 := [42, 27, 16, 6, 5, 182, 0, 82, 42, 27, 8, 3, 182, 0, 82, 42, 27, 7, 3, 182, 0, 82, 177]
abbrev dktX2_pardonNow_0 : List UInt8 := dkwX2_pardonNow_0 ++ []
theorem dksX2_pardonNow_0 : cX2_pardonNow.data.toList.drop 0 = dktX2_pardonNow_0 := by decide +kernel
theorem dX2_pardonNow_0 : decode cX2_pardonNow 0 = .ok (.aload_n 0, 1) := dk_42 (dk_at dksX2_pardonNow_0 0 rfl rfl)
theorem dX2_pardonNow_1 : decode cX2_pardonNow 1 = .ok (.iload_n 1, 1) := dk_27 (dk_at dksX2_pardonNow_0 1 rfl rfl)
theorem dX2_pardonNow_2 : decode cX2_pardonNow 2 = .ok (.bipush 6, 2) := dk_16 6 (dk_at dksX2_pardonNow_0 2 rfl rfl)
theorem dX2_pardonNow_4 : decode cX2_pardonNow 4 = .ok (.iconst 2, 1) := dk_5 (dk_at dksX2_pardonNow_0 4 rfl rfl)
theorem dX2_pardonNow_5 : decode cX2_pardonNow 5 = .ok (.invokevirtual 82, 3) := dk_182 0 82 (dk_at dksX2_pardonNow_0 5 rfl rfl)
theorem dX2_pardonNow_8 : decode cX2_pardonNow 8 = .ok (.aload_n 0, 1) := dk_42 (dk_at dksX2_pardonNow_0 8 rfl rfl)
theorem dX2_pardonNow_9 : decode cX2_pardonNow 9 = .ok (.iload_n 1, 1) := dk_27 (dk_at dksX2_pardonNow_0 9 rfl rfl)
theorem dX2_pardonNow_10 : decode cX2_pardonNow 10 = .ok (.iconst 5, 1) := dk_8 (dk_at dksX2_pardonNow_0 10 rfl rfl)
theorem dX2_pardonNow_11 : decode cX2_pardonNow 11 = .ok (.iconst 0, 1) := dk_3 (dk_at dksX2_pardonNow_0 11 rfl rfl)
theorem dX2_pardonNow_12 : decode cX2_pardonNow 12 = .ok (.invokevirtual 82, 3) := dk_182 0 82 (dk_at dksX2_pardonNow_0 12 rfl rfl)
theorem dX2_pardonNow_15 : decode cX2_pardonNow 15 = .ok (.aload_n 0, 1) := dk_42 (dk_at dksX2_pardonNow_0 15 rfl rfl)
theorem dX2_pardonNow_16 : decode cX2_pardonNow 16 = .ok (.iload_n 1, 1) := dk_27 (dk_at dksX2_pardonNow_0 16 rfl rfl)
theorem dX2_pardonNow_17 : decode cX2_pardonNow 17 = .ok (.iconst 4, 1) := dk_7 (dk_at dksX2_pardonNow_0 17 rfl rfl)
theorem dX2_pardonNow_18 : decode cX2_pardonNow 18 = .ok (.iconst 0, 1) := dk_3 (dk_at dksX2_pardonNow_0 18 rfl rfl)
theorem dX2_pardonNow_19 : decode cX2_pardonNow 19 = .ok (.invokevirtual 82, 3) := dk_182 0 82 (dk_at dksX2_pardonNow_0 19 rfl rfl)
theorem dX2_pardonNow_22 : decode cX2_pardonNow 22 = .ok (.return_, 1) := dk_177 (dk_at dksX2_pardonNow_0 22 rfl rfl)
abbrev cX2_pardon : ByteArray := prog_20_method_96_code
def yX2_pardon : MethodName := ⟨RX2, "pardon", "(II)I"⟩
def dkwX2_pardon_0 : List UInt8 := [42, 27, 28, 182, 1, 120, 154, 0, 5, 2, 172, 42, 182, 1, 93, 42, 27, 28, 182, 1, 123, 172]
abbrev dktX2_pardon_0 : List UInt8 := dkwX2_pardon_0 ++ []
theorem dksX2_pardon_0 : cX2_pardon.data.toList.drop 0 = dktX2_pardon_0 := by decide +kernel
theorem dX2_pardon_0 : decode cX2_pardon 0 = .ok (.aload_n 0, 1) := dk_42 (dk_at dksX2_pardon_0 0 rfl rfl)
theorem dX2_pardon_1 : decode cX2_pardon 1 = .ok (.iload_n 1, 1) := dk_27 (dk_at dksX2_pardon_0 1 rfl rfl)
theorem dX2_pardon_2 : decode cX2_pardon 2 = .ok (.iload_n 2, 1) := dk_28 (dk_at dksX2_pardon_0 2 rfl rfl)
theorem dX2_pardon_3 : decode cX2_pardon 3 = .ok (.invokevirtual 376, 3) := dk_182 1 120 (dk_at dksX2_pardon_0 3 rfl rfl)
theorem dX2_pardon_6 : decode cX2_pardon 6 = .ok (.ifCond .ne 5, 3) := dk_154 0 5 (dk_at dksX2_pardon_0 6 rfl rfl)
theorem dX2_pardon_9 : decode cX2_pardon 9 = .ok (.iconst (-1), 1) := dk_2 (dk_at dksX2_pardon_0 9 rfl rfl)
theorem dX2_pardon_10 : decode cX2_pardon 10 = .ok (.ireturn, 1) := dk_172 (dk_at dksX2_pardon_0 10 rfl rfl)
theorem dX2_pardon_11 : decode cX2_pardon 11 = .ok (.aload_n 0, 1) := dk_42 (dk_at dksX2_pardon_0 11 rfl rfl)
theorem dX2_pardon_12 : decode cX2_pardon 12 = .ok (.invokevirtual 349, 3) := dk_182 1 93 (dk_at dksX2_pardon_0 12 rfl rfl)
theorem dX2_pardon_15 : decode cX2_pardon 15 = .ok (.aload_n 0, 1) := dk_42 (dk_at dksX2_pardon_0 15 rfl rfl)
theorem dX2_pardon_16 : decode cX2_pardon 16 = .ok (.iload_n 1, 1) := dk_27 (dk_at dksX2_pardon_0 16 rfl rfl)
theorem dX2_pardon_17 : decode cX2_pardon 17 = .ok (.iload_n 2, 1) := dk_28 (dk_at dksX2_pardon_0 17 rfl rfl)
theorem dX2_pardon_18 : decode cX2_pardon 18 = .ok (.invokevirtual 379, 3) := dk_182 1 123 (dk_at dksX2_pardon_0 18 rfl rfl)
theorem dX2_pardon_21 : decode cX2_pardon 21 = .ok (.ireturn, 1) := dk_172 (dk_at dksX2_pardon_0 21 rfl rfl)
abbrev cX2_canPardon : ByteArray := prog_20_method_94_code
def yX2_canPardon : MethodName := ⟨RX2, "canPardon", "(II)Z"⟩
def dkwX2_canPardon_1 : List UInt8 := [180, 0, 7, 6, 46, 27, 182, 1, 117, 161, 0, 7, 4, 167, 0, 4, 3, 172]
abbrev dktX2_canPardon_1 : List UInt8 := dkwX2_canPardon_1 ++ []
def dkwX2_canPardon_0 : List UInt8 := [42, 27, 182, 1, 102, 153, 0, 35, 42, 28, 182, 1, 87, 153, 0, 27, 42, 28, 4, 182, 0, 71, 42, 42]
abbrev dktX2_canPardon_0 : List UInt8 := dkwX2_canPardon_0 ++ dktX2_canPardon_1
theorem dksX2_canPardon_0 : cX2_canPardon.data.toList.drop 0 = dktX2_canPardon_0 := by decide +kernel
theorem dksX2_canPardon_1 : cX2_canPardon.data.toList.drop 24 = dktX2_canPardon_1 := dk_seg dksX2_canPardon_0 24 rfl rfl
theorem dX2_canPardon_0 : decode cX2_canPardon 0 = .ok (.aload_n 0, 1) := dk_42 (dk_at dksX2_canPardon_0 0 rfl rfl)
theorem dX2_canPardon_1 : decode cX2_canPardon 1 = .ok (.iload_n 1, 1) := dk_27 (dk_at dksX2_canPardon_0 1 rfl rfl)
theorem dX2_canPardon_2 : decode cX2_canPardon 2 = .ok (.invokevirtual 358, 3) := dk_182 1 102 (dk_at dksX2_canPardon_0 2 rfl rfl)
theorem dX2_canPardon_5 : decode cX2_canPardon 5 = .ok (.ifCond .eq 35, 3) := dk_153 0 35 (dk_at dksX2_canPardon_0 5 rfl rfl)
theorem dX2_canPardon_8 : decode cX2_canPardon 8 = .ok (.aload_n 0, 1) := dk_42 (dk_at dksX2_canPardon_0 8 rfl rfl)
theorem dX2_canPardon_9 : decode cX2_canPardon 9 = .ok (.iload_n 2, 1) := dk_28 (dk_at dksX2_canPardon_0 9 rfl rfl)
theorem dX2_canPardon_10 : decode cX2_canPardon 10 = .ok (.invokevirtual 343, 3) := dk_182 1 87 (dk_at dksX2_canPardon_0 10 rfl rfl)
theorem dX2_canPardon_13 : decode cX2_canPardon 13 = .ok (.ifCond .eq 27, 3) := dk_153 0 27 (dk_at dksX2_canPardon_0 13 rfl rfl)
theorem dX2_canPardon_16 : decode cX2_canPardon 16 = .ok (.aload_n 0, 1) := dk_42 (dk_at dksX2_canPardon_0 16 rfl rfl)
theorem dX2_canPardon_17 : decode cX2_canPardon 17 = .ok (.iload_n 2, 1) := dk_28 (dk_at dksX2_canPardon_0 17 rfl rfl)
theorem dX2_canPardon_18 : decode cX2_canPardon 18 = .ok (.iconst 1, 1) := dk_4 (dk_at dksX2_canPardon_0 18 rfl rfl)
theorem dX2_canPardon_19 : decode cX2_canPardon 19 = .ok (.invokevirtual 71, 3) := dk_182 0 71 (dk_at dksX2_canPardon_0 19 rfl rfl)
theorem dX2_canPardon_22 : decode cX2_canPardon 22 = .ok (.aload_n 0, 1) := dk_42 (dk_at dksX2_canPardon_0 22 rfl rfl)
theorem dX2_canPardon_23 : decode cX2_canPardon 23 = .ok (.aload_n 0, 1) := dk_42 (dk_at dksX2_canPardon_0 23 rfl rfl)
theorem dX2_canPardon_24 : decode cX2_canPardon 24 = .ok (.getfield 7, 3) := dk_180 0 7 (dk_at dksX2_canPardon_1 0 rfl rfl)
theorem dX2_canPardon_27 : decode cX2_canPardon 27 = .ok (.iconst 3, 1) := dk_6 (dk_at dksX2_canPardon_1 3 rfl rfl)
theorem dX2_canPardon_28 : decode cX2_canPardon 28 = .ok (.iaload, 1) := dk_46 (dk_at dksX2_canPardon_1 4 rfl rfl)
theorem dX2_canPardon_29 : decode cX2_canPardon 29 = .ok (.iload_n 1, 1) := dk_27 (dk_at dksX2_canPardon_1 5 rfl rfl)
theorem dX2_canPardon_30 : decode cX2_canPardon 30 = .ok (.invokevirtual 373, 3) := dk_182 1 117 (dk_at dksX2_canPardon_1 6 rfl rfl)
theorem dX2_canPardon_33 : decode cX2_canPardon 33 = .ok (.if_icmp .lt 7, 3) := dk_161 0 7 (dk_at dksX2_canPardon_1 9 rfl rfl)
theorem dX2_canPardon_36 : decode cX2_canPardon 36 = .ok (.iconst 1, 1) := dk_4 (dk_at dksX2_canPardon_1 12 rfl rfl)
theorem dX2_canPardon_37 : decode cX2_canPardon 37 = .ok (.goto 4, 3) := dk_167 0 4 (dk_at dksX2_canPardon_1 13 rfl rfl)
theorem dX2_canPardon_40 : decode cX2_canPardon 40 = .ok (.iconst 0, 1) := dk_3 (dk_at dksX2_canPardon_1 16 rfl rfl)
theorem dX2_canPardon_41 : decode cX2_canPardon 41 = .ok (.ireturn, 1) := dk_172 (dk_at dksX2_canPardon_1 17 rfl rfl)
abbrev cX2_priceOf : ByteArray := prog_20_method_73_code
def yX2_priceOf : MethodName := ⟨RX2, "priceOf", "(II)I"⟩
def dkwX2_priceOf_1 : List UInt8 := [104, 96, 17, 39, 15, 182, 1, 47, 172]
abbrev dktX2_priceOf_1 : List UInt8 := dkwX2_priceOf_1 ++ []
def dkwX2_priceOf_0 : List UInt8 := [42, 28, 42, 28, 3, 182, 0, 71, 182, 1, 44, 42, 27, 5, 16, 100, 16, 20, 42, 28, 8, 182, 0, 71]
abbrev dktX2_priceOf_0 : List UInt8 := dkwX2_priceOf_0 ++ dktX2_priceOf_1
theorem dksX2_priceOf_0 : cX2_priceOf.data.toList.drop 0 = dktX2_priceOf_0 := by decide +kernel
theorem dksX2_priceOf_1 : cX2_priceOf.data.toList.drop 24 = dktX2_priceOf_1 := dk_seg dksX2_priceOf_0 24 rfl rfl
theorem dX2_priceOf_0 : decode cX2_priceOf 0 = .ok (.aload_n 0, 1) := dk_42 (dk_at dksX2_priceOf_0 0 rfl rfl)
theorem dX2_priceOf_1 : decode cX2_priceOf 1 = .ok (.iload_n 2, 1) := dk_28 (dk_at dksX2_priceOf_0 1 rfl rfl)
theorem dX2_priceOf_2 : decode cX2_priceOf 2 = .ok (.aload_n 0, 1) := dk_42 (dk_at dksX2_priceOf_0 2 rfl rfl)
theorem dX2_priceOf_3 : decode cX2_priceOf 3 = .ok (.iload_n 2, 1) := dk_28 (dk_at dksX2_priceOf_0 3 rfl rfl)
theorem dX2_priceOf_4 : decode cX2_priceOf 4 = .ok (.iconst 0, 1) := dk_3 (dk_at dksX2_priceOf_0 4 rfl rfl)
theorem dX2_priceOf_5 : decode cX2_priceOf 5 = .ok (.invokevirtual 71, 3) := dk_182 0 71 (dk_at dksX2_priceOf_0 5 rfl rfl)
theorem dX2_priceOf_8 : decode cX2_priceOf 8 = .ok (.invokevirtual 300, 3) := dk_182 1 44 (dk_at dksX2_priceOf_0 8 rfl rfl)
theorem dX2_priceOf_11 : decode cX2_priceOf 11 = .ok (.aload_n 0, 1) := dk_42 (dk_at dksX2_priceOf_0 11 rfl rfl)
theorem dX2_priceOf_12 : decode cX2_priceOf 12 = .ok (.iload_n 1, 1) := dk_27 (dk_at dksX2_priceOf_0 12 rfl rfl)
theorem dX2_priceOf_13 : decode cX2_priceOf 13 = .ok (.iconst 2, 1) := dk_5 (dk_at dksX2_priceOf_0 13 rfl rfl)
theorem dX2_priceOf_14 : decode cX2_priceOf 14 = .ok (.bipush 100, 2) := dk_16 100 (dk_at dksX2_priceOf_0 14 rfl rfl)
theorem dX2_priceOf_16 : decode cX2_priceOf 16 = .ok (.bipush 20, 2) := dk_16 20 (dk_at dksX2_priceOf_0 16 rfl rfl)
theorem dX2_priceOf_18 : decode cX2_priceOf 18 = .ok (.aload_n 0, 1) := dk_42 (dk_at dksX2_priceOf_0 18 rfl rfl)
theorem dX2_priceOf_19 : decode cX2_priceOf 19 = .ok (.iload_n 2, 1) := dk_28 (dk_at dksX2_priceOf_0 19 rfl rfl)
theorem dX2_priceOf_20 : decode cX2_priceOf 20 = .ok (.iconst 5, 1) := dk_8 (dk_at dksX2_priceOf_0 20 rfl rfl)
theorem dX2_priceOf_21 : decode cX2_priceOf 21 = .ok (.invokevirtual 71, 3) := dk_182 0 71 (dk_at dksX2_priceOf_0 21 rfl rfl)
theorem dX2_priceOf_24 : decode cX2_priceOf 24 = .ok (.imul, 1) := dk_104 (dk_at dksX2_priceOf_1 0 rfl rfl)
theorem dX2_priceOf_25 : decode cX2_priceOf 25 = .ok (.iadd, 1) := dk_96 (dk_at dksX2_priceOf_1 1 rfl rfl)
theorem dX2_priceOf_26 : decode cX2_priceOf 26 = .ok (.sipush 9999, 3) := dk_17 39 15 (dk_at dksX2_priceOf_1 2 rfl rfl)
theorem dX2_priceOf_29 : decode cX2_priceOf 29 = .ok (.invokevirtual 303, 3) := dk_182 1 47 (dk_at dksX2_priceOf_1 5 rfl rfl)
theorem dX2_priceOf_32 : decode cX2_priceOf 32 = .ok (.ireturn, 1) := dk_172 (dk_at dksX2_priceOf_1 8 rfl rfl)
abbrev cX2_payNow : ByteArray := prog_20_method_95_code
def yX2_payNow : MethodName := ⟨RX2, "payNow", "(II)I"⟩
def dkwX2_payNow_1 : List UInt8 := [182, 0, 82, 42, 27, 182, 1, 111, 42, 27, 16, 6, 182, 1, 63, 29, 172]
abbrev dktX2_payNow_1 : List UInt8 := dkwX2_payNow_1 ++ []
def dkwX2_payNow_0 : List UInt8 := [42, 42, 180, 0, 7, 6, 46, 27, 182, 1, 117, 62, 42, 28, 4, 42, 28, 4, 182, 0, 71, 29, 100]
abbrev dktX2_payNow_0 : List UInt8 := dkwX2_payNow_0 ++ dktX2_payNow_1
theorem dksX2_payNow_0 : cX2_payNow.data.toList.drop 0 = dktX2_payNow_0 := by decide +kernel
theorem dksX2_payNow_1 : cX2_payNow.data.toList.drop 23 = dktX2_payNow_1 := dk_seg dksX2_payNow_0 23 rfl rfl
theorem dX2_payNow_0 : decode cX2_payNow 0 = .ok (.aload_n 0, 1) := dk_42 (dk_at dksX2_payNow_0 0 rfl rfl)
theorem dX2_payNow_1 : decode cX2_payNow 1 = .ok (.aload_n 0, 1) := dk_42 (dk_at dksX2_payNow_0 1 rfl rfl)
theorem dX2_payNow_2 : decode cX2_payNow 2 = .ok (.getfield 7, 3) := dk_180 0 7 (dk_at dksX2_payNow_0 2 rfl rfl)
theorem dX2_payNow_5 : decode cX2_payNow 5 = .ok (.iconst 3, 1) := dk_6 (dk_at dksX2_payNow_0 5 rfl rfl)
theorem dX2_payNow_6 : decode cX2_payNow 6 = .ok (.iaload, 1) := dk_46 (dk_at dksX2_payNow_0 6 rfl rfl)
theorem dX2_payNow_7 : decode cX2_payNow 7 = .ok (.iload_n 1, 1) := dk_27 (dk_at dksX2_payNow_0 7 rfl rfl)
theorem dX2_payNow_8 : decode cX2_payNow 8 = .ok (.invokevirtual 373, 3) := dk_182 1 117 (dk_at dksX2_payNow_0 8 rfl rfl)
theorem dX2_payNow_11 : decode cX2_payNow 11 = .ok (.istore_n 3, 1) := dk_62 (dk_at dksX2_payNow_0 11 rfl rfl)
theorem dX2_payNow_12 : decode cX2_payNow 12 = .ok (.aload_n 0, 1) := dk_42 (dk_at dksX2_payNow_0 12 rfl rfl)
theorem dX2_payNow_13 : decode cX2_payNow 13 = .ok (.iload_n 2, 1) := dk_28 (dk_at dksX2_payNow_0 13 rfl rfl)
theorem dX2_payNow_14 : decode cX2_payNow 14 = .ok (.iconst 1, 1) := dk_4 (dk_at dksX2_payNow_0 14 rfl rfl)
theorem dX2_payNow_15 : decode cX2_payNow 15 = .ok (.aload_n 0, 1) := dk_42 (dk_at dksX2_payNow_0 15 rfl rfl)
theorem dX2_payNow_16 : decode cX2_payNow 16 = .ok (.iload_n 2, 1) := dk_28 (dk_at dksX2_payNow_0 16 rfl rfl)
theorem dX2_payNow_17 : decode cX2_payNow 17 = .ok (.iconst 1, 1) := dk_4 (dk_at dksX2_payNow_0 17 rfl rfl)
theorem dX2_payNow_18 : decode cX2_payNow 18 = .ok (.invokevirtual 71, 3) := dk_182 0 71 (dk_at dksX2_payNow_0 18 rfl rfl)
theorem dX2_payNow_21 : decode cX2_payNow 21 = .ok (.iload_n 3, 1) := dk_29 (dk_at dksX2_payNow_0 21 rfl rfl)
theorem dX2_payNow_22 : decode cX2_payNow 22 = .ok (.isub, 1) := dk_100 (dk_at dksX2_payNow_0 22 rfl rfl)
theorem dX2_payNow_23 : decode cX2_payNow 23 = .ok (.invokevirtual 82, 3) := dk_182 0 82 (dk_at dksX2_payNow_1 0 rfl rfl)
theorem dX2_payNow_26 : decode cX2_payNow 26 = .ok (.aload_n 0, 1) := dk_42 (dk_at dksX2_payNow_1 3 rfl rfl)
theorem dX2_payNow_27 : decode cX2_payNow 27 = .ok (.iload_n 1, 1) := dk_27 (dk_at dksX2_payNow_1 4 rfl rfl)
theorem dX2_payNow_28 : decode cX2_payNow 28 = .ok (.invokevirtual 367, 3) := dk_182 1 111 (dk_at dksX2_payNow_1 5 rfl rfl)
theorem dX2_payNow_31 : decode cX2_payNow 31 = .ok (.aload_n 0, 1) := dk_42 (dk_at dksX2_payNow_1 8 rfl rfl)
theorem dX2_payNow_32 : decode cX2_payNow 32 = .ok (.iload_n 1, 1) := dk_27 (dk_at dksX2_payNow_1 9 rfl rfl)
theorem dX2_payNow_33 : decode cX2_payNow 33 = .ok (.bipush 6, 2) := dk_16 6 (dk_at dksX2_payNow_1 10 rfl rfl)
theorem dX2_payNow_35 : decode cX2_payNow 35 = .ok (.invokevirtual 319, 3) := dk_182 1 63 (dk_at dksX2_payNow_1 12 rfl rfl)
theorem dX2_payNow_38 : decode cX2_payNow 38 = .ok (.iload_n 3, 1) := dk_29 (dk_at dksX2_payNow_1 15 rfl rfl)
theorem dX2_payNow_39 : decode cX2_payNow 39 = .ok (.ireturn, 1) := dk_172 (dk_at dksX2_payNow_1 16 rfl rfl)
abbrev cX2_month : ByteArray := prog_20_method_98_code
def yX2_month : MethodName := ⟨RX2, "month", "(I)I"⟩
def dkwX2_month_1 : List UInt8 := [163, 0, 18, 42, 27, 182, 1, 129, 153, 0, 10, 42, 180, 1, 66, 167, 0, 4, 2, 172]
abbrev dktX2_month_1 : List UInt8 := dkwX2_month_1 ++ []
def dkwX2_month_0 : List UInt8 := [27, 4, 16, 60, 184, 0, 63, 153, 0, 33, 42, 180, 0, 7, 16, 10, 46, 27, 96, 17, 39, 15]
abbrev dktX2_month_0 : List UInt8 := dkwX2_month_0 ++ dktX2_month_1
theorem dksX2_month_0 : cX2_month.data.toList.drop 0 = dktX2_month_0 := by decide +kernel
theorem dksX2_month_1 : cX2_month.data.toList.drop 22 = dktX2_month_1 := dk_seg dksX2_month_0 22 rfl rfl
theorem dX2_month_0 : decode cX2_month 0 = .ok (.iload_n 1, 1) := dk_27 (dk_at dksX2_month_0 0 rfl rfl)
theorem dX2_month_1 : decode cX2_month 1 = .ok (.iconst 1, 1) := dk_4 (dk_at dksX2_month_0 1 rfl rfl)
theorem dX2_month_2 : decode cX2_month 2 = .ok (.bipush 60, 2) := dk_16 60 (dk_at dksX2_month_0 2 rfl rfl)
theorem dX2_month_4 : decode cX2_month 4 = .ok (.invokestatic 63, 3) := dk_184 0 63 (dk_at dksX2_month_0 4 rfl rfl)
theorem dX2_month_7 : decode cX2_month 7 = .ok (.ifCond .eq 33, 3) := dk_153 0 33 (dk_at dksX2_month_0 7 rfl rfl)
theorem dX2_month_10 : decode cX2_month 10 = .ok (.aload_n 0, 1) := dk_42 (dk_at dksX2_month_0 10 rfl rfl)
theorem dX2_month_11 : decode cX2_month 11 = .ok (.getfield 7, 3) := dk_180 0 7 (dk_at dksX2_month_0 11 rfl rfl)
theorem dX2_month_14 : decode cX2_month 14 = .ok (.bipush 10, 2) := dk_16 10 (dk_at dksX2_month_0 14 rfl rfl)
theorem dX2_month_16 : decode cX2_month 16 = .ok (.iaload, 1) := dk_46 (dk_at dksX2_month_0 16 rfl rfl)
theorem dX2_month_17 : decode cX2_month 17 = .ok (.iload_n 1, 1) := dk_27 (dk_at dksX2_month_0 17 rfl rfl)
theorem dX2_month_18 : decode cX2_month 18 = .ok (.iadd, 1) := dk_96 (dk_at dksX2_month_0 18 rfl rfl)
theorem dX2_month_19 : decode cX2_month 19 = .ok (.sipush 9999, 3) := dk_17 39 15 (dk_at dksX2_month_0 19 rfl rfl)
theorem dX2_month_22 : decode cX2_month 22 = .ok (.if_icmp .gt 18, 3) := dk_163 0 18 (dk_at dksX2_month_1 0 rfl rfl)
theorem dX2_month_25 : decode cX2_month 25 = .ok (.aload_n 0, 1) := dk_42 (dk_at dksX2_month_1 3 rfl rfl)
theorem dX2_month_26 : decode cX2_month 26 = .ok (.iload_n 1, 1) := dk_27 (dk_at dksX2_month_1 4 rfl rfl)
theorem dX2_month_27 : decode cX2_month 27 = .ok (.invokevirtual 385, 3) := dk_182 1 129 (dk_at dksX2_month_1 5 rfl rfl)
theorem dX2_month_30 : decode cX2_month 30 = .ok (.ifCond .eq 10, 3) := dk_153 0 10 (dk_at dksX2_month_1 8 rfl rfl)
theorem dX2_month_33 : decode cX2_month 33 = .ok (.aload_n 0, 1) := dk_42 (dk_at dksX2_month_1 11 rfl rfl)
theorem dX2_month_34 : decode cX2_month 34 = .ok (.getfield 322, 3) := dk_180 1 66 (dk_at dksX2_month_1 12 rfl rfl)
theorem dX2_month_37 : decode cX2_month 37 = .ok (.goto 4, 3) := dk_167 0 4 (dk_at dksX2_month_1 15 rfl rfl)
theorem dX2_month_40 : decode cX2_month 40 = .ok (.iconst (-1), 1) := dk_2 (dk_at dksX2_month_1 18 rfl rfl)
theorem dX2_month_41 : decode cX2_month 41 = .ok (.ireturn, 1) := dk_172 (dk_at dksX2_month_1 19 rfl rfl)
abbrev cX2_arePassed : ByteArray := prog_20_method_97_code
def yX2_arePassed : MethodName := ⟨RX2, "arePassed", "(I)Z"⟩
def dkwX2_arePassed_1 : List UInt8 := [160, 0, 5, 3, 172, 42, 182, 1, 93, 42, 182, 1, 126, 132, 2, 1, 167, 255, 225, 4, 172]
abbrev dktX2_arePassed_1 : List UInt8 := dkwX2_arePassed_1 ++ []
def dkwX2_arePassed_0 : List UInt8 := [42, 3, 181, 1, 66, 3, 61, 28, 27, 162, 0, 32, 42, 180, 0, 7, 16, 10, 46, 17, 39, 15]
abbrev dktX2_arePassed_0 : List UInt8 := dkwX2_arePassed_0 ++ dktX2_arePassed_1
theorem dksX2_arePassed_0 : cX2_arePassed.data.toList.drop 0 = dktX2_arePassed_0 := by decide +kernel
theorem dksX2_arePassed_1 : cX2_arePassed.data.toList.drop 22 = dktX2_arePassed_1 := dk_seg dksX2_arePassed_0 22 rfl rfl
theorem dX2_arePassed_0 : decode cX2_arePassed 0 = .ok (.aload_n 0, 1) := dk_42 (dk_at dksX2_arePassed_0 0 rfl rfl)
theorem dX2_arePassed_1 : decode cX2_arePassed 1 = .ok (.iconst 0, 1) := dk_3 (dk_at dksX2_arePassed_0 1 rfl rfl)
theorem dX2_arePassed_2 : decode cX2_arePassed 2 = .ok (.putfield 322, 3) := dk_181 1 66 (dk_at dksX2_arePassed_0 2 rfl rfl)
theorem dX2_arePassed_5 : decode cX2_arePassed 5 = .ok (.iconst 0, 1) := dk_3 (dk_at dksX2_arePassed_0 5 rfl rfl)
theorem dX2_arePassed_6 : decode cX2_arePassed 6 = .ok (.istore_n 2, 1) := dk_61 (dk_at dksX2_arePassed_0 6 rfl rfl)
theorem dX2_arePassed_7 : decode cX2_arePassed 7 = .ok (.iload_n 2, 1) := dk_28 (dk_at dksX2_arePassed_0 7 rfl rfl)
theorem dX2_arePassed_8 : decode cX2_arePassed 8 = .ok (.iload_n 1, 1) := dk_27 (dk_at dksX2_arePassed_0 8 rfl rfl)
theorem dX2_arePassed_9 : decode cX2_arePassed 9 = .ok (.if_icmp .ge 32, 3) := dk_162 0 32 (dk_at dksX2_arePassed_0 9 rfl rfl)
theorem dX2_arePassed_12 : decode cX2_arePassed 12 = .ok (.aload_n 0, 1) := dk_42 (dk_at dksX2_arePassed_0 12 rfl rfl)
theorem dX2_arePassed_13 : decode cX2_arePassed 13 = .ok (.getfield 7, 3) := dk_180 0 7 (dk_at dksX2_arePassed_0 13 rfl rfl)
theorem dX2_arePassed_16 : decode cX2_arePassed 16 = .ok (.bipush 10, 2) := dk_16 10 (dk_at dksX2_arePassed_0 16 rfl rfl)
theorem dX2_arePassed_18 : decode cX2_arePassed 18 = .ok (.iaload, 1) := dk_46 (dk_at dksX2_arePassed_0 18 rfl rfl)
theorem dX2_arePassed_19 : decode cX2_arePassed 19 = .ok (.sipush 9999, 3) := dk_17 39 15 (dk_at dksX2_arePassed_0 19 rfl rfl)
theorem dX2_arePassed_22 : decode cX2_arePassed 22 = .ok (.if_icmp .ne 5, 3) := dk_160 0 5 (dk_at dksX2_arePassed_1 0 rfl rfl)
theorem dX2_arePassed_25 : decode cX2_arePassed 25 = .ok (.iconst 0, 1) := dk_3 (dk_at dksX2_arePassed_1 3 rfl rfl)
theorem dX2_arePassed_26 : decode cX2_arePassed 26 = .ok (.ireturn, 1) := dk_172 (dk_at dksX2_arePassed_1 4 rfl rfl)
theorem dX2_arePassed_27 : decode cX2_arePassed 27 = .ok (.aload_n 0, 1) := dk_42 (dk_at dksX2_arePassed_1 5 rfl rfl)
theorem dX2_arePassed_28 : decode cX2_arePassed 28 = .ok (.invokevirtual 349, 3) := dk_182 1 93 (dk_at dksX2_arePassed_1 6 rfl rfl)
theorem dX2_arePassed_31 : decode cX2_arePassed 31 = .ok (.aload_n 0, 1) := dk_42 (dk_at dksX2_arePassed_1 9 rfl rfl)
theorem dX2_arePassed_32 : decode cX2_arePassed 32 = .ok (.invokevirtual 382, 3) := dk_182 1 126 (dk_at dksX2_arePassed_1 10 rfl rfl)
theorem dX2_arePassed_35 : decode cX2_arePassed 35 = .ok (.iinc 2 1, 3) := dk_132 2 1 (dk_at dksX2_arePassed_1 13 rfl rfl)
theorem dX2_arePassed_38 : decode cX2_arePassed 38 = .ok (.goto (-31), 3) := dk_167 255 225 (dk_at dksX2_arePassed_1 16 rfl rfl)
theorem dX2_arePassed_41 : decode cX2_arePassed 41 = .ok (.iconst 1, 1) := dk_4 (dk_at dksX2_arePassed_1 19 rfl rfl)
theorem dX2_arePassed_42 : decode cX2_arePassed 42 = .ok (.ireturn, 1) := dk_172 (dk_at dksX2_arePassed_1 20 rfl rfl)
abbrev cX2_goOn : ByteArray := prog_20_method_80_code
def yX2_goOn : MethodName := ⟨RX2, "goOn", "()V"⟩
def dkwX2_goOn_1 : List UInt8 := [180, 0, 7, 16, 10, 92, 46, 4, 96, 79, 177]
abbrev dktX2_goOn_1 : List UInt8 := dkwX2_goOn_1 ++ []
def dkwX2_goOn_0 : List UInt8 := [3, 60, 27, 42, 180, 0, 7, 4, 46, 162, 0, 14, 42, 27, 182, 1, 84, 132, 1, 1, 167, 255, 238, 42]
abbrev dktX2_goOn_0 : List UInt8 := dkwX2_goOn_0 ++ dktX2_goOn_1
theorem dksX2_goOn_0 : cX2_goOn.data.toList.drop 0 = dktX2_goOn_0 := by decide +kernel
theorem dksX2_goOn_1 : cX2_goOn.data.toList.drop 24 = dktX2_goOn_1 := dk_seg dksX2_goOn_0 24 rfl rfl
theorem dX2_goOn_0 : decode cX2_goOn 0 = .ok (.iconst 0, 1) := dk_3 (dk_at dksX2_goOn_0 0 rfl rfl)
theorem dX2_goOn_1 : decode cX2_goOn 1 = .ok (.istore_n 1, 1) := dk_60 (dk_at dksX2_goOn_0 1 rfl rfl)
theorem dX2_goOn_2 : decode cX2_goOn 2 = .ok (.iload_n 1, 1) := dk_27 (dk_at dksX2_goOn_0 2 rfl rfl)
theorem dX2_goOn_3 : decode cX2_goOn 3 = .ok (.aload_n 0, 1) := dk_42 (dk_at dksX2_goOn_0 3 rfl rfl)
theorem dX2_goOn_4 : decode cX2_goOn 4 = .ok (.getfield 7, 3) := dk_180 0 7 (dk_at dksX2_goOn_0 4 rfl rfl)
theorem dX2_goOn_7 : decode cX2_goOn 7 = .ok (.iconst 1, 1) := dk_4 (dk_at dksX2_goOn_0 7 rfl rfl)
theorem dX2_goOn_8 : decode cX2_goOn 8 = .ok (.iaload, 1) := dk_46 (dk_at dksX2_goOn_0 8 rfl rfl)
theorem dX2_goOn_9 : decode cX2_goOn 9 = .ok (.if_icmp .ge 14, 3) := dk_162 0 14 (dk_at dksX2_goOn_0 9 rfl rfl)
theorem dX2_goOn_12 : decode cX2_goOn 12 = .ok (.aload_n 0, 1) := dk_42 (dk_at dksX2_goOn_0 12 rfl rfl)
theorem dX2_goOn_13 : decode cX2_goOn 13 = .ok (.iload_n 1, 1) := dk_27 (dk_at dksX2_goOn_0 13 rfl rfl)
theorem dX2_goOn_14 : decode cX2_goOn 14 = .ok (.invokevirtual 340, 3) := dk_182 1 84 (dk_at dksX2_goOn_0 14 rfl rfl)
theorem dX2_goOn_17 : decode cX2_goOn 17 = .ok (.iinc 1 1, 3) := dk_132 1 1 (dk_at dksX2_goOn_0 17 rfl rfl)
theorem dX2_goOn_20 : decode cX2_goOn 20 = .ok (.goto (-18), 3) := dk_167 255 238 (dk_at dksX2_goOn_0 20 rfl rfl)
theorem dX2_goOn_23 : decode cX2_goOn 23 = .ok (.aload_n 0, 1) := dk_42 (dk_at dksX2_goOn_0 23 rfl rfl)
theorem dX2_goOn_24 : decode cX2_goOn 24 = .ok (.getfield 7, 3) := dk_180 0 7 (dk_at dksX2_goOn_1 0 rfl rfl)
theorem dX2_goOn_27 : decode cX2_goOn 27 = .ok (.bipush 10, 2) := dk_16 10 (dk_at dksX2_goOn_1 3 rfl rfl)
theorem dX2_goOn_29 : decode cX2_goOn 29 = .ok (.dup2, 1) := dk_92 (dk_at dksX2_goOn_1 5 rfl rfl)
theorem dX2_goOn_30 : decode cX2_goOn 30 = .ok (.iaload, 1) := dk_46 (dk_at dksX2_goOn_1 6 rfl rfl)
theorem dX2_goOn_31 : decode cX2_goOn 31 = .ok (.iconst 1, 1) := dk_4 (dk_at dksX2_goOn_1 7 rfl rfl)
theorem dX2_goOn_32 : decode cX2_goOn 32 = .ok (.iadd, 1) := dk_96 (dk_at dksX2_goOn_1 8 rfl rfl)
theorem dX2_goOn_33 : decode cX2_goOn 33 = .ok (.iastore, 1) := dk_79 (dk_at dksX2_goOn_1 9 rfl rfl)
theorem dX2_goOn_34 : decode cX2_goOn 34 = .ok (.return_, 1) := dk_177 (dk_at dksX2_goOn_1 10 rfl rfl)
abbrev cX2_live : ByteArray := prog_20_method_79_code
def yX2_live : MethodName := ⟨RX2, "live", "(I)V"⟩
def dkwX2_live_5 : List UInt8 := [167, 0, 17, 42, 27, 8, 42, 27, 8, 182, 0, 71, 4, 96, 182, 0, 82, 177]
abbrev dktX2_live_5 : List UInt8 := dkwX2_live_5 ++ []
def dkwX2_live_4 : List UInt8 := [42, 27, 182, 1, 78, 61, 42, 16, 10, 182, 1, 81, 28, 162, 0, 12, 42, 27, 7, 182, 1, 75]
abbrev dktX2_live_4 : List UInt8 := dkwX2_live_4 ++ dktX2_live_5
def dkwX2_live_3 : List UInt8 := [184, 1, 38, 182, 0, 82, 42, 27, 7, 182, 0, 71, 16, 9, 160, 0, 10, 42, 27, 6, 182, 1, 75, 177]
abbrev dktX2_live_3 : List UInt8 := dkwX2_live_3 ++ dktX2_live_4
def dkwX2_live_2 : List UInt8 := [182, 0, 82, 177, 42, 27, 7, 42, 27, 7, 182, 0, 71, 42, 27, 182, 1, 72, 96, 133, 3, 16, 9]
abbrev dktX2_live_2 : List UInt8 := dkwX2_live_2 ++ dktX2_live_3
def dkwX2_live_1 : List UInt8 := [27, 4, 42, 27, 4, 182, 0, 71, 42, 27, 182, 1, 69, 96, 133, 3, 17, 39, 15, 184, 1, 38]
abbrev dktX2_live_1 : List UInt8 := dkwX2_live_1 ++ dktX2_live_2
def dkwX2_live_0 : List UInt8 := [42, 27, 16, 6, 182, 0, 71, 6, 160, 0, 4, 177, 42, 27, 16, 6, 182, 0, 71, 4, 159, 0, 30, 42]
abbrev dktX2_live_0 : List UInt8 := dkwX2_live_0 ++ dktX2_live_1
theorem dksX2_live_0 : cX2_live.data.toList.drop 0 = dktX2_live_0 := by decide +kernel
theorem dksX2_live_1 : cX2_live.data.toList.drop 24 = dktX2_live_1 := dk_seg dksX2_live_0 24 rfl rfl
theorem dksX2_live_2 : cX2_live.data.toList.drop 46 = dktX2_live_2 := dk_seg dksX2_live_1 22 rfl rfl
theorem dksX2_live_3 : cX2_live.data.toList.drop 69 = dktX2_live_3 := dk_seg dksX2_live_2 23 rfl rfl
theorem dksX2_live_4 : cX2_live.data.toList.drop 93 = dktX2_live_4 := dk_seg dksX2_live_3 24 rfl rfl
theorem dksX2_live_5 : cX2_live.data.toList.drop 115 = dktX2_live_5 := dk_seg dksX2_live_4 22 rfl rfl
theorem dX2_live_0 : decode cX2_live 0 = .ok (.aload_n 0, 1) := dk_42 (dk_at dksX2_live_0 0 rfl rfl)
theorem dX2_live_1 : decode cX2_live 1 = .ok (.iload_n 1, 1) := dk_27 (dk_at dksX2_live_0 1 rfl rfl)
theorem dX2_live_2 : decode cX2_live 2 = .ok (.bipush 6, 2) := dk_16 6 (dk_at dksX2_live_0 2 rfl rfl)
theorem dX2_live_4 : decode cX2_live 4 = .ok (.invokevirtual 71, 3) := dk_182 0 71 (dk_at dksX2_live_0 4 rfl rfl)
theorem dX2_live_7 : decode cX2_live 7 = .ok (.iconst 3, 1) := dk_6 (dk_at dksX2_live_0 7 rfl rfl)
theorem dX2_live_8 : decode cX2_live 8 = .ok (.if_icmp .ne 4, 3) := dk_160 0 4 (dk_at dksX2_live_0 8 rfl rfl)
theorem dX2_live_11 : decode cX2_live 11 = .ok (.return_, 1) := dk_177 (dk_at dksX2_live_0 11 rfl rfl)
theorem dX2_live_12 : decode cX2_live 12 = .ok (.aload_n 0, 1) := dk_42 (dk_at dksX2_live_0 12 rfl rfl)
theorem dX2_live_13 : decode cX2_live 13 = .ok (.iload_n 1, 1) := dk_27 (dk_at dksX2_live_0 13 rfl rfl)
theorem dX2_live_14 : decode cX2_live 14 = .ok (.bipush 6, 2) := dk_16 6 (dk_at dksX2_live_0 14 rfl rfl)
theorem dX2_live_16 : decode cX2_live 16 = .ok (.invokevirtual 71, 3) := dk_182 0 71 (dk_at dksX2_live_0 16 rfl rfl)
theorem dX2_live_19 : decode cX2_live 19 = .ok (.iconst 1, 1) := dk_4 (dk_at dksX2_live_0 19 rfl rfl)
theorem dX2_live_20 : decode cX2_live 20 = .ok (.if_icmp .eq 30, 3) := dk_159 0 30 (dk_at dksX2_live_0 20 rfl rfl)
theorem dX2_live_23 : decode cX2_live 23 = .ok (.aload_n 0, 1) := dk_42 (dk_at dksX2_live_0 23 rfl rfl)
theorem dX2_live_24 : decode cX2_live 24 = .ok (.iload_n 1, 1) := dk_27 (dk_at dksX2_live_1 0 rfl rfl)
theorem dX2_live_25 : decode cX2_live 25 = .ok (.iconst 1, 1) := dk_4 (dk_at dksX2_live_1 1 rfl rfl)
theorem dX2_live_26 : decode cX2_live 26 = .ok (.aload_n 0, 1) := dk_42 (dk_at dksX2_live_1 2 rfl rfl)
theorem dX2_live_27 : decode cX2_live 27 = .ok (.iload_n 1, 1) := dk_27 (dk_at dksX2_live_1 3 rfl rfl)
theorem dX2_live_28 : decode cX2_live 28 = .ok (.iconst 1, 1) := dk_4 (dk_at dksX2_live_1 4 rfl rfl)
theorem dX2_live_29 : decode cX2_live 29 = .ok (.invokevirtual 71, 3) := dk_182 0 71 (dk_at dksX2_live_1 5 rfl rfl)
theorem dX2_live_32 : decode cX2_live 32 = .ok (.aload_n 0, 1) := dk_42 (dk_at dksX2_live_1 8 rfl rfl)
theorem dX2_live_33 : decode cX2_live 33 = .ok (.iload_n 1, 1) := dk_27 (dk_at dksX2_live_1 9 rfl rfl)
theorem dX2_live_34 : decode cX2_live 34 = .ok (.invokevirtual 325, 3) := dk_182 1 69 (dk_at dksX2_live_1 10 rfl rfl)
theorem dX2_live_37 : decode cX2_live 37 = .ok (.iadd, 1) := dk_96 (dk_at dksX2_live_1 13 rfl rfl)
theorem dX2_live_38 : decode cX2_live 38 = .ok (.i2l, 1) := dk_133 (dk_at dksX2_live_1 14 rfl rfl)
theorem dX2_live_39 : decode cX2_live 39 = .ok (.iconst 0, 1) := dk_3 (dk_at dksX2_live_1 15 rfl rfl)
theorem dX2_live_40 : decode cX2_live 40 = .ok (.sipush 9999, 3) := dk_17 39 15 (dk_at dksX2_live_1 16 rfl rfl)
theorem dX2_live_43 : decode cX2_live 43 = .ok (.invokestatic 294, 3) := dk_184 1 38 (dk_at dksX2_live_1 19 rfl rfl)
theorem dX2_live_46 : decode cX2_live 46 = .ok (.invokevirtual 82, 3) := dk_182 0 82 (dk_at dksX2_live_2 0 rfl rfl)
theorem dX2_live_49 : decode cX2_live 49 = .ok (.return_, 1) := dk_177 (dk_at dksX2_live_2 3 rfl rfl)
theorem dX2_live_50 : decode cX2_live 50 = .ok (.aload_n 0, 1) := dk_42 (dk_at dksX2_live_2 4 rfl rfl)
theorem dX2_live_51 : decode cX2_live 51 = .ok (.iload_n 1, 1) := dk_27 (dk_at dksX2_live_2 5 rfl rfl)
theorem dX2_live_52 : decode cX2_live 52 = .ok (.iconst 4, 1) := dk_7 (dk_at dksX2_live_2 6 rfl rfl)
theorem dX2_live_53 : decode cX2_live 53 = .ok (.aload_n 0, 1) := dk_42 (dk_at dksX2_live_2 7 rfl rfl)
theorem dX2_live_54 : decode cX2_live 54 = .ok (.iload_n 1, 1) := dk_27 (dk_at dksX2_live_2 8 rfl rfl)
theorem dX2_live_55 : decode cX2_live 55 = .ok (.iconst 4, 1) := dk_7 (dk_at dksX2_live_2 9 rfl rfl)
theorem dX2_live_56 : decode cX2_live 56 = .ok (.invokevirtual 71, 3) := dk_182 0 71 (dk_at dksX2_live_2 10 rfl rfl)
theorem dX2_live_59 : decode cX2_live 59 = .ok (.aload_n 0, 1) := dk_42 (dk_at dksX2_live_2 13 rfl rfl)
theorem dX2_live_60 : decode cX2_live 60 = .ok (.iload_n 1, 1) := dk_27 (dk_at dksX2_live_2 14 rfl rfl)
theorem dX2_live_61 : decode cX2_live 61 = .ok (.invokevirtual 328, 3) := dk_182 1 72 (dk_at dksX2_live_2 15 rfl rfl)
theorem dX2_live_64 : decode cX2_live 64 = .ok (.iadd, 1) := dk_96 (dk_at dksX2_live_2 18 rfl rfl)
theorem dX2_live_65 : decode cX2_live 65 = .ok (.i2l, 1) := dk_133 (dk_at dksX2_live_2 19 rfl rfl)
theorem dX2_live_66 : decode cX2_live 66 = .ok (.iconst 0, 1) := dk_3 (dk_at dksX2_live_2 20 rfl rfl)
theorem dX2_live_67 : decode cX2_live 67 = .ok (.bipush 9, 2) := dk_16 9 (dk_at dksX2_live_2 21 rfl rfl)
theorem dX2_live_69 : decode cX2_live 69 = .ok (.invokestatic 294, 3) := dk_184 1 38 (dk_at dksX2_live_3 0 rfl rfl)
theorem dX2_live_72 : decode cX2_live 72 = .ok (.invokevirtual 82, 3) := dk_182 0 82 (dk_at dksX2_live_3 3 rfl rfl)
theorem dX2_live_75 : decode cX2_live 75 = .ok (.aload_n 0, 1) := dk_42 (dk_at dksX2_live_3 6 rfl rfl)
theorem dX2_live_76 : decode cX2_live 76 = .ok (.iload_n 1, 1) := dk_27 (dk_at dksX2_live_3 7 rfl rfl)
theorem dX2_live_77 : decode cX2_live 77 = .ok (.iconst 4, 1) := dk_7 (dk_at dksX2_live_3 8 rfl rfl)
theorem dX2_live_78 : decode cX2_live 78 = .ok (.invokevirtual 71, 3) := dk_182 0 71 (dk_at dksX2_live_3 9 rfl rfl)
theorem dX2_live_81 : decode cX2_live 81 = .ok (.bipush 9, 2) := dk_16 9 (dk_at dksX2_live_3 12 rfl rfl)
theorem dX2_live_83 : decode cX2_live 83 = .ok (.if_icmp .ne 10, 3) := dk_160 0 10 (dk_at dksX2_live_3 14 rfl rfl)
theorem dX2_live_86 : decode cX2_live 86 = .ok (.aload_n 0, 1) := dk_42 (dk_at dksX2_live_3 17 rfl rfl)
theorem dX2_live_87 : decode cX2_live 87 = .ok (.iload_n 1, 1) := dk_27 (dk_at dksX2_live_3 18 rfl rfl)
theorem dX2_live_88 : decode cX2_live 88 = .ok (.iconst 3, 1) := dk_6 (dk_at dksX2_live_3 19 rfl rfl)
theorem dX2_live_89 : decode cX2_live 89 = .ok (.invokevirtual 331, 3) := dk_182 1 75 (dk_at dksX2_live_3 20 rfl rfl)
theorem dX2_live_92 : decode cX2_live 92 = .ok (.return_, 1) := dk_177 (dk_at dksX2_live_3 23 rfl rfl)
theorem dX2_live_93 : decode cX2_live 93 = .ok (.aload_n 0, 1) := dk_42 (dk_at dksX2_live_4 0 rfl rfl)
theorem dX2_live_94 : decode cX2_live 94 = .ok (.iload_n 1, 1) := dk_27 (dk_at dksX2_live_4 1 rfl rfl)
theorem dX2_live_95 : decode cX2_live 95 = .ok (.invokevirtual 334, 3) := dk_182 1 78 (dk_at dksX2_live_4 2 rfl rfl)
theorem dX2_live_98 : decode cX2_live 98 = .ok (.istore_n 2, 1) := dk_61 (dk_at dksX2_live_4 5 rfl rfl)
theorem dX2_live_99 : decode cX2_live 99 = .ok (.aload_n 0, 1) := dk_42 (dk_at dksX2_live_4 6 rfl rfl)
theorem dX2_live_100 : decode cX2_live 100 = .ok (.bipush 10, 2) := dk_16 10 (dk_at dksX2_live_4 7 rfl rfl)
theorem dX2_live_102 : decode cX2_live 102 = .ok (.invokevirtual 337, 3) := dk_182 1 81 (dk_at dksX2_live_4 9 rfl rfl)
theorem dX2_live_105 : decode cX2_live 105 = .ok (.iload_n 2, 1) := dk_28 (dk_at dksX2_live_4 12 rfl rfl)
theorem dX2_live_106 : decode cX2_live 106 = .ok (.if_icmp .ge 12, 3) := dk_162 0 12 (dk_at dksX2_live_4 13 rfl rfl)
theorem dX2_live_109 : decode cX2_live 109 = .ok (.aload_n 0, 1) := dk_42 (dk_at dksX2_live_4 16 rfl rfl)
theorem dX2_live_110 : decode cX2_live 110 = .ok (.iload_n 1, 1) := dk_27 (dk_at dksX2_live_4 17 rfl rfl)
theorem dX2_live_111 : decode cX2_live 111 = .ok (.iconst 4, 1) := dk_7 (dk_at dksX2_live_4 18 rfl rfl)
theorem dX2_live_112 : decode cX2_live 112 = .ok (.invokevirtual 331, 3) := dk_182 1 75 (dk_at dksX2_live_4 19 rfl rfl)
theorem dX2_live_115 : decode cX2_live 115 = .ok (.goto 17, 3) := dk_167 0 17 (dk_at dksX2_live_5 0 rfl rfl)
theorem dX2_live_118 : decode cX2_live 118 = .ok (.aload_n 0, 1) := dk_42 (dk_at dksX2_live_5 3 rfl rfl)
theorem dX2_live_119 : decode cX2_live 119 = .ok (.iload_n 1, 1) := dk_27 (dk_at dksX2_live_5 4 rfl rfl)
theorem dX2_live_120 : decode cX2_live 120 = .ok (.iconst 5, 1) := dk_8 (dk_at dksX2_live_5 5 rfl rfl)
theorem dX2_live_121 : decode cX2_live 121 = .ok (.aload_n 0, 1) := dk_42 (dk_at dksX2_live_5 6 rfl rfl)
theorem dX2_live_122 : decode cX2_live 122 = .ok (.iload_n 1, 1) := dk_27 (dk_at dksX2_live_5 7 rfl rfl)
theorem dX2_live_123 : decode cX2_live 123 = .ok (.iconst 5, 1) := dk_8 (dk_at dksX2_live_5 8 rfl rfl)
theorem dX2_live_124 : decode cX2_live 124 = .ok (.invokevirtual 71, 3) := dk_182 0 71 (dk_at dksX2_live_5 9 rfl rfl)
theorem dX2_live_127 : decode cX2_live 127 = .ok (.iconst 1, 1) := dk_4 (dk_at dksX2_live_5 12 rfl rfl)
theorem dX2_live_128 : decode cX2_live 128 = .ok (.iadd, 1) := dk_96 (dk_at dksX2_live_5 13 rfl rfl)
theorem dX2_live_129 : decode cX2_live 129 = .ok (.invokevirtual 82, 3) := dk_182 0 82 (dk_at dksX2_live_5 14 rfl rfl)
theorem dX2_live_132 : decode cX2_live 132 = .ok (.return_, 1) := dk_177 (dk_at dksX2_live_5 17 rfl rfl)
abbrev cX2_earnsOf : ByteArray := prog_20_method_74_code
def yX2_earnsOf : MethodName := ⟨RX2, "earnsOf", "(I)I"⟩
def dkwX2_earnsOf_1 : List UInt8 := [182, 1, 47, 172]
abbrev dktX2_earnsOf_1 : List UInt8 := dkwX2_earnsOf_1 ++ []
def dkwX2_earnsOf_0 : List UInt8 := [42, 27, 42, 27, 3, 182, 0, 71, 182, 1, 44, 42, 42, 180, 0, 7, 6, 46, 6, 16, 10, 16, 99]
abbrev dktX2_earnsOf_0 : List UInt8 := dkwX2_earnsOf_0 ++ dktX2_earnsOf_1
theorem dksX2_earnsOf_0 : cX2_earnsOf.data.toList.drop 0 = dktX2_earnsOf_0 := by decide +kernel
theorem dksX2_earnsOf_1 : cX2_earnsOf.data.toList.drop 23 = dktX2_earnsOf_1 := dk_seg dksX2_earnsOf_0 23 rfl rfl
theorem dX2_earnsOf_0 : decode cX2_earnsOf 0 = .ok (.aload_n 0, 1) := dk_42 (dk_at dksX2_earnsOf_0 0 rfl rfl)
theorem dX2_earnsOf_1 : decode cX2_earnsOf 1 = .ok (.iload_n 1, 1) := dk_27 (dk_at dksX2_earnsOf_0 1 rfl rfl)
theorem dX2_earnsOf_2 : decode cX2_earnsOf 2 = .ok (.aload_n 0, 1) := dk_42 (dk_at dksX2_earnsOf_0 2 rfl rfl)
theorem dX2_earnsOf_3 : decode cX2_earnsOf 3 = .ok (.iload_n 1, 1) := dk_27 (dk_at dksX2_earnsOf_0 3 rfl rfl)
theorem dX2_earnsOf_4 : decode cX2_earnsOf 4 = .ok (.iconst 0, 1) := dk_3 (dk_at dksX2_earnsOf_0 4 rfl rfl)
theorem dX2_earnsOf_5 : decode cX2_earnsOf 5 = .ok (.invokevirtual 71, 3) := dk_182 0 71 (dk_at dksX2_earnsOf_0 5 rfl rfl)
theorem dX2_earnsOf_8 : decode cX2_earnsOf 8 = .ok (.invokevirtual 300, 3) := dk_182 1 44 (dk_at dksX2_earnsOf_0 8 rfl rfl)
theorem dX2_earnsOf_11 : decode cX2_earnsOf 11 = .ok (.aload_n 0, 1) := dk_42 (dk_at dksX2_earnsOf_0 11 rfl rfl)
theorem dX2_earnsOf_12 : decode cX2_earnsOf 12 = .ok (.aload_n 0, 1) := dk_42 (dk_at dksX2_earnsOf_0 12 rfl rfl)
theorem dX2_earnsOf_13 : decode cX2_earnsOf 13 = .ok (.getfield 7, 3) := dk_180 0 7 (dk_at dksX2_earnsOf_0 13 rfl rfl)
theorem dX2_earnsOf_16 : decode cX2_earnsOf 16 = .ok (.iconst 3, 1) := dk_6 (dk_at dksX2_earnsOf_0 16 rfl rfl)
theorem dX2_earnsOf_17 : decode cX2_earnsOf 17 = .ok (.iaload, 1) := dk_46 (dk_at dksX2_earnsOf_0 17 rfl rfl)
theorem dX2_earnsOf_18 : decode cX2_earnsOf 18 = .ok (.iconst 3, 1) := dk_6 (dk_at dksX2_earnsOf_0 18 rfl rfl)
theorem dX2_earnsOf_19 : decode cX2_earnsOf 19 = .ok (.bipush 10, 2) := dk_16 10 (dk_at dksX2_earnsOf_0 19 rfl rfl)
theorem dX2_earnsOf_21 : decode cX2_earnsOf 21 = .ok (.bipush 99, 2) := dk_16 99 (dk_at dksX2_earnsOf_0 21 rfl rfl)
theorem dX2_earnsOf_23 : decode cX2_earnsOf 23 = .ok (.invokevirtual 303, 3) := dk_182 1 47 (dk_at dksX2_earnsOf_1 0 rfl rfl)
theorem dX2_earnsOf_26 : decode cX2_earnsOf 26 = .ok (.ireturn, 1) := dk_172 (dk_at dksX2_earnsOf_1 3 rfl rfl)
abbrev cX2_hungersOf : ByteArray := prog_20_method_70_code
def yX2_hungersOf : MethodName := ⟨RX2, "hungersOf", "(I)I"⟩
def dkwX2_hungersOf_1 : List UInt8 := [182, 1, 47, 172]
abbrev dktX2_hungersOf_1 : List UInt8 := dkwX2_hungersOf_1 ++ []
def dkwX2_hungersOf_0 : List UInt8 := [42, 27, 42, 27, 3, 182, 0, 71, 182, 1, 44, 42, 42, 180, 0, 7, 6, 46, 3, 4, 16, 9]
abbrev dktX2_hungersOf_0 : List UInt8 := dkwX2_hungersOf_0 ++ dktX2_hungersOf_1
theorem dksX2_hungersOf_0 : cX2_hungersOf.data.toList.drop 0 = dktX2_hungersOf_0 := by decide +kernel
theorem dksX2_hungersOf_1 : cX2_hungersOf.data.toList.drop 22 = dktX2_hungersOf_1 := dk_seg dksX2_hungersOf_0 22 rfl rfl
theorem dX2_hungersOf_0 : decode cX2_hungersOf 0 = .ok (.aload_n 0, 1) := dk_42 (dk_at dksX2_hungersOf_0 0 rfl rfl)
theorem dX2_hungersOf_1 : decode cX2_hungersOf 1 = .ok (.iload_n 1, 1) := dk_27 (dk_at dksX2_hungersOf_0 1 rfl rfl)
theorem dX2_hungersOf_2 : decode cX2_hungersOf 2 = .ok (.aload_n 0, 1) := dk_42 (dk_at dksX2_hungersOf_0 2 rfl rfl)
theorem dX2_hungersOf_3 : decode cX2_hungersOf 3 = .ok (.iload_n 1, 1) := dk_27 (dk_at dksX2_hungersOf_0 3 rfl rfl)
theorem dX2_hungersOf_4 : decode cX2_hungersOf 4 = .ok (.iconst 0, 1) := dk_3 (dk_at dksX2_hungersOf_0 4 rfl rfl)
theorem dX2_hungersOf_5 : decode cX2_hungersOf 5 = .ok (.invokevirtual 71, 3) := dk_182 0 71 (dk_at dksX2_hungersOf_0 5 rfl rfl)
theorem dX2_hungersOf_8 : decode cX2_hungersOf 8 = .ok (.invokevirtual 300, 3) := dk_182 1 44 (dk_at dksX2_hungersOf_0 8 rfl rfl)
theorem dX2_hungersOf_11 : decode cX2_hungersOf 11 = .ok (.aload_n 0, 1) := dk_42 (dk_at dksX2_hungersOf_0 11 rfl rfl)
theorem dX2_hungersOf_12 : decode cX2_hungersOf 12 = .ok (.aload_n 0, 1) := dk_42 (dk_at dksX2_hungersOf_0 12 rfl rfl)
theorem dX2_hungersOf_13 : decode cX2_hungersOf 13 = .ok (.getfield 7, 3) := dk_180 0 7 (dk_at dksX2_hungersOf_0 13 rfl rfl)
theorem dX2_hungersOf_16 : decode cX2_hungersOf 16 = .ok (.iconst 3, 1) := dk_6 (dk_at dksX2_hungersOf_0 16 rfl rfl)
theorem dX2_hungersOf_17 : decode cX2_hungersOf 17 = .ok (.iaload, 1) := dk_46 (dk_at dksX2_hungersOf_0 17 rfl rfl)
theorem dX2_hungersOf_18 : decode cX2_hungersOf 18 = .ok (.iconst 0, 1) := dk_3 (dk_at dksX2_hungersOf_0 18 rfl rfl)
theorem dX2_hungersOf_19 : decode cX2_hungersOf 19 = .ok (.iconst 1, 1) := dk_4 (dk_at dksX2_hungersOf_0 19 rfl rfl)
theorem dX2_hungersOf_20 : decode cX2_hungersOf 20 = .ok (.bipush 9, 2) := dk_16 9 (dk_at dksX2_hungersOf_0 20 rfl rfl)
theorem dX2_hungersOf_22 : decode cX2_hungersOf 22 = .ok (.invokevirtual 303, 3) := dk_182 1 47 (dk_at dksX2_hungersOf_1 0 rfl rfl)
theorem dX2_hungersOf_25 : decode cX2_hungersOf 25 = .ok (.ireturn, 1) := dk_172 (dk_at dksX2_hungersOf_1 3 rfl rfl)
abbrev cX2_played : ByteArray := prog_20_method_100_code
def yX2_played : MethodName := ⟨RX2, "played", "(I)I"⟩
def dkwX2_played_2 : List UInt8 := [182, 1, 156, 154, 0, 5, 28, 172, 132, 2, 1, 167, 255, 219, 2, 172]
abbrev dktX2_played_2 : List UInt8 := dkwX2_played_2 ++ []
def dkwX2_played_1 : List UInt8 := [180, 0, 16, 17, 2, 217, 27, 104, 46, 162, 0, 29, 42, 17, 2, 217, 27, 104, 4, 96, 8, 28, 104, 96]
abbrev dktX2_played_1 : List UInt8 := dkwX2_played_1 ++ dktX2_played_2
def dkwX2_played_0 : List UInt8 := [27, 3, 42, 180, 0, 7, 5, 46, 4, 100, 184, 0, 63, 154, 0, 6, 16, 254, 172, 3, 61, 28, 42]
abbrev dktX2_played_0 : List UInt8 := dkwX2_played_0 ++ dktX2_played_1
theorem dksX2_played_0 : cX2_played.data.toList.drop 0 = dktX2_played_0 := by decide +kernel
theorem dksX2_played_1 : cX2_played.data.toList.drop 23 = dktX2_played_1 := dk_seg dksX2_played_0 23 rfl rfl
theorem dksX2_played_2 : cX2_played.data.toList.drop 47 = dktX2_played_2 := dk_seg dksX2_played_1 24 rfl rfl
theorem dX2_played_0 : decode cX2_played 0 = .ok (.iload_n 1, 1) := dk_27 (dk_at dksX2_played_0 0 rfl rfl)
theorem dX2_played_1 : decode cX2_played 1 = .ok (.iconst 0, 1) := dk_3 (dk_at dksX2_played_0 1 rfl rfl)
theorem dX2_played_2 : decode cX2_played 2 = .ok (.aload_n 0, 1) := dk_42 (dk_at dksX2_played_0 2 rfl rfl)
theorem dX2_played_3 : decode cX2_played 3 = .ok (.getfield 7, 3) := dk_180 0 7 (dk_at dksX2_played_0 3 rfl rfl)
theorem dX2_played_6 : decode cX2_played 6 = .ok (.iconst 2, 1) := dk_5 (dk_at dksX2_played_0 6 rfl rfl)
theorem dX2_played_7 : decode cX2_played 7 = .ok (.iaload, 1) := dk_46 (dk_at dksX2_played_0 7 rfl rfl)
theorem dX2_played_8 : decode cX2_played 8 = .ok (.iconst 1, 1) := dk_4 (dk_at dksX2_played_0 8 rfl rfl)
theorem dX2_played_9 : decode cX2_played 9 = .ok (.isub, 1) := dk_100 (dk_at dksX2_played_0 9 rfl rfl)
theorem dX2_played_10 : decode cX2_played 10 = .ok (.invokestatic 63, 3) := dk_184 0 63 (dk_at dksX2_played_0 10 rfl rfl)
theorem dX2_played_13 : decode cX2_played 13 = .ok (.ifCond .ne 6, 3) := dk_154 0 6 (dk_at dksX2_played_0 13 rfl rfl)
theorem dX2_played_16 : decode cX2_played 16 = .ok (.bipush (-2), 2) := dk_16 254 (dk_at dksX2_played_0 16 rfl rfl)
theorem dX2_played_18 : decode cX2_played 18 = .ok (.ireturn, 1) := dk_172 (dk_at dksX2_played_0 18 rfl rfl)
theorem dX2_played_19 : decode cX2_played 19 = .ok (.iconst 0, 1) := dk_3 (dk_at dksX2_played_0 19 rfl rfl)
theorem dX2_played_20 : decode cX2_played 20 = .ok (.istore_n 2, 1) := dk_61 (dk_at dksX2_played_0 20 rfl rfl)
theorem dX2_played_21 : decode cX2_played 21 = .ok (.iload_n 2, 1) := dk_28 (dk_at dksX2_played_0 21 rfl rfl)
theorem dX2_played_22 : decode cX2_played 22 = .ok (.aload_n 0, 1) := dk_42 (dk_at dksX2_played_0 22 rfl rfl)
theorem dX2_played_23 : decode cX2_played 23 = .ok (.getfield 16, 3) := dk_180 0 16 (dk_at dksX2_played_1 0 rfl rfl)
theorem dX2_played_26 : decode cX2_played 26 = .ok (.sipush 729, 3) := dk_17 2 217 (dk_at dksX2_played_1 3 rfl rfl)
theorem dX2_played_29 : decode cX2_played 29 = .ok (.iload_n 1, 1) := dk_27 (dk_at dksX2_played_1 6 rfl rfl)
theorem dX2_played_30 : decode cX2_played 30 = .ok (.imul, 1) := dk_104 (dk_at dksX2_played_1 7 rfl rfl)
theorem dX2_played_31 : decode cX2_played 31 = .ok (.iaload, 1) := dk_46 (dk_at dksX2_played_1 8 rfl rfl)
theorem dX2_played_32 : decode cX2_played 32 = .ok (.if_icmp .ge 29, 3) := dk_162 0 29 (dk_at dksX2_played_1 9 rfl rfl)
theorem dX2_played_35 : decode cX2_played 35 = .ok (.aload_n 0, 1) := dk_42 (dk_at dksX2_played_1 12 rfl rfl)
theorem dX2_played_36 : decode cX2_played 36 = .ok (.sipush 729, 3) := dk_17 2 217 (dk_at dksX2_played_1 13 rfl rfl)
theorem dX2_played_39 : decode cX2_played 39 = .ok (.iload_n 1, 1) := dk_27 (dk_at dksX2_played_1 16 rfl rfl)
theorem dX2_played_40 : decode cX2_played 40 = .ok (.imul, 1) := dk_104 (dk_at dksX2_played_1 17 rfl rfl)
theorem dX2_played_41 : decode cX2_played 41 = .ok (.iconst 1, 1) := dk_4 (dk_at dksX2_played_1 18 rfl rfl)
theorem dX2_played_42 : decode cX2_played 42 = .ok (.iadd, 1) := dk_96 (dk_at dksX2_played_1 19 rfl rfl)
theorem dX2_played_43 : decode cX2_played 43 = .ok (.iconst 5, 1) := dk_8 (dk_at dksX2_played_1 20 rfl rfl)
theorem dX2_played_44 : decode cX2_played 44 = .ok (.iload_n 2, 1) := dk_28 (dk_at dksX2_played_1 21 rfl rfl)
theorem dX2_played_45 : decode cX2_played 45 = .ok (.imul, 1) := dk_104 (dk_at dksX2_played_1 22 rfl rfl)
theorem dX2_played_46 : decode cX2_played 46 = .ok (.iadd, 1) := dk_96 (dk_at dksX2_played_1 23 rfl rfl)
theorem dX2_played_47 : decode cX2_played 47 = .ok (.invokevirtual 412, 3) := dk_182 1 156 (dk_at dksX2_played_2 0 rfl rfl)
theorem dX2_played_50 : decode cX2_played 50 = .ok (.ifCond .ne 5, 3) := dk_154 0 5 (dk_at dksX2_played_2 3 rfl rfl)
theorem dX2_played_53 : decode cX2_played 53 = .ok (.iload_n 2, 1) := dk_28 (dk_at dksX2_played_2 6 rfl rfl)
theorem dX2_played_54 : decode cX2_played 54 = .ok (.ireturn, 1) := dk_172 (dk_at dksX2_played_2 7 rfl rfl)
theorem dX2_played_55 : decode cX2_played 55 = .ok (.iinc 2 1, 3) := dk_132 2 1 (dk_at dksX2_played_2 8 rfl rfl)
theorem dX2_played_58 : decode cX2_played 58 = .ok (.goto (-37), 3) := dk_167 255 219 (dk_at dksX2_played_2 11 rfl rfl)
theorem dX2_played_61 : decode cX2_played 61 = .ok (.iconst (-1), 1) := dk_2 (dk_at dksX2_played_2 14 rfl rfl)
theorem dX2_played_62 : decode cX2_played 62 = .ok (.ireturn, 1) := dk_172 (dk_at dksX2_played_2 15 rfl rfl)
abbrev cX2_isPlayed : ByteArray := prog_20_method_99_code
def yX2_isPlayed : MethodName := ⟨RX2, "isPlayed", "(I)Z"⟩
def dkwX2_isPlayed_7 : List UInt8 := [172, 4, 172]
abbrev dktX2_isPlayed_7 : List UInt8 := dkwX2_isPlayed_7 ++ []
def dkwX2_isPlayed_6 : List UInt8 := [182, 1, 150, 172, 42, 28, 29, 182, 1, 153, 155, 0, 7, 4, 167, 0, 4, 3, 172, 42, 28, 182, 1, 129]
abbrev dktX2_isPlayed_6 : List UInt8 := dkwX2_isPlayed_6 ++ dktX2_isPlayed_7
def dkwX2_isPlayed_5 : List UInt8 := [182, 1, 144, 172, 42, 28, 29, 182, 1, 147, 155, 0, 7, 4, 167, 0, 4, 3, 172, 42, 28, 29]
abbrev dktX2_isPlayed_5 : List UInt8 := dkwX2_isPlayed_5 ++ dktX2_isPlayed_6
def dkwX2_isPlayed_4 : List UInt8 := [167, 0, 4, 3, 172, 42, 28, 29, 182, 1, 141, 155, 0, 7, 4, 167, 0, 4, 3, 172, 42, 28, 29]
abbrev dktX2_isPlayed_4 : List UInt8 := dkwX2_isPlayed_4 ++ dktX2_isPlayed_5
def dkwX2_isPlayed_3 : List UInt8 := [42, 180, 0, 16, 27, 6, 96, 46, 42, 180, 0, 16, 27, 7, 96, 46, 182, 1, 138, 155, 0, 7, 4]
abbrev dktX2_isPlayed_3 : List UInt8 := dkwX2_isPlayed_3 ++ dktX2_isPlayed_4
def dkwX2_isPlayed_2 : List UInt8 := [42, 28, 182, 1, 132, 155, 0, 7, 4, 167, 0, 4, 3, 172, 42, 28, 29, 182, 1, 135, 172, 42, 28, 29]
abbrev dktX2_isPlayed_2 : List UInt8 := dkwX2_isPlayed_2 ++ dktX2_isPlayed_3
def dkwX2_isPlayed_1 : List UInt8 := [170, 0, 0, 0, 0, 0, 0, 169, 0, 0, 0, 4, 0, 0, 0, 12, 0, 0, 0, 52, 0, 0, 0, 66, 0, 0, 0, 73, 0, 0, 0, 104, 0, 0, 0, 119, 0, 0, 0, 126, 0, 0, 0, 141, 0, 0, 0, 148, 0, 0, 0, 163]
abbrev dktX2_isPlayed_1 : List UInt8 := dkwX2_isPlayed_1 ++ dktX2_isPlayed_2
def dkwX2_isPlayed_0 : List UInt8 := [42, 180, 0, 16, 27, 4, 96, 46, 61, 42, 180, 0, 16, 27, 5, 96, 46, 62, 42, 180, 0, 16, 27, 46]
abbrev dktX2_isPlayed_0 : List UInt8 := dkwX2_isPlayed_0 ++ dktX2_isPlayed_1
theorem dksX2_isPlayed_0 : cX2_isPlayed.data.toList.drop 0 = dktX2_isPlayed_0 := by decide +kernel
theorem dksX2_isPlayed_1 : cX2_isPlayed.data.toList.drop 24 = dktX2_isPlayed_1 := dk_seg dksX2_isPlayed_0 24 rfl rfl
theorem dksX2_isPlayed_2 : cX2_isPlayed.data.toList.drop 76 = dktX2_isPlayed_2 := dk_seg dksX2_isPlayed_1 52 rfl rfl
theorem dksX2_isPlayed_3 : cX2_isPlayed.data.toList.drop 100 = dktX2_isPlayed_3 := dk_seg dksX2_isPlayed_2 24 rfl rfl
theorem dksX2_isPlayed_4 : cX2_isPlayed.data.toList.drop 123 = dktX2_isPlayed_4 := dk_seg dksX2_isPlayed_3 23 rfl rfl
theorem dksX2_isPlayed_5 : cX2_isPlayed.data.toList.drop 146 = dktX2_isPlayed_5 := dk_seg dksX2_isPlayed_4 23 rfl rfl
theorem dksX2_isPlayed_6 : cX2_isPlayed.data.toList.drop 168 = dktX2_isPlayed_6 := dk_seg dksX2_isPlayed_5 22 rfl rfl
theorem dksX2_isPlayed_7 : cX2_isPlayed.data.toList.drop 192 = dktX2_isPlayed_7 := dk_seg dksX2_isPlayed_6 24 rfl rfl
theorem dX2_isPlayed_0 : decode cX2_isPlayed 0 = .ok (.aload_n 0, 1) := dk_42 (dk_at dksX2_isPlayed_0 0 rfl rfl)
theorem dX2_isPlayed_1 : decode cX2_isPlayed 1 = .ok (.getfield 16, 3) := dk_180 0 16 (dk_at dksX2_isPlayed_0 1 rfl rfl)
theorem dX2_isPlayed_4 : decode cX2_isPlayed 4 = .ok (.iload_n 1, 1) := dk_27 (dk_at dksX2_isPlayed_0 4 rfl rfl)
theorem dX2_isPlayed_5 : decode cX2_isPlayed 5 = .ok (.iconst 1, 1) := dk_4 (dk_at dksX2_isPlayed_0 5 rfl rfl)
theorem dX2_isPlayed_6 : decode cX2_isPlayed 6 = .ok (.iadd, 1) := dk_96 (dk_at dksX2_isPlayed_0 6 rfl rfl)
theorem dX2_isPlayed_7 : decode cX2_isPlayed 7 = .ok (.iaload, 1) := dk_46 (dk_at dksX2_isPlayed_0 7 rfl rfl)
theorem dX2_isPlayed_8 : decode cX2_isPlayed 8 = .ok (.istore_n 2, 1) := dk_61 (dk_at dksX2_isPlayed_0 8 rfl rfl)
theorem dX2_isPlayed_9 : decode cX2_isPlayed 9 = .ok (.aload_n 0, 1) := dk_42 (dk_at dksX2_isPlayed_0 9 rfl rfl)
theorem dX2_isPlayed_10 : decode cX2_isPlayed 10 = .ok (.getfield 16, 3) := dk_180 0 16 (dk_at dksX2_isPlayed_0 10 rfl rfl)
theorem dX2_isPlayed_13 : decode cX2_isPlayed 13 = .ok (.iload_n 1, 1) := dk_27 (dk_at dksX2_isPlayed_0 13 rfl rfl)
theorem dX2_isPlayed_14 : decode cX2_isPlayed 14 = .ok (.iconst 2, 1) := dk_5 (dk_at dksX2_isPlayed_0 14 rfl rfl)
theorem dX2_isPlayed_15 : decode cX2_isPlayed 15 = .ok (.iadd, 1) := dk_96 (dk_at dksX2_isPlayed_0 15 rfl rfl)
theorem dX2_isPlayed_16 : decode cX2_isPlayed 16 = .ok (.iaload, 1) := dk_46 (dk_at dksX2_isPlayed_0 16 rfl rfl)
theorem dX2_isPlayed_17 : decode cX2_isPlayed 17 = .ok (.istore_n 3, 1) := dk_62 (dk_at dksX2_isPlayed_0 17 rfl rfl)
theorem dX2_isPlayed_18 : decode cX2_isPlayed 18 = .ok (.aload_n 0, 1) := dk_42 (dk_at dksX2_isPlayed_0 18 rfl rfl)
theorem dX2_isPlayed_19 : decode cX2_isPlayed 19 = .ok (.getfield 16, 3) := dk_180 0 16 (dk_at dksX2_isPlayed_0 19 rfl rfl)
theorem dX2_isPlayed_22 : decode cX2_isPlayed 22 = .ok (.iload_n 1, 1) := dk_27 (dk_at dksX2_isPlayed_0 22 rfl rfl)
theorem dX2_isPlayed_23 : decode cX2_isPlayed 23 = .ok (.iaload, 1) := dk_46 (dk_at dksX2_isPlayed_0 23 rfl rfl)
theorem dX2_isPlayed_24 : decode cX2_isPlayed 24 = .ok (.tableswitch 169 4 12 #[52, 66, 73, 104, 119, 126, 141, 148, 163], 52) := by decide +kernel
theorem dX2_isPlayed_76 : decode cX2_isPlayed 76 = .ok (.aload_n 0, 1) := dk_42 (dk_at dksX2_isPlayed_2 0 rfl rfl)
theorem dX2_isPlayed_77 : decode cX2_isPlayed 77 = .ok (.iload_n 2, 1) := dk_28 (dk_at dksX2_isPlayed_2 1 rfl rfl)
theorem dX2_isPlayed_78 : decode cX2_isPlayed 78 = .ok (.invokevirtual 388, 3) := dk_182 1 132 (dk_at dksX2_isPlayed_2 2 rfl rfl)
theorem dX2_isPlayed_81 : decode cX2_isPlayed 81 = .ok (.ifCond .lt 7, 3) := dk_155 0 7 (dk_at dksX2_isPlayed_2 5 rfl rfl)
theorem dX2_isPlayed_84 : decode cX2_isPlayed 84 = .ok (.iconst 1, 1) := dk_4 (dk_at dksX2_isPlayed_2 8 rfl rfl)
theorem dX2_isPlayed_85 : decode cX2_isPlayed 85 = .ok (.goto 4, 3) := dk_167 0 4 (dk_at dksX2_isPlayed_2 9 rfl rfl)
theorem dX2_isPlayed_88 : decode cX2_isPlayed 88 = .ok (.iconst 0, 1) := dk_3 (dk_at dksX2_isPlayed_2 12 rfl rfl)
theorem dX2_isPlayed_89 : decode cX2_isPlayed 89 = .ok (.ireturn, 1) := dk_172 (dk_at dksX2_isPlayed_2 13 rfl rfl)
theorem dX2_isPlayed_90 : decode cX2_isPlayed 90 = .ok (.aload_n 0, 1) := dk_42 (dk_at dksX2_isPlayed_2 14 rfl rfl)
theorem dX2_isPlayed_91 : decode cX2_isPlayed 91 = .ok (.iload_n 2, 1) := dk_28 (dk_at dksX2_isPlayed_2 15 rfl rfl)
theorem dX2_isPlayed_92 : decode cX2_isPlayed 92 = .ok (.iload_n 3, 1) := dk_29 (dk_at dksX2_isPlayed_2 16 rfl rfl)
theorem dX2_isPlayed_93 : decode cX2_isPlayed 93 = .ok (.invokevirtual 391, 3) := dk_182 1 135 (dk_at dksX2_isPlayed_2 17 rfl rfl)
theorem dX2_isPlayed_96 : decode cX2_isPlayed 96 = .ok (.ireturn, 1) := dk_172 (dk_at dksX2_isPlayed_2 20 rfl rfl)
theorem dX2_isPlayed_97 : decode cX2_isPlayed 97 = .ok (.aload_n 0, 1) := dk_42 (dk_at dksX2_isPlayed_2 21 rfl rfl)
theorem dX2_isPlayed_98 : decode cX2_isPlayed 98 = .ok (.iload_n 2, 1) := dk_28 (dk_at dksX2_isPlayed_2 22 rfl rfl)
theorem dX2_isPlayed_99 : decode cX2_isPlayed 99 = .ok (.iload_n 3, 1) := dk_29 (dk_at dksX2_isPlayed_2 23 rfl rfl)
theorem dX2_isPlayed_100 : decode cX2_isPlayed 100 = .ok (.aload_n 0, 1) := dk_42 (dk_at dksX2_isPlayed_3 0 rfl rfl)
theorem dX2_isPlayed_101 : decode cX2_isPlayed 101 = .ok (.getfield 16, 3) := dk_180 0 16 (dk_at dksX2_isPlayed_3 1 rfl rfl)
theorem dX2_isPlayed_104 : decode cX2_isPlayed 104 = .ok (.iload_n 1, 1) := dk_27 (dk_at dksX2_isPlayed_3 4 rfl rfl)
theorem dX2_isPlayed_105 : decode cX2_isPlayed 105 = .ok (.iconst 3, 1) := dk_6 (dk_at dksX2_isPlayed_3 5 rfl rfl)
theorem dX2_isPlayed_106 : decode cX2_isPlayed 106 = .ok (.iadd, 1) := dk_96 (dk_at dksX2_isPlayed_3 6 rfl rfl)
theorem dX2_isPlayed_107 : decode cX2_isPlayed 107 = .ok (.iaload, 1) := dk_46 (dk_at dksX2_isPlayed_3 7 rfl rfl)
theorem dX2_isPlayed_108 : decode cX2_isPlayed 108 = .ok (.aload_n 0, 1) := dk_42 (dk_at dksX2_isPlayed_3 8 rfl rfl)
theorem dX2_isPlayed_109 : decode cX2_isPlayed 109 = .ok (.getfield 16, 3) := dk_180 0 16 (dk_at dksX2_isPlayed_3 9 rfl rfl)
theorem dX2_isPlayed_112 : decode cX2_isPlayed 112 = .ok (.iload_n 1, 1) := dk_27 (dk_at dksX2_isPlayed_3 12 rfl rfl)
theorem dX2_isPlayed_113 : decode cX2_isPlayed 113 = .ok (.iconst 4, 1) := dk_7 (dk_at dksX2_isPlayed_3 13 rfl rfl)
theorem dX2_isPlayed_114 : decode cX2_isPlayed 114 = .ok (.iadd, 1) := dk_96 (dk_at dksX2_isPlayed_3 14 rfl rfl)
theorem dX2_isPlayed_115 : decode cX2_isPlayed 115 = .ok (.iaload, 1) := dk_46 (dk_at dksX2_isPlayed_3 15 rfl rfl)
theorem dX2_isPlayed_116 : decode cX2_isPlayed 116 = .ok (.invokevirtual 394, 3) := dk_182 1 138 (dk_at dksX2_isPlayed_3 16 rfl rfl)
theorem dX2_isPlayed_119 : decode cX2_isPlayed 119 = .ok (.ifCond .lt 7, 3) := dk_155 0 7 (dk_at dksX2_isPlayed_3 19 rfl rfl)
theorem dX2_isPlayed_122 : decode cX2_isPlayed 122 = .ok (.iconst 1, 1) := dk_4 (dk_at dksX2_isPlayed_3 22 rfl rfl)
theorem dX2_isPlayed_123 : decode cX2_isPlayed 123 = .ok (.goto 4, 3) := dk_167 0 4 (dk_at dksX2_isPlayed_4 0 rfl rfl)
theorem dX2_isPlayed_126 : decode cX2_isPlayed 126 = .ok (.iconst 0, 1) := dk_3 (dk_at dksX2_isPlayed_4 3 rfl rfl)
theorem dX2_isPlayed_127 : decode cX2_isPlayed 127 = .ok (.ireturn, 1) := dk_172 (dk_at dksX2_isPlayed_4 4 rfl rfl)
theorem dX2_isPlayed_128 : decode cX2_isPlayed 128 = .ok (.aload_n 0, 1) := dk_42 (dk_at dksX2_isPlayed_4 5 rfl rfl)
theorem dX2_isPlayed_129 : decode cX2_isPlayed 129 = .ok (.iload_n 2, 1) := dk_28 (dk_at dksX2_isPlayed_4 6 rfl rfl)
theorem dX2_isPlayed_130 : decode cX2_isPlayed 130 = .ok (.iload_n 3, 1) := dk_29 (dk_at dksX2_isPlayed_4 7 rfl rfl)
theorem dX2_isPlayed_131 : decode cX2_isPlayed 131 = .ok (.invokevirtual 397, 3) := dk_182 1 141 (dk_at dksX2_isPlayed_4 8 rfl rfl)
theorem dX2_isPlayed_134 : decode cX2_isPlayed 134 = .ok (.ifCond .lt 7, 3) := dk_155 0 7 (dk_at dksX2_isPlayed_4 11 rfl rfl)
theorem dX2_isPlayed_137 : decode cX2_isPlayed 137 = .ok (.iconst 1, 1) := dk_4 (dk_at dksX2_isPlayed_4 14 rfl rfl)
theorem dX2_isPlayed_138 : decode cX2_isPlayed 138 = .ok (.goto 4, 3) := dk_167 0 4 (dk_at dksX2_isPlayed_4 15 rfl rfl)
theorem dX2_isPlayed_141 : decode cX2_isPlayed 141 = .ok (.iconst 0, 1) := dk_3 (dk_at dksX2_isPlayed_4 18 rfl rfl)
theorem dX2_isPlayed_142 : decode cX2_isPlayed 142 = .ok (.ireturn, 1) := dk_172 (dk_at dksX2_isPlayed_4 19 rfl rfl)
theorem dX2_isPlayed_143 : decode cX2_isPlayed 143 = .ok (.aload_n 0, 1) := dk_42 (dk_at dksX2_isPlayed_4 20 rfl rfl)
theorem dX2_isPlayed_144 : decode cX2_isPlayed 144 = .ok (.iload_n 2, 1) := dk_28 (dk_at dksX2_isPlayed_4 21 rfl rfl)
theorem dX2_isPlayed_145 : decode cX2_isPlayed 145 = .ok (.iload_n 3, 1) := dk_29 (dk_at dksX2_isPlayed_4 22 rfl rfl)
theorem dX2_isPlayed_146 : decode cX2_isPlayed 146 = .ok (.invokevirtual 400, 3) := dk_182 1 144 (dk_at dksX2_isPlayed_5 0 rfl rfl)
theorem dX2_isPlayed_149 : decode cX2_isPlayed 149 = .ok (.ireturn, 1) := dk_172 (dk_at dksX2_isPlayed_5 3 rfl rfl)
theorem dX2_isPlayed_150 : decode cX2_isPlayed 150 = .ok (.aload_n 0, 1) := dk_42 (dk_at dksX2_isPlayed_5 4 rfl rfl)
theorem dX2_isPlayed_151 : decode cX2_isPlayed 151 = .ok (.iload_n 2, 1) := dk_28 (dk_at dksX2_isPlayed_5 5 rfl rfl)
theorem dX2_isPlayed_152 : decode cX2_isPlayed 152 = .ok (.iload_n 3, 1) := dk_29 (dk_at dksX2_isPlayed_5 6 rfl rfl)
theorem dX2_isPlayed_153 : decode cX2_isPlayed 153 = .ok (.invokevirtual 403, 3) := dk_182 1 147 (dk_at dksX2_isPlayed_5 7 rfl rfl)
theorem dX2_isPlayed_156 : decode cX2_isPlayed 156 = .ok (.ifCond .lt 7, 3) := dk_155 0 7 (dk_at dksX2_isPlayed_5 10 rfl rfl)
theorem dX2_isPlayed_159 : decode cX2_isPlayed 159 = .ok (.iconst 1, 1) := dk_4 (dk_at dksX2_isPlayed_5 13 rfl rfl)
theorem dX2_isPlayed_160 : decode cX2_isPlayed 160 = .ok (.goto 4, 3) := dk_167 0 4 (dk_at dksX2_isPlayed_5 14 rfl rfl)
theorem dX2_isPlayed_163 : decode cX2_isPlayed 163 = .ok (.iconst 0, 1) := dk_3 (dk_at dksX2_isPlayed_5 17 rfl rfl)
theorem dX2_isPlayed_164 : decode cX2_isPlayed 164 = .ok (.ireturn, 1) := dk_172 (dk_at dksX2_isPlayed_5 18 rfl rfl)
theorem dX2_isPlayed_165 : decode cX2_isPlayed 165 = .ok (.aload_n 0, 1) := dk_42 (dk_at dksX2_isPlayed_5 19 rfl rfl)
theorem dX2_isPlayed_166 : decode cX2_isPlayed 166 = .ok (.iload_n 2, 1) := dk_28 (dk_at dksX2_isPlayed_5 20 rfl rfl)
theorem dX2_isPlayed_167 : decode cX2_isPlayed 167 = .ok (.iload_n 3, 1) := dk_29 (dk_at dksX2_isPlayed_5 21 rfl rfl)
theorem dX2_isPlayed_168 : decode cX2_isPlayed 168 = .ok (.invokevirtual 406, 3) := dk_182 1 150 (dk_at dksX2_isPlayed_6 0 rfl rfl)
theorem dX2_isPlayed_171 : decode cX2_isPlayed 171 = .ok (.ireturn, 1) := dk_172 (dk_at dksX2_isPlayed_6 3 rfl rfl)
theorem dX2_isPlayed_172 : decode cX2_isPlayed 172 = .ok (.aload_n 0, 1) := dk_42 (dk_at dksX2_isPlayed_6 4 rfl rfl)
theorem dX2_isPlayed_173 : decode cX2_isPlayed 173 = .ok (.iload_n 2, 1) := dk_28 (dk_at dksX2_isPlayed_6 5 rfl rfl)
theorem dX2_isPlayed_174 : decode cX2_isPlayed 174 = .ok (.iload_n 3, 1) := dk_29 (dk_at dksX2_isPlayed_6 6 rfl rfl)
theorem dX2_isPlayed_175 : decode cX2_isPlayed 175 = .ok (.invokevirtual 409, 3) := dk_182 1 153 (dk_at dksX2_isPlayed_6 7 rfl rfl)
theorem dX2_isPlayed_178 : decode cX2_isPlayed 178 = .ok (.ifCond .lt 7, 3) := dk_155 0 7 (dk_at dksX2_isPlayed_6 10 rfl rfl)
theorem dX2_isPlayed_181 : decode cX2_isPlayed 181 = .ok (.iconst 1, 1) := dk_4 (dk_at dksX2_isPlayed_6 13 rfl rfl)
theorem dX2_isPlayed_182 : decode cX2_isPlayed 182 = .ok (.goto 4, 3) := dk_167 0 4 (dk_at dksX2_isPlayed_6 14 rfl rfl)
theorem dX2_isPlayed_185 : decode cX2_isPlayed 185 = .ok (.iconst 0, 1) := dk_3 (dk_at dksX2_isPlayed_6 17 rfl rfl)
theorem dX2_isPlayed_186 : decode cX2_isPlayed 186 = .ok (.ireturn, 1) := dk_172 (dk_at dksX2_isPlayed_6 18 rfl rfl)
theorem dX2_isPlayed_187 : decode cX2_isPlayed 187 = .ok (.aload_n 0, 1) := dk_42 (dk_at dksX2_isPlayed_6 19 rfl rfl)
theorem dX2_isPlayed_188 : decode cX2_isPlayed 188 = .ok (.iload_n 2, 1) := dk_28 (dk_at dksX2_isPlayed_6 20 rfl rfl)
theorem dX2_isPlayed_189 : decode cX2_isPlayed 189 = .ok (.invokevirtual 385, 3) := dk_182 1 129 (dk_at dksX2_isPlayed_6 21 rfl rfl)
theorem dX2_isPlayed_192 : decode cX2_isPlayed 192 = .ok (.ireturn, 1) := dk_172 (dk_at dksX2_isPlayed_7 0 rfl rfl)
theorem dX2_isPlayed_193 : decode cX2_isPlayed 193 = .ok (.iconst 1, 1) := dk_4 (dk_at dksX2_isPlayed_7 1 rfl rfl)
theorem dX2_isPlayed_194 : decode cX2_isPlayed 194 = .ok (.ireturn, 1) := dk_172 (dk_at dksX2_isPlayed_7 2 rfl rfl)
abbrev cX2_reigns : ByteArray := prog_20_method_102_code
def yX2_reigns : MethodName := ⟨RX2, "reigns", "(II)I"⟩
def dkwX2_reigns_3 : List UInt8 := [182, 1, 54, 42, 21, 4, 182, 1, 159, 132, 3, 1, 167, 255, 229, 42, 180, 0, 7, 16, 10, 46, 172]
abbrev dktX2_reigns_3 : List UInt8 := dkwX2_reigns_3 ++ []
def dkwX2_reigns_2 : List UInt8 := [17, 0, 149, 96, 79, 3, 62, 29, 28, 162, 0, 28, 42, 180, 0, 7, 16, 11, 46, 54, 4, 42]
abbrev dktX2_reigns_2 : List UInt8 := dkwX2_reigns_2 ++ dktX2_reigns_3
def dkwX2_reigns_1 : List UInt8 := [180, 0, 7, 4, 46, 154, 0, 5, 2, 172, 42, 182, 1, 93, 42, 180, 0, 7, 16, 11, 27, 5, 104]
abbrev dktX2_reigns_1 : List UInt8 := dkwX2_reigns_1 ++ dktX2_reigns_2
def dkwX2_reigns_0 : List UInt8 := [27, 3, 17, 39, 15, 184, 0, 63, 153, 0, 22, 28, 4, 16, 40, 184, 0, 63, 153, 0, 12, 42]
abbrev dktX2_reigns_0 : List UInt8 := dkwX2_reigns_0 ++ dktX2_reigns_1
theorem dksX2_reigns_0 : cX2_reigns.data.toList.drop 0 = dktX2_reigns_0 := by decide +kernel
theorem dksX2_reigns_1 : cX2_reigns.data.toList.drop 22 = dktX2_reigns_1 := dk_seg dksX2_reigns_0 22 rfl rfl
theorem dksX2_reigns_2 : cX2_reigns.data.toList.drop 45 = dktX2_reigns_2 := dk_seg dksX2_reigns_1 23 rfl rfl
theorem dksX2_reigns_3 : cX2_reigns.data.toList.drop 67 = dktX2_reigns_3 := dk_seg dksX2_reigns_2 22 rfl rfl
theorem dX2_reigns_0 : decode cX2_reigns 0 = .ok (.iload_n 1, 1) := dk_27 (dk_at dksX2_reigns_0 0 rfl rfl)
theorem dX2_reigns_1 : decode cX2_reigns 1 = .ok (.iconst 0, 1) := dk_3 (dk_at dksX2_reigns_0 1 rfl rfl)
theorem dX2_reigns_2 : decode cX2_reigns 2 = .ok (.sipush 9999, 3) := dk_17 39 15 (dk_at dksX2_reigns_0 2 rfl rfl)
theorem dX2_reigns_5 : decode cX2_reigns 5 = .ok (.invokestatic 63, 3) := dk_184 0 63 (dk_at dksX2_reigns_0 5 rfl rfl)
theorem dX2_reigns_8 : decode cX2_reigns 8 = .ok (.ifCond .eq 22, 3) := dk_153 0 22 (dk_at dksX2_reigns_0 8 rfl rfl)
theorem dX2_reigns_11 : decode cX2_reigns 11 = .ok (.iload_n 2, 1) := dk_28 (dk_at dksX2_reigns_0 11 rfl rfl)
theorem dX2_reigns_12 : decode cX2_reigns 12 = .ok (.iconst 1, 1) := dk_4 (dk_at dksX2_reigns_0 12 rfl rfl)
theorem dX2_reigns_13 : decode cX2_reigns 13 = .ok (.bipush 40, 2) := dk_16 40 (dk_at dksX2_reigns_0 13 rfl rfl)
theorem dX2_reigns_15 : decode cX2_reigns 15 = .ok (.invokestatic 63, 3) := dk_184 0 63 (dk_at dksX2_reigns_0 15 rfl rfl)
theorem dX2_reigns_18 : decode cX2_reigns 18 = .ok (.ifCond .eq 12, 3) := dk_153 0 12 (dk_at dksX2_reigns_0 18 rfl rfl)
theorem dX2_reigns_21 : decode cX2_reigns 21 = .ok (.aload_n 0, 1) := dk_42 (dk_at dksX2_reigns_0 21 rfl rfl)
theorem dX2_reigns_22 : decode cX2_reigns 22 = .ok (.getfield 7, 3) := dk_180 0 7 (dk_at dksX2_reigns_1 0 rfl rfl)
theorem dX2_reigns_25 : decode cX2_reigns 25 = .ok (.iconst 1, 1) := dk_4 (dk_at dksX2_reigns_1 3 rfl rfl)
theorem dX2_reigns_26 : decode cX2_reigns 26 = .ok (.iaload, 1) := dk_46 (dk_at dksX2_reigns_1 4 rfl rfl)
theorem dX2_reigns_27 : decode cX2_reigns 27 = .ok (.ifCond .ne 5, 3) := dk_154 0 5 (dk_at dksX2_reigns_1 5 rfl rfl)
theorem dX2_reigns_30 : decode cX2_reigns 30 = .ok (.iconst (-1), 1) := dk_2 (dk_at dksX2_reigns_1 8 rfl rfl)
theorem dX2_reigns_31 : decode cX2_reigns 31 = .ok (.ireturn, 1) := dk_172 (dk_at dksX2_reigns_1 9 rfl rfl)
theorem dX2_reigns_32 : decode cX2_reigns 32 = .ok (.aload_n 0, 1) := dk_42 (dk_at dksX2_reigns_1 10 rfl rfl)
theorem dX2_reigns_33 : decode cX2_reigns 33 = .ok (.invokevirtual 349, 3) := dk_182 1 93 (dk_at dksX2_reigns_1 11 rfl rfl)
theorem dX2_reigns_36 : decode cX2_reigns 36 = .ok (.aload_n 0, 1) := dk_42 (dk_at dksX2_reigns_1 14 rfl rfl)
theorem dX2_reigns_37 : decode cX2_reigns 37 = .ok (.getfield 7, 3) := dk_180 0 7 (dk_at dksX2_reigns_1 15 rfl rfl)
theorem dX2_reigns_40 : decode cX2_reigns 40 = .ok (.bipush 11, 2) := dk_16 11 (dk_at dksX2_reigns_1 18 rfl rfl)
theorem dX2_reigns_42 : decode cX2_reigns 42 = .ok (.iload_n 1, 1) := dk_27 (dk_at dksX2_reigns_1 20 rfl rfl)
theorem dX2_reigns_43 : decode cX2_reigns 43 = .ok (.iconst 2, 1) := dk_5 (dk_at dksX2_reigns_1 21 rfl rfl)
theorem dX2_reigns_44 : decode cX2_reigns 44 = .ok (.imul, 1) := dk_104 (dk_at dksX2_reigns_1 22 rfl rfl)
theorem dX2_reigns_45 : decode cX2_reigns 45 = .ok (.sipush 149, 3) := dk_17 0 149 (dk_at dksX2_reigns_2 0 rfl rfl)
theorem dX2_reigns_48 : decode cX2_reigns 48 = .ok (.iadd, 1) := dk_96 (dk_at dksX2_reigns_2 3 rfl rfl)
theorem dX2_reigns_49 : decode cX2_reigns 49 = .ok (.iastore, 1) := dk_79 (dk_at dksX2_reigns_2 4 rfl rfl)
theorem dX2_reigns_50 : decode cX2_reigns 50 = .ok (.iconst 0, 1) := dk_3 (dk_at dksX2_reigns_2 5 rfl rfl)
theorem dX2_reigns_51 : decode cX2_reigns 51 = .ok (.istore_n 3, 1) := dk_62 (dk_at dksX2_reigns_2 6 rfl rfl)
theorem dX2_reigns_52 : decode cX2_reigns 52 = .ok (.iload_n 3, 1) := dk_29 (dk_at dksX2_reigns_2 7 rfl rfl)
theorem dX2_reigns_53 : decode cX2_reigns 53 = .ok (.iload_n 2, 1) := dk_28 (dk_at dksX2_reigns_2 8 rfl rfl)
theorem dX2_reigns_54 : decode cX2_reigns 54 = .ok (.if_icmp .ge 28, 3) := dk_162 0 28 (dk_at dksX2_reigns_2 9 rfl rfl)
theorem dX2_reigns_57 : decode cX2_reigns 57 = .ok (.aload_n 0, 1) := dk_42 (dk_at dksX2_reigns_2 12 rfl rfl)
theorem dX2_reigns_58 : decode cX2_reigns 58 = .ok (.getfield 7, 3) := dk_180 0 7 (dk_at dksX2_reigns_2 13 rfl rfl)
theorem dX2_reigns_61 : decode cX2_reigns 61 = .ok (.bipush 11, 2) := dk_16 11 (dk_at dksX2_reigns_2 16 rfl rfl)
theorem dX2_reigns_63 : decode cX2_reigns 63 = .ok (.iaload, 1) := dk_46 (dk_at dksX2_reigns_2 18 rfl rfl)
theorem dX2_reigns_64 : decode cX2_reigns 64 = .ok (.istore 4, 2) := dk_54 4 (dk_at dksX2_reigns_2 19 rfl rfl)
theorem dX2_reigns_66 : decode cX2_reigns 66 = .ok (.aload_n 0, 1) := dk_42 (dk_at dksX2_reigns_2 21 rfl rfl)
theorem dX2_reigns_67 : decode cX2_reigns 67 = .ok (.invokevirtual 310, 3) := dk_182 1 54 (dk_at dksX2_reigns_3 0 rfl rfl)
theorem dX2_reigns_70 : decode cX2_reigns 70 = .ok (.aload_n 0, 1) := dk_42 (dk_at dksX2_reigns_3 3 rfl rfl)
theorem dX2_reigns_71 : decode cX2_reigns 71 = .ok (.iload 4, 2) := dk_21 4 (dk_at dksX2_reigns_3 4 rfl rfl)
theorem dX2_reigns_73 : decode cX2_reigns 73 = .ok (.invokevirtual 415, 3) := dk_182 1 159 (dk_at dksX2_reigns_3 6 rfl rfl)
theorem dX2_reigns_76 : decode cX2_reigns 76 = .ok (.iinc 3 1, 3) := dk_132 3 1 (dk_at dksX2_reigns_3 9 rfl rfl)
theorem dX2_reigns_79 : decode cX2_reigns 79 = .ok (.goto (-27), 3) := dk_167 255 229 (dk_at dksX2_reigns_3 12 rfl rfl)
theorem dX2_reigns_82 : decode cX2_reigns 82 = .ok (.aload_n 0, 1) := dk_42 (dk_at dksX2_reigns_3 15 rfl rfl)
theorem dX2_reigns_83 : decode cX2_reigns 83 = .ok (.getfield 7, 3) := dk_180 0 7 (dk_at dksX2_reigns_3 16 rfl rfl)
theorem dX2_reigns_86 : decode cX2_reigns 86 = .ok (.bipush 10, 2) := dk_16 10 (dk_at dksX2_reigns_3 19 rfl rfl)
theorem dX2_reigns_88 : decode cX2_reigns 88 = .ok (.iaload, 1) := dk_46 (dk_at dksX2_reigns_3 21 rfl rfl)
theorem dX2_reigns_89 : decode cX2_reigns 89 = .ok (.ireturn, 1) := dk_172 (dk_at dksX2_reigns_3 22 rfl rfl)
abbrev cX2_happens : ByteArray := prog_20_method_101_code
def yX2_happens : MethodName := ⟨RX2, "happens", "(I)V"⟩
def dkwX2_happens_8 : List UInt8 := [29, 182, 1, 96, 177]
abbrev dktX2_happens_8 : List UInt8 := dkwX2_happens_8 ++ []
def dkwX2_happens_7 : List UInt8 := [17, 39, 15, 162, 0, 25, 42, 182, 1, 126, 167, 0, 18, 42, 28, 29, 182, 1, 90, 153, 0, 9, 42, 28]
abbrev dktX2_happens_7 : List UInt8 := dkwX2_happens_7 ++ dktX2_happens_8
def dkwX2_happens_6 : List UInt8 := [182, 1, 120, 153, 0, 49, 42, 28, 21, 4, 182, 1, 123, 87, 167, 0, 38, 42, 180, 0, 7, 16, 10, 46]
abbrev dktX2_happens_6 : List UInt8 := dkwX2_happens_6 ++ dktX2_happens_7
def dkwX2_happens_5 : List UInt8 := [21, 4, 182, 1, 105, 153, 0, 69, 42, 28, 21, 4, 182, 1, 114, 167, 0, 59, 42, 28, 21, 4]
abbrev dktX2_happens_5 : List UInt8 := dkwX2_happens_5 ++ dktX2_happens_6
def dkwX2_happens_4 : List UInt8 := [182, 1, 105, 153, 0, 95, 42, 28, 21, 4, 182, 1, 108, 167, 0, 85, 27, 7, 112, 154, 0, 79, 42, 28]
abbrev dktX2_happens_4 : List UInt8 := dkwX2_happens_4 ++ dktX2_happens_5
def dkwX2_happens_3 : List UInt8 := [42, 28, 29, 182, 1, 99, 153, 0, 115, 42, 28, 3, 29, 182, 0, 82, 167, 0, 105, 42, 28, 21, 4]
abbrev dktX2_happens_3 : List UInt8 := dkwX2_happens_3 ++ dktX2_happens_4
def dkwX2_happens_2 : List UInt8 := [170, 0, 0, 0, 0, 0, 141, 0, 0, 0, 2, 0, 0, 0, 6, 0, 0, 0, 35, 0, 0, 0, 54, 0, 0, 0, 74, 0, 0, 0, 100, 0, 0, 0, 121]
abbrev dktX2_happens_2 : List UInt8 := dkwX2_happens_2 ++ dktX2_happens_3
def dkwX2_happens_1 : List UInt8 := [42, 180, 0, 7, 4, 46, 112, 54, 4, 27, 16, 7, 112]
abbrev dktX2_happens_1 : List UInt8 := dkwX2_happens_1 ++ dktX2_happens_2
def dkwX2_happens_0 : List UInt8 := [27, 42, 180, 0, 7, 4, 46, 112, 61, 27, 16, 7, 108, 42, 180, 0, 7, 3, 46, 112, 62, 27, 8, 108]
abbrev dktX2_happens_0 : List UInt8 := dkwX2_happens_0 ++ dktX2_happens_1
theorem dksX2_happens_0 : cX2_happens.data.toList.drop 0 = dktX2_happens_0 := by decide +kernel
theorem dksX2_happens_1 : cX2_happens.data.toList.drop 24 = dktX2_happens_1 := dk_seg dksX2_happens_0 24 rfl rfl
theorem dksX2_happens_2 : cX2_happens.data.toList.drop 37 = dktX2_happens_2 := dk_seg dksX2_happens_1 13 rfl rfl
theorem dksX2_happens_3 : cX2_happens.data.toList.drop 72 = dktX2_happens_3 := dk_seg dksX2_happens_2 35 rfl rfl
theorem dksX2_happens_4 : cX2_happens.data.toList.drop 95 = dktX2_happens_4 := dk_seg dksX2_happens_3 23 rfl rfl
theorem dksX2_happens_5 : cX2_happens.data.toList.drop 119 = dktX2_happens_5 := dk_seg dksX2_happens_4 24 rfl rfl
theorem dksX2_happens_6 : cX2_happens.data.toList.drop 141 = dktX2_happens_6 := dk_seg dksX2_happens_5 22 rfl rfl
theorem dksX2_happens_7 : cX2_happens.data.toList.drop 165 = dktX2_happens_7 := dk_seg dksX2_happens_6 24 rfl rfl
theorem dksX2_happens_8 : cX2_happens.data.toList.drop 189 = dktX2_happens_8 := dk_seg dksX2_happens_7 24 rfl rfl
theorem dX2_happens_0 : decode cX2_happens 0 = .ok (.iload_n 1, 1) := dk_27 (dk_at dksX2_happens_0 0 rfl rfl)
theorem dX2_happens_1 : decode cX2_happens 1 = .ok (.aload_n 0, 1) := dk_42 (dk_at dksX2_happens_0 1 rfl rfl)
theorem dX2_happens_2 : decode cX2_happens 2 = .ok (.getfield 7, 3) := dk_180 0 7 (dk_at dksX2_happens_0 2 rfl rfl)
theorem dX2_happens_5 : decode cX2_happens 5 = .ok (.iconst 1, 1) := dk_4 (dk_at dksX2_happens_0 5 rfl rfl)
theorem dX2_happens_6 : decode cX2_happens 6 = .ok (.iaload, 1) := dk_46 (dk_at dksX2_happens_0 6 rfl rfl)
theorem dX2_happens_7 : decode cX2_happens 7 = .ok (.irem, 1) := dk_112 (dk_at dksX2_happens_0 7 rfl rfl)
theorem dX2_happens_8 : decode cX2_happens 8 = .ok (.istore_n 2, 1) := dk_61 (dk_at dksX2_happens_0 8 rfl rfl)
theorem dX2_happens_9 : decode cX2_happens 9 = .ok (.iload_n 1, 1) := dk_27 (dk_at dksX2_happens_0 9 rfl rfl)
theorem dX2_happens_10 : decode cX2_happens 10 = .ok (.bipush 7, 2) := dk_16 7 (dk_at dksX2_happens_0 10 rfl rfl)
theorem dX2_happens_12 : decode cX2_happens 12 = .ok (.idiv, 1) := dk_108 (dk_at dksX2_happens_0 12 rfl rfl)
theorem dX2_happens_13 : decode cX2_happens 13 = .ok (.aload_n 0, 1) := dk_42 (dk_at dksX2_happens_0 13 rfl rfl)
theorem dX2_happens_14 : decode cX2_happens 14 = .ok (.getfield 7, 3) := dk_180 0 7 (dk_at dksX2_happens_0 14 rfl rfl)
theorem dX2_happens_17 : decode cX2_happens 17 = .ok (.iconst 0, 1) := dk_3 (dk_at dksX2_happens_0 17 rfl rfl)
theorem dX2_happens_18 : decode cX2_happens 18 = .ok (.iaload, 1) := dk_46 (dk_at dksX2_happens_0 18 rfl rfl)
theorem dX2_happens_19 : decode cX2_happens 19 = .ok (.irem, 1) := dk_112 (dk_at dksX2_happens_0 19 rfl rfl)
theorem dX2_happens_20 : decode cX2_happens 20 = .ok (.istore_n 3, 1) := dk_62 (dk_at dksX2_happens_0 20 rfl rfl)
theorem dX2_happens_21 : decode cX2_happens 21 = .ok (.iload_n 1, 1) := dk_27 (dk_at dksX2_happens_0 21 rfl rfl)
theorem dX2_happens_22 : decode cX2_happens 22 = .ok (.iconst 5, 1) := dk_8 (dk_at dksX2_happens_0 22 rfl rfl)
theorem dX2_happens_23 : decode cX2_happens 23 = .ok (.idiv, 1) := dk_108 (dk_at dksX2_happens_0 23 rfl rfl)
theorem dX2_happens_24 : decode cX2_happens 24 = .ok (.aload_n 0, 1) := dk_42 (dk_at dksX2_happens_1 0 rfl rfl)
theorem dX2_happens_25 : decode cX2_happens 25 = .ok (.getfield 7, 3) := dk_180 0 7 (dk_at dksX2_happens_1 1 rfl rfl)
theorem dX2_happens_28 : decode cX2_happens 28 = .ok (.iconst 1, 1) := dk_4 (dk_at dksX2_happens_1 4 rfl rfl)
theorem dX2_happens_29 : decode cX2_happens 29 = .ok (.iaload, 1) := dk_46 (dk_at dksX2_happens_1 5 rfl rfl)
theorem dX2_happens_30 : decode cX2_happens 30 = .ok (.irem, 1) := dk_112 (dk_at dksX2_happens_1 6 rfl rfl)
theorem dX2_happens_31 : decode cX2_happens 31 = .ok (.istore 4, 2) := dk_54 4 (dk_at dksX2_happens_1 7 rfl rfl)
theorem dX2_happens_33 : decode cX2_happens 33 = .ok (.iload_n 1, 1) := dk_27 (dk_at dksX2_happens_1 9 rfl rfl)
theorem dX2_happens_34 : decode cX2_happens 34 = .ok (.bipush 7, 2) := dk_16 7 (dk_at dksX2_happens_1 10 rfl rfl)
theorem dX2_happens_36 : decode cX2_happens 36 = .ok (.irem, 1) := dk_112 (dk_at dksX2_happens_1 12 rfl rfl)
theorem dX2_happens_37 : decode cX2_happens 37 = .ok (.tableswitch 141 2 6 #[35, 54, 74, 100, 121], 35) := by decide +kernel
theorem dX2_happens_72 : decode cX2_happens 72 = .ok (.aload_n 0, 1) := dk_42 (dk_at dksX2_happens_3 0 rfl rfl)
theorem dX2_happens_73 : decode cX2_happens 73 = .ok (.iload_n 2, 1) := dk_28 (dk_at dksX2_happens_3 1 rfl rfl)
theorem dX2_happens_74 : decode cX2_happens 74 = .ok (.iload_n 3, 1) := dk_29 (dk_at dksX2_happens_3 2 rfl rfl)
theorem dX2_happens_75 : decode cX2_happens 75 = .ok (.invokevirtual 355, 3) := dk_182 1 99 (dk_at dksX2_happens_3 3 rfl rfl)
theorem dX2_happens_78 : decode cX2_happens 78 = .ok (.ifCond .eq 115, 3) := dk_153 0 115 (dk_at dksX2_happens_3 6 rfl rfl)
theorem dX2_happens_81 : decode cX2_happens 81 = .ok (.aload_n 0, 1) := dk_42 (dk_at dksX2_happens_3 9 rfl rfl)
theorem dX2_happens_82 : decode cX2_happens 82 = .ok (.iload_n 2, 1) := dk_28 (dk_at dksX2_happens_3 10 rfl rfl)
theorem dX2_happens_83 : decode cX2_happens 83 = .ok (.iconst 0, 1) := dk_3 (dk_at dksX2_happens_3 11 rfl rfl)
theorem dX2_happens_84 : decode cX2_happens 84 = .ok (.iload_n 3, 1) := dk_29 (dk_at dksX2_happens_3 12 rfl rfl)
theorem dX2_happens_85 : decode cX2_happens 85 = .ok (.invokevirtual 82, 3) := dk_182 0 82 (dk_at dksX2_happens_3 13 rfl rfl)
theorem dX2_happens_88 : decode cX2_happens 88 = .ok (.goto 105, 3) := dk_167 0 105 (dk_at dksX2_happens_3 16 rfl rfl)
theorem dX2_happens_91 : decode cX2_happens 91 = .ok (.aload_n 0, 1) := dk_42 (dk_at dksX2_happens_3 19 rfl rfl)
theorem dX2_happens_92 : decode cX2_happens 92 = .ok (.iload_n 2, 1) := dk_28 (dk_at dksX2_happens_3 20 rfl rfl)
theorem dX2_happens_93 : decode cX2_happens 93 = .ok (.iload 4, 2) := dk_21 4 (dk_at dksX2_happens_3 21 rfl rfl)
theorem dX2_happens_95 : decode cX2_happens 95 = .ok (.invokevirtual 361, 3) := dk_182 1 105 (dk_at dksX2_happens_4 0 rfl rfl)
theorem dX2_happens_98 : decode cX2_happens 98 = .ok (.ifCond .eq 95, 3) := dk_153 0 95 (dk_at dksX2_happens_4 3 rfl rfl)
theorem dX2_happens_101 : decode cX2_happens 101 = .ok (.aload_n 0, 1) := dk_42 (dk_at dksX2_happens_4 6 rfl rfl)
theorem dX2_happens_102 : decode cX2_happens 102 = .ok (.iload_n 2, 1) := dk_28 (dk_at dksX2_happens_4 7 rfl rfl)
theorem dX2_happens_103 : decode cX2_happens 103 = .ok (.iload 4, 2) := dk_21 4 (dk_at dksX2_happens_4 8 rfl rfl)
theorem dX2_happens_105 : decode cX2_happens 105 = .ok (.invokevirtual 364, 3) := dk_182 1 108 (dk_at dksX2_happens_4 10 rfl rfl)
theorem dX2_happens_108 : decode cX2_happens 108 = .ok (.goto 85, 3) := dk_167 0 85 (dk_at dksX2_happens_4 13 rfl rfl)
theorem dX2_happens_111 : decode cX2_happens 111 = .ok (.iload_n 1, 1) := dk_27 (dk_at dksX2_happens_4 16 rfl rfl)
theorem dX2_happens_112 : decode cX2_happens 112 = .ok (.iconst 4, 1) := dk_7 (dk_at dksX2_happens_4 17 rfl rfl)
theorem dX2_happens_113 : decode cX2_happens 113 = .ok (.irem, 1) := dk_112 (dk_at dksX2_happens_4 18 rfl rfl)
theorem dX2_happens_114 : decode cX2_happens 114 = .ok (.ifCond .ne 79, 3) := dk_154 0 79 (dk_at dksX2_happens_4 19 rfl rfl)
theorem dX2_happens_117 : decode cX2_happens 117 = .ok (.aload_n 0, 1) := dk_42 (dk_at dksX2_happens_4 22 rfl rfl)
theorem dX2_happens_118 : decode cX2_happens 118 = .ok (.iload_n 2, 1) := dk_28 (dk_at dksX2_happens_4 23 rfl rfl)
theorem dX2_happens_119 : decode cX2_happens 119 = .ok (.iload 4, 2) := dk_21 4 (dk_at dksX2_happens_5 0 rfl rfl)
theorem dX2_happens_121 : decode cX2_happens 121 = .ok (.invokevirtual 361, 3) := dk_182 1 105 (dk_at dksX2_happens_5 2 rfl rfl)
theorem dX2_happens_124 : decode cX2_happens 124 = .ok (.ifCond .eq 69, 3) := dk_153 0 69 (dk_at dksX2_happens_5 5 rfl rfl)
theorem dX2_happens_127 : decode cX2_happens 127 = .ok (.aload_n 0, 1) := dk_42 (dk_at dksX2_happens_5 8 rfl rfl)
theorem dX2_happens_128 : decode cX2_happens 128 = .ok (.iload_n 2, 1) := dk_28 (dk_at dksX2_happens_5 9 rfl rfl)
theorem dX2_happens_129 : decode cX2_happens 129 = .ok (.iload 4, 2) := dk_21 4 (dk_at dksX2_happens_5 10 rfl rfl)
theorem dX2_happens_131 : decode cX2_happens 131 = .ok (.invokevirtual 370, 3) := dk_182 1 114 (dk_at dksX2_happens_5 12 rfl rfl)
theorem dX2_happens_134 : decode cX2_happens 134 = .ok (.goto 59, 3) := dk_167 0 59 (dk_at dksX2_happens_5 15 rfl rfl)
theorem dX2_happens_137 : decode cX2_happens 137 = .ok (.aload_n 0, 1) := dk_42 (dk_at dksX2_happens_5 18 rfl rfl)
theorem dX2_happens_138 : decode cX2_happens 138 = .ok (.iload_n 2, 1) := dk_28 (dk_at dksX2_happens_5 19 rfl rfl)
theorem dX2_happens_139 : decode cX2_happens 139 = .ok (.iload 4, 2) := dk_21 4 (dk_at dksX2_happens_5 20 rfl rfl)
theorem dX2_happens_141 : decode cX2_happens 141 = .ok (.invokevirtual 376, 3) := dk_182 1 120 (dk_at dksX2_happens_6 0 rfl rfl)
theorem dX2_happens_144 : decode cX2_happens 144 = .ok (.ifCond .eq 49, 3) := dk_153 0 49 (dk_at dksX2_happens_6 3 rfl rfl)
theorem dX2_happens_147 : decode cX2_happens 147 = .ok (.aload_n 0, 1) := dk_42 (dk_at dksX2_happens_6 6 rfl rfl)
theorem dX2_happens_148 : decode cX2_happens 148 = .ok (.iload_n 2, 1) := dk_28 (dk_at dksX2_happens_6 7 rfl rfl)
theorem dX2_happens_149 : decode cX2_happens 149 = .ok (.iload 4, 2) := dk_21 4 (dk_at dksX2_happens_6 8 rfl rfl)
theorem dX2_happens_151 : decode cX2_happens 151 = .ok (.invokevirtual 379, 3) := dk_182 1 123 (dk_at dksX2_happens_6 10 rfl rfl)
theorem dX2_happens_154 : decode cX2_happens 154 = .ok (.pop, 1) := dk_87 (dk_at dksX2_happens_6 13 rfl rfl)
theorem dX2_happens_155 : decode cX2_happens 155 = .ok (.goto 38, 3) := dk_167 0 38 (dk_at dksX2_happens_6 14 rfl rfl)
theorem dX2_happens_158 : decode cX2_happens 158 = .ok (.aload_n 0, 1) := dk_42 (dk_at dksX2_happens_6 17 rfl rfl)
theorem dX2_happens_159 : decode cX2_happens 159 = .ok (.getfield 7, 3) := dk_180 0 7 (dk_at dksX2_happens_6 18 rfl rfl)
theorem dX2_happens_162 : decode cX2_happens 162 = .ok (.bipush 10, 2) := dk_16 10 (dk_at dksX2_happens_6 21 rfl rfl)
theorem dX2_happens_164 : decode cX2_happens 164 = .ok (.iaload, 1) := dk_46 (dk_at dksX2_happens_6 23 rfl rfl)
theorem dX2_happens_165 : decode cX2_happens 165 = .ok (.sipush 9999, 3) := dk_17 39 15 (dk_at dksX2_happens_7 0 rfl rfl)
theorem dX2_happens_168 : decode cX2_happens 168 = .ok (.if_icmp .ge 25, 3) := dk_162 0 25 (dk_at dksX2_happens_7 3 rfl rfl)
theorem dX2_happens_171 : decode cX2_happens 171 = .ok (.aload_n 0, 1) := dk_42 (dk_at dksX2_happens_7 6 rfl rfl)
theorem dX2_happens_172 : decode cX2_happens 172 = .ok (.invokevirtual 382, 3) := dk_182 1 126 (dk_at dksX2_happens_7 7 rfl rfl)
theorem dX2_happens_175 : decode cX2_happens 175 = .ok (.goto 18, 3) := dk_167 0 18 (dk_at dksX2_happens_7 10 rfl rfl)
theorem dX2_happens_178 : decode cX2_happens 178 = .ok (.aload_n 0, 1) := dk_42 (dk_at dksX2_happens_7 13 rfl rfl)
theorem dX2_happens_179 : decode cX2_happens 179 = .ok (.iload_n 2, 1) := dk_28 (dk_at dksX2_happens_7 14 rfl rfl)
theorem dX2_happens_180 : decode cX2_happens 180 = .ok (.iload_n 3, 1) := dk_29 (dk_at dksX2_happens_7 15 rfl rfl)
theorem dX2_happens_181 : decode cX2_happens 181 = .ok (.invokevirtual 346, 3) := dk_182 1 90 (dk_at dksX2_happens_7 16 rfl rfl)
theorem dX2_happens_184 : decode cX2_happens 184 = .ok (.ifCond .eq 9, 3) := dk_153 0 9 (dk_at dksX2_happens_7 19 rfl rfl)
theorem dX2_happens_187 : decode cX2_happens 187 = .ok (.aload_n 0, 1) := dk_42 (dk_at dksX2_happens_7 22 rfl rfl)
theorem dX2_happens_188 : decode cX2_happens 188 = .ok (.iload_n 2, 1) := dk_28 (dk_at dksX2_happens_7 23 rfl rfl)
theorem dX2_happens_189 : decode cX2_happens 189 = .ok (.iload_n 3, 1) := dk_29 (dk_at dksX2_happens_8 0 rfl rfl)
theorem dX2_happens_190 : decode cX2_happens 190 = .ok (.invokevirtual 352, 3) := dk_182 1 96 (dk_at dksX2_happens_8 1 rfl rfl)
theorem dX2_happens_193 : decode cX2_happens 193 = .ok (.return_, 1) := dk_177 (dk_at dksX2_happens_8 4 rfl rfl)
abbrev cX2_of : ByteArray := prog_20_method_103_code
def yX2_of : MethodName := ⟨RX2, "of", "(II)I"⟩
def dkwX2_of_5 : List UInt8 := [100, 182, 0, 71, 167, 0, 4, 2, 172]
abbrev dktX2_of_5 : List UInt8 := dkwX2_of_5 ++ []
def dkwX2_of_4 : List UInt8 := [42, 27, 3, 182, 0, 71, 182, 1, 41, 172, 28, 5, 16, 7, 184, 0, 63, 153, 0, 14, 42, 27, 28, 4]
abbrev dktX2_of_4 : List UInt8 := dkwX2_of_4 ++ dktX2_of_5
def dkwX2_of_3 : List UInt8 := [182, 1, 78, 172, 42, 42, 180, 0, 7, 6, 46, 27, 182, 1, 117, 172, 42, 27, 182, 1, 69, 172, 42, 27]
abbrev dktX2_of_3 : List UInt8 := dkwX2_of_3 ++ dktX2_of_4
def dkwX2_of_2 : List UInt8 := [42, 27, 3, 182, 0, 71, 172, 42, 27, 16, 7, 182, 0, 71, 172, 42, 27, 182, 1, 72, 172, 42, 27]
abbrev dktX2_of_2 : List UInt8 := dkwX2_of_2 ++ dktX2_of_3
def dkwX2_of_1 : List UInt8 := [170, 0, 0, 0, 122, 0, 0, 0, 0, 0, 0, 0, 12, 0, 0, 0, 65, 0, 0, 0, 72, 0, 0, 0, 122, 0, 0, 0, 122, 0, 0, 0, 122, 0, 0, 0, 122, 0, 0, 0, 122, 0, 0, 0, 122, 0, 0, 0, 80, 0, 0, 0, 86, 0, 0, 0, 92, 0, 0, 0, 104, 0, 0, 0, 110]
abbrev dktX2_of_1 : List UInt8 := dkwX2_of_1 ++ dktX2_of_2
def dkwX2_of_0 : List UInt8 := [42, 27, 182, 0, 67, 154, 0, 5, 2, 172, 28]
abbrev dktX2_of_0 : List UInt8 := dkwX2_of_0 ++ dktX2_of_1
theorem dksX2_of_0 : cX2_of.data.toList.drop 0 = dktX2_of_0 := by decide +kernel
theorem dksX2_of_1 : cX2_of.data.toList.drop 11 = dktX2_of_1 := dk_seg dksX2_of_0 11 rfl rfl
theorem dksX2_of_2 : cX2_of.data.toList.drop 76 = dktX2_of_2 := dk_seg dksX2_of_1 65 rfl rfl
theorem dksX2_of_3 : cX2_of.data.toList.drop 99 = dktX2_of_3 := dk_seg dksX2_of_2 23 rfl rfl
theorem dksX2_of_4 : cX2_of.data.toList.drop 123 = dktX2_of_4 := dk_seg dksX2_of_3 24 rfl rfl
theorem dksX2_of_5 : cX2_of.data.toList.drop 147 = dktX2_of_5 := dk_seg dksX2_of_4 24 rfl rfl
theorem dX2_of_0 : decode cX2_of 0 = .ok (.aload_n 0, 1) := dk_42 (dk_at dksX2_of_0 0 rfl rfl)
theorem dX2_of_1 : decode cX2_of 1 = .ok (.iload_n 1, 1) := dk_27 (dk_at dksX2_of_0 1 rfl rfl)
theorem dX2_of_2 : decode cX2_of 2 = .ok (.invokevirtual 67, 3) := dk_182 0 67 (dk_at dksX2_of_0 2 rfl rfl)
theorem dX2_of_5 : decode cX2_of 5 = .ok (.ifCond .ne 5, 3) := dk_154 0 5 (dk_at dksX2_of_0 5 rfl rfl)
theorem dX2_of_8 : decode cX2_of 8 = .ok (.iconst (-1), 1) := dk_2 (dk_at dksX2_of_0 8 rfl rfl)
theorem dX2_of_9 : decode cX2_of 9 = .ok (.ireturn, 1) := dk_172 (dk_at dksX2_of_0 9 rfl rfl)
theorem dX2_of_10 : decode cX2_of 10 = .ok (.iload_n 2, 1) := dk_28 (dk_at dksX2_of_0 10 rfl rfl)
theorem dX2_of_11 : decode cX2_of 11 = .ok (.tableswitch 122 0 12 #[65, 72, 122, 122, 122, 122, 122, 122, 80, 86, 92, 104, 110], 65) := by decide +kernel
theorem dX2_of_76 : decode cX2_of 76 = .ok (.aload_n 0, 1) := dk_42 (dk_at dksX2_of_2 0 rfl rfl)
theorem dX2_of_77 : decode cX2_of 77 = .ok (.iload_n 1, 1) := dk_27 (dk_at dksX2_of_2 1 rfl rfl)
theorem dX2_of_78 : decode cX2_of 78 = .ok (.iconst 0, 1) := dk_3 (dk_at dksX2_of_2 2 rfl rfl)
theorem dX2_of_79 : decode cX2_of 79 = .ok (.invokevirtual 71, 3) := dk_182 0 71 (dk_at dksX2_of_2 3 rfl rfl)
theorem dX2_of_82 : decode cX2_of 82 = .ok (.ireturn, 1) := dk_172 (dk_at dksX2_of_2 6 rfl rfl)
theorem dX2_of_83 : decode cX2_of 83 = .ok (.aload_n 0, 1) := dk_42 (dk_at dksX2_of_2 7 rfl rfl)
theorem dX2_of_84 : decode cX2_of 84 = .ok (.iload_n 1, 1) := dk_27 (dk_at dksX2_of_2 8 rfl rfl)
theorem dX2_of_85 : decode cX2_of 85 = .ok (.bipush 7, 2) := dk_16 7 (dk_at dksX2_of_2 9 rfl rfl)
theorem dX2_of_87 : decode cX2_of 87 = .ok (.invokevirtual 71, 3) := dk_182 0 71 (dk_at dksX2_of_2 11 rfl rfl)
theorem dX2_of_90 : decode cX2_of 90 = .ok (.ireturn, 1) := dk_172 (dk_at dksX2_of_2 14 rfl rfl)
theorem dX2_of_91 : decode cX2_of 91 = .ok (.aload_n 0, 1) := dk_42 (dk_at dksX2_of_2 15 rfl rfl)
theorem dX2_of_92 : decode cX2_of 92 = .ok (.iload_n 1, 1) := dk_27 (dk_at dksX2_of_2 16 rfl rfl)
theorem dX2_of_93 : decode cX2_of 93 = .ok (.invokevirtual 328, 3) := dk_182 1 72 (dk_at dksX2_of_2 17 rfl rfl)
theorem dX2_of_96 : decode cX2_of 96 = .ok (.ireturn, 1) := dk_172 (dk_at dksX2_of_2 20 rfl rfl)
theorem dX2_of_97 : decode cX2_of 97 = .ok (.aload_n 0, 1) := dk_42 (dk_at dksX2_of_2 21 rfl rfl)
theorem dX2_of_98 : decode cX2_of 98 = .ok (.iload_n 1, 1) := dk_27 (dk_at dksX2_of_2 22 rfl rfl)
theorem dX2_of_99 : decode cX2_of 99 = .ok (.invokevirtual 334, 3) := dk_182 1 78 (dk_at dksX2_of_3 0 rfl rfl)
theorem dX2_of_102 : decode cX2_of 102 = .ok (.ireturn, 1) := dk_172 (dk_at dksX2_of_3 3 rfl rfl)
theorem dX2_of_103 : decode cX2_of 103 = .ok (.aload_n 0, 1) := dk_42 (dk_at dksX2_of_3 4 rfl rfl)
theorem dX2_of_104 : decode cX2_of 104 = .ok (.aload_n 0, 1) := dk_42 (dk_at dksX2_of_3 5 rfl rfl)
theorem dX2_of_105 : decode cX2_of 105 = .ok (.getfield 7, 3) := dk_180 0 7 (dk_at dksX2_of_3 6 rfl rfl)
theorem dX2_of_108 : decode cX2_of 108 = .ok (.iconst 3, 1) := dk_6 (dk_at dksX2_of_3 9 rfl rfl)
theorem dX2_of_109 : decode cX2_of 109 = .ok (.iaload, 1) := dk_46 (dk_at dksX2_of_3 10 rfl rfl)
theorem dX2_of_110 : decode cX2_of 110 = .ok (.iload_n 1, 1) := dk_27 (dk_at dksX2_of_3 11 rfl rfl)
theorem dX2_of_111 : decode cX2_of 111 = .ok (.invokevirtual 373, 3) := dk_182 1 117 (dk_at dksX2_of_3 12 rfl rfl)
theorem dX2_of_114 : decode cX2_of 114 = .ok (.ireturn, 1) := dk_172 (dk_at dksX2_of_3 15 rfl rfl)
theorem dX2_of_115 : decode cX2_of 115 = .ok (.aload_n 0, 1) := dk_42 (dk_at dksX2_of_3 16 rfl rfl)
theorem dX2_of_116 : decode cX2_of 116 = .ok (.iload_n 1, 1) := dk_27 (dk_at dksX2_of_3 17 rfl rfl)
theorem dX2_of_117 : decode cX2_of 117 = .ok (.invokevirtual 325, 3) := dk_182 1 69 (dk_at dksX2_of_3 18 rfl rfl)
theorem dX2_of_120 : decode cX2_of 120 = .ok (.ireturn, 1) := dk_172 (dk_at dksX2_of_3 21 rfl rfl)
theorem dX2_of_121 : decode cX2_of 121 = .ok (.aload_n 0, 1) := dk_42 (dk_at dksX2_of_3 22 rfl rfl)
theorem dX2_of_122 : decode cX2_of 122 = .ok (.iload_n 1, 1) := dk_27 (dk_at dksX2_of_3 23 rfl rfl)
theorem dX2_of_123 : decode cX2_of 123 = .ok (.aload_n 0, 1) := dk_42 (dk_at dksX2_of_4 0 rfl rfl)
theorem dX2_of_124 : decode cX2_of 124 = .ok (.iload_n 1, 1) := dk_27 (dk_at dksX2_of_4 1 rfl rfl)
theorem dX2_of_125 : decode cX2_of 125 = .ok (.iconst 0, 1) := dk_3 (dk_at dksX2_of_4 2 rfl rfl)
theorem dX2_of_126 : decode cX2_of 126 = .ok (.invokevirtual 71, 3) := dk_182 0 71 (dk_at dksX2_of_4 3 rfl rfl)
theorem dX2_of_129 : decode cX2_of 129 = .ok (.invokevirtual 297, 3) := dk_182 1 41 (dk_at dksX2_of_4 6 rfl rfl)
theorem dX2_of_132 : decode cX2_of 132 = .ok (.ireturn, 1) := dk_172 (dk_at dksX2_of_4 9 rfl rfl)
theorem dX2_of_133 : decode cX2_of 133 = .ok (.iload_n 2, 1) := dk_28 (dk_at dksX2_of_4 10 rfl rfl)
theorem dX2_of_134 : decode cX2_of 134 = .ok (.iconst 2, 1) := dk_5 (dk_at dksX2_of_4 11 rfl rfl)
theorem dX2_of_135 : decode cX2_of 135 = .ok (.bipush 7, 2) := dk_16 7 (dk_at dksX2_of_4 12 rfl rfl)
theorem dX2_of_137 : decode cX2_of 137 = .ok (.invokestatic 63, 3) := dk_184 0 63 (dk_at dksX2_of_4 14 rfl rfl)
theorem dX2_of_140 : decode cX2_of 140 = .ok (.ifCond .eq 14, 3) := dk_153 0 14 (dk_at dksX2_of_4 17 rfl rfl)
theorem dX2_of_143 : decode cX2_of 143 = .ok (.aload_n 0, 1) := dk_42 (dk_at dksX2_of_4 20 rfl rfl)
theorem dX2_of_144 : decode cX2_of 144 = .ok (.iload_n 1, 1) := dk_27 (dk_at dksX2_of_4 21 rfl rfl)
theorem dX2_of_145 : decode cX2_of 145 = .ok (.iload_n 2, 1) := dk_28 (dk_at dksX2_of_4 22 rfl rfl)
theorem dX2_of_146 : decode cX2_of 146 = .ok (.iconst 1, 1) := dk_4 (dk_at dksX2_of_4 23 rfl rfl)
theorem dX2_of_147 : decode cX2_of 147 = .ok (.isub, 1) := dk_100 (dk_at dksX2_of_5 0 rfl rfl)
theorem dX2_of_148 : decode cX2_of 148 = .ok (.invokevirtual 71, 3) := dk_182 0 71 (dk_at dksX2_of_5 1 rfl rfl)
theorem dX2_of_151 : decode cX2_of 151 = .ok (.goto 4, 3) := dk_167 0 4 (dk_at dksX2_of_5 4 rfl rfl)
theorem dX2_of_154 : decode cX2_of 154 = .ok (.iconst (-1), 1) := dk_2 (dk_at dksX2_of_5 7 rfl rfl)
theorem dX2_of_155 : decode cX2_of 155 = .ok (.ireturn, 1) := dk_172 (dk_at dksX2_of_5 8 rfl rfl)
abbrev cX2_ofLand : ByteArray := prog_20_method_105_code
def yX2_ofLand : MethodName := ⟨RX2, "ofLand", "(II)I"⟩
def dkwX2_ofLand_2 : List UInt8 := [160, 0, 11, 42, 27, 182, 1, 162, 167, 0, 4, 2, 172]
abbrev dktX2_ofLand_2 : List UInt8 := dkwX2_ofLand_2 ++ []
def dkwX2_ofLand_1 : List UInt8 := [167, 0, 34, 28, 4, 160, 0, 15, 42, 180, 0, 7, 16, 88, 27, 96, 46, 167, 0, 17, 28, 5]
abbrev dktX2_ofLand_1 : List UInt8 := dkwX2_ofLand_1 ++ dktX2_ofLand_2
def dkwX2_ofLand_0 : List UInt8 := [42, 27, 182, 0, 75, 154, 0, 5, 2, 172, 28, 154, 0, 15, 42, 180, 0, 7, 16, 80, 27, 96, 46]
abbrev dktX2_ofLand_0 : List UInt8 := dkwX2_ofLand_0 ++ dktX2_ofLand_1
theorem dksX2_ofLand_0 : cX2_ofLand.data.toList.drop 0 = dktX2_ofLand_0 := by decide +kernel
theorem dksX2_ofLand_1 : cX2_ofLand.data.toList.drop 23 = dktX2_ofLand_1 := dk_seg dksX2_ofLand_0 23 rfl rfl
theorem dksX2_ofLand_2 : cX2_ofLand.data.toList.drop 45 = dktX2_ofLand_2 := dk_seg dksX2_ofLand_1 22 rfl rfl
theorem dX2_ofLand_0 : decode cX2_ofLand 0 = .ok (.aload_n 0, 1) := dk_42 (dk_at dksX2_ofLand_0 0 rfl rfl)
theorem dX2_ofLand_1 : decode cX2_ofLand 1 = .ok (.iload_n 1, 1) := dk_27 (dk_at dksX2_ofLand_0 1 rfl rfl)
theorem dX2_ofLand_2 : decode cX2_ofLand 2 = .ok (.invokevirtual 75, 3) := dk_182 0 75 (dk_at dksX2_ofLand_0 2 rfl rfl)
theorem dX2_ofLand_5 : decode cX2_ofLand 5 = .ok (.ifCond .ne 5, 3) := dk_154 0 5 (dk_at dksX2_ofLand_0 5 rfl rfl)
theorem dX2_ofLand_8 : decode cX2_ofLand 8 = .ok (.iconst (-1), 1) := dk_2 (dk_at dksX2_ofLand_0 8 rfl rfl)
theorem dX2_ofLand_9 : decode cX2_ofLand 9 = .ok (.ireturn, 1) := dk_172 (dk_at dksX2_ofLand_0 9 rfl rfl)
theorem dX2_ofLand_10 : decode cX2_ofLand 10 = .ok (.iload_n 2, 1) := dk_28 (dk_at dksX2_ofLand_0 10 rfl rfl)
theorem dX2_ofLand_11 : decode cX2_ofLand 11 = .ok (.ifCond .ne 15, 3) := dk_154 0 15 (dk_at dksX2_ofLand_0 11 rfl rfl)
theorem dX2_ofLand_14 : decode cX2_ofLand 14 = .ok (.aload_n 0, 1) := dk_42 (dk_at dksX2_ofLand_0 14 rfl rfl)
theorem dX2_ofLand_15 : decode cX2_ofLand 15 = .ok (.getfield 7, 3) := dk_180 0 7 (dk_at dksX2_ofLand_0 15 rfl rfl)
theorem dX2_ofLand_18 : decode cX2_ofLand 18 = .ok (.bipush 80, 2) := dk_16 80 (dk_at dksX2_ofLand_0 18 rfl rfl)
theorem dX2_ofLand_20 : decode cX2_ofLand 20 = .ok (.iload_n 1, 1) := dk_27 (dk_at dksX2_ofLand_0 20 rfl rfl)
theorem dX2_ofLand_21 : decode cX2_ofLand 21 = .ok (.iadd, 1) := dk_96 (dk_at dksX2_ofLand_0 21 rfl rfl)
theorem dX2_ofLand_22 : decode cX2_ofLand 22 = .ok (.iaload, 1) := dk_46 (dk_at dksX2_ofLand_0 22 rfl rfl)
theorem dX2_ofLand_23 : decode cX2_ofLand 23 = .ok (.goto 34, 3) := dk_167 0 34 (dk_at dksX2_ofLand_1 0 rfl rfl)
theorem dX2_ofLand_26 : decode cX2_ofLand 26 = .ok (.iload_n 2, 1) := dk_28 (dk_at dksX2_ofLand_1 3 rfl rfl)
theorem dX2_ofLand_27 : decode cX2_ofLand 27 = .ok (.iconst 1, 1) := dk_4 (dk_at dksX2_ofLand_1 4 rfl rfl)
theorem dX2_ofLand_28 : decode cX2_ofLand 28 = .ok (.if_icmp .ne 15, 3) := dk_160 0 15 (dk_at dksX2_ofLand_1 5 rfl rfl)
theorem dX2_ofLand_31 : decode cX2_ofLand 31 = .ok (.aload_n 0, 1) := dk_42 (dk_at dksX2_ofLand_1 8 rfl rfl)
theorem dX2_ofLand_32 : decode cX2_ofLand 32 = .ok (.getfield 7, 3) := dk_180 0 7 (dk_at dksX2_ofLand_1 9 rfl rfl)
theorem dX2_ofLand_35 : decode cX2_ofLand 35 = .ok (.bipush 88, 2) := dk_16 88 (dk_at dksX2_ofLand_1 12 rfl rfl)
theorem dX2_ofLand_37 : decode cX2_ofLand 37 = .ok (.iload_n 1, 1) := dk_27 (dk_at dksX2_ofLand_1 14 rfl rfl)
theorem dX2_ofLand_38 : decode cX2_ofLand 38 = .ok (.iadd, 1) := dk_96 (dk_at dksX2_ofLand_1 15 rfl rfl)
theorem dX2_ofLand_39 : decode cX2_ofLand 39 = .ok (.iaload, 1) := dk_46 (dk_at dksX2_ofLand_1 16 rfl rfl)
theorem dX2_ofLand_40 : decode cX2_ofLand 40 = .ok (.goto 17, 3) := dk_167 0 17 (dk_at dksX2_ofLand_1 17 rfl rfl)
theorem dX2_ofLand_43 : decode cX2_ofLand 43 = .ok (.iload_n 2, 1) := dk_28 (dk_at dksX2_ofLand_1 20 rfl rfl)
theorem dX2_ofLand_44 : decode cX2_ofLand 44 = .ok (.iconst 2, 1) := dk_5 (dk_at dksX2_ofLand_1 21 rfl rfl)
theorem dX2_ofLand_45 : decode cX2_ofLand 45 = .ok (.if_icmp .ne 11, 3) := dk_160 0 11 (dk_at dksX2_ofLand_2 0 rfl rfl)
theorem dX2_ofLand_48 : decode cX2_ofLand 48 = .ok (.aload_n 0, 1) := dk_42 (dk_at dksX2_ofLand_2 3 rfl rfl)
theorem dX2_ofLand_49 : decode cX2_ofLand 49 = .ok (.iload_n 1, 1) := dk_27 (dk_at dksX2_ofLand_2 4 rfl rfl)
theorem dX2_ofLand_50 : decode cX2_ofLand 50 = .ok (.invokevirtual 418, 3) := dk_182 1 162 (dk_at dksX2_ofLand_2 5 rfl rfl)
theorem dX2_ofLand_53 : decode cX2_ofLand 53 = .ok (.goto 4, 3) := dk_167 0 4 (dk_at dksX2_ofLand_2 8 rfl rfl)
theorem dX2_ofLand_56 : decode cX2_ofLand 56 = .ok (.iconst (-1), 1) := dk_2 (dk_at dksX2_ofLand_2 11 rfl rfl)
theorem dX2_ofLand_57 : decode cX2_ofLand 57 = .ok (.ireturn, 1) := dk_172 (dk_at dksX2_ofLand_2 12 rfl rfl)
abbrev cX2_aliveIn : ByteArray := prog_20_method_104_code
def yX2_aliveIn : MethodName := ⟨RX2, "aliveIn", "(I)I"⟩
def dkwX2_aliveIn_2 : List UInt8 := [132, 3, 1, 167, 255, 212, 28, 172]
abbrev dktX2_aliveIn_2 : List UInt8 := dkwX2_aliveIn_2 ++ []
def dkwX2_aliveIn_1 : List UInt8 := [160, 0, 20, 42, 29, 16, 6, 182, 0, 71, 6, 159, 0, 9, 4, 29, 120, 167, 0, 4, 3, 128, 61]
abbrev dktX2_aliveIn_1 : List UInt8 := dkwX2_aliveIn_1 ++ dktX2_aliveIn_2
def dkwX2_aliveIn_0 : List UInt8 := [3, 61, 3, 62, 29, 42, 180, 0, 7, 4, 46, 162, 0, 40, 28, 42, 29, 3, 182, 0, 71, 27]
abbrev dktX2_aliveIn_0 : List UInt8 := dkwX2_aliveIn_0 ++ dktX2_aliveIn_1
theorem dksX2_aliveIn_0 : cX2_aliveIn.data.toList.drop 0 = dktX2_aliveIn_0 := by decide +kernel
theorem dksX2_aliveIn_1 : cX2_aliveIn.data.toList.drop 22 = dktX2_aliveIn_1 := dk_seg dksX2_aliveIn_0 22 rfl rfl
theorem dksX2_aliveIn_2 : cX2_aliveIn.data.toList.drop 45 = dktX2_aliveIn_2 := dk_seg dksX2_aliveIn_1 23 rfl rfl
theorem dX2_aliveIn_0 : decode cX2_aliveIn 0 = .ok (.iconst 0, 1) := dk_3 (dk_at dksX2_aliveIn_0 0 rfl rfl)
theorem dX2_aliveIn_1 : decode cX2_aliveIn 1 = .ok (.istore_n 2, 1) := dk_61 (dk_at dksX2_aliveIn_0 1 rfl rfl)
theorem dX2_aliveIn_2 : decode cX2_aliveIn 2 = .ok (.iconst 0, 1) := dk_3 (dk_at dksX2_aliveIn_0 2 rfl rfl)
theorem dX2_aliveIn_3 : decode cX2_aliveIn 3 = .ok (.istore_n 3, 1) := dk_62 (dk_at dksX2_aliveIn_0 3 rfl rfl)
theorem dX2_aliveIn_4 : decode cX2_aliveIn 4 = .ok (.iload_n 3, 1) := dk_29 (dk_at dksX2_aliveIn_0 4 rfl rfl)
theorem dX2_aliveIn_5 : decode cX2_aliveIn 5 = .ok (.aload_n 0, 1) := dk_42 (dk_at dksX2_aliveIn_0 5 rfl rfl)
theorem dX2_aliveIn_6 : decode cX2_aliveIn 6 = .ok (.getfield 7, 3) := dk_180 0 7 (dk_at dksX2_aliveIn_0 6 rfl rfl)
theorem dX2_aliveIn_9 : decode cX2_aliveIn 9 = .ok (.iconst 1, 1) := dk_4 (dk_at dksX2_aliveIn_0 9 rfl rfl)
theorem dX2_aliveIn_10 : decode cX2_aliveIn 10 = .ok (.iaload, 1) := dk_46 (dk_at dksX2_aliveIn_0 10 rfl rfl)
theorem dX2_aliveIn_11 : decode cX2_aliveIn 11 = .ok (.if_icmp .ge 40, 3) := dk_162 0 40 (dk_at dksX2_aliveIn_0 11 rfl rfl)
theorem dX2_aliveIn_14 : decode cX2_aliveIn 14 = .ok (.iload_n 2, 1) := dk_28 (dk_at dksX2_aliveIn_0 14 rfl rfl)
theorem dX2_aliveIn_15 : decode cX2_aliveIn 15 = .ok (.aload_n 0, 1) := dk_42 (dk_at dksX2_aliveIn_0 15 rfl rfl)
theorem dX2_aliveIn_16 : decode cX2_aliveIn 16 = .ok (.iload_n 3, 1) := dk_29 (dk_at dksX2_aliveIn_0 16 rfl rfl)
theorem dX2_aliveIn_17 : decode cX2_aliveIn 17 = .ok (.iconst 0, 1) := dk_3 (dk_at dksX2_aliveIn_0 17 rfl rfl)
theorem dX2_aliveIn_18 : decode cX2_aliveIn 18 = .ok (.invokevirtual 71, 3) := dk_182 0 71 (dk_at dksX2_aliveIn_0 18 rfl rfl)
theorem dX2_aliveIn_21 : decode cX2_aliveIn 21 = .ok (.iload_n 1, 1) := dk_27 (dk_at dksX2_aliveIn_0 21 rfl rfl)
theorem dX2_aliveIn_22 : decode cX2_aliveIn 22 = .ok (.if_icmp .ne 20, 3) := dk_160 0 20 (dk_at dksX2_aliveIn_1 0 rfl rfl)
theorem dX2_aliveIn_25 : decode cX2_aliveIn 25 = .ok (.aload_n 0, 1) := dk_42 (dk_at dksX2_aliveIn_1 3 rfl rfl)
theorem dX2_aliveIn_26 : decode cX2_aliveIn 26 = .ok (.iload_n 3, 1) := dk_29 (dk_at dksX2_aliveIn_1 4 rfl rfl)
theorem dX2_aliveIn_27 : decode cX2_aliveIn 27 = .ok (.bipush 6, 2) := dk_16 6 (dk_at dksX2_aliveIn_1 5 rfl rfl)
theorem dX2_aliveIn_29 : decode cX2_aliveIn 29 = .ok (.invokevirtual 71, 3) := dk_182 0 71 (dk_at dksX2_aliveIn_1 7 rfl rfl)
theorem dX2_aliveIn_32 : decode cX2_aliveIn 32 = .ok (.iconst 3, 1) := dk_6 (dk_at dksX2_aliveIn_1 10 rfl rfl)
theorem dX2_aliveIn_33 : decode cX2_aliveIn 33 = .ok (.if_icmp .eq 9, 3) := dk_159 0 9 (dk_at dksX2_aliveIn_1 11 rfl rfl)
theorem dX2_aliveIn_36 : decode cX2_aliveIn 36 = .ok (.iconst 1, 1) := dk_4 (dk_at dksX2_aliveIn_1 14 rfl rfl)
theorem dX2_aliveIn_37 : decode cX2_aliveIn 37 = .ok (.iload_n 3, 1) := dk_29 (dk_at dksX2_aliveIn_1 15 rfl rfl)
theorem dX2_aliveIn_38 : decode cX2_aliveIn 38 = .ok (.ishl, 1) := dk_120 (dk_at dksX2_aliveIn_1 16 rfl rfl)
theorem dX2_aliveIn_39 : decode cX2_aliveIn 39 = .ok (.goto 4, 3) := dk_167 0 4 (dk_at dksX2_aliveIn_1 17 rfl rfl)
theorem dX2_aliveIn_42 : decode cX2_aliveIn 42 = .ok (.iconst 0, 1) := dk_3 (dk_at dksX2_aliveIn_1 20 rfl rfl)
theorem dX2_aliveIn_43 : decode cX2_aliveIn 43 = .ok (.ior, 1) := dk_128 (dk_at dksX2_aliveIn_1 21 rfl rfl)
theorem dX2_aliveIn_44 : decode cX2_aliveIn 44 = .ok (.istore_n 2, 1) := dk_61 (dk_at dksX2_aliveIn_1 22 rfl rfl)
theorem dX2_aliveIn_45 : decode cX2_aliveIn 45 = .ok (.iinc 3 1, 3) := dk_132 3 1 (dk_at dksX2_aliveIn_2 0 rfl rfl)
theorem dX2_aliveIn_48 : decode cX2_aliveIn 48 = .ok (.goto (-44), 3) := dk_167 255 212 (dk_at dksX2_aliveIn_2 3 rfl rfl)
theorem dX2_aliveIn_51 : decode cX2_aliveIn 51 = .ok (.iload_n 2, 1) := dk_28 (dk_at dksX2_aliveIn_2 6 rfl rfl)
theorem dX2_aliveIn_52 : decode cX2_aliveIn 52 = .ok (.ireturn, 1) := dk_172 (dk_at dksX2_aliveIn_2 7 rfl rfl)
abbrev cX2_is : ByteArray := prog_20_method_106_code
def yX2_is : MethodName := ⟨RX2, "is", "(I)I"⟩
def dkwX2_is_0 : List UInt8 := [27, 3, 4, 184, 0, 63, 153, 0, 15, 42, 180, 0, 7, 16, 10, 27, 96, 46, 167, 0, 5, 16, 254, 172]
abbrev dktX2_is_0 : List UInt8 := dkwX2_is_0 ++ []
theorem dksX2_is_0 : cX2_is.data.toList.drop 0 = dktX2_is_0 := by decide +kernel
theorem dX2_is_0 : decode cX2_is 0 = .ok (.iload_n 1, 1) := dk_27 (dk_at dksX2_is_0 0 rfl rfl)
theorem dX2_is_1 : decode cX2_is 1 = .ok (.iconst 0, 1) := dk_3 (dk_at dksX2_is_0 1 rfl rfl)
theorem dX2_is_2 : decode cX2_is 2 = .ok (.iconst 1, 1) := dk_4 (dk_at dksX2_is_0 2 rfl rfl)
theorem dX2_is_3 : decode cX2_is 3 = .ok (.invokestatic 63, 3) := dk_184 0 63 (dk_at dksX2_is_0 3 rfl rfl)
theorem dX2_is_6 : decode cX2_is 6 = .ok (.ifCond .eq 15, 3) := dk_153 0 15 (dk_at dksX2_is_0 6 rfl rfl)
theorem dX2_is_9 : decode cX2_is 9 = .ok (.aload_n 0, 1) := dk_42 (dk_at dksX2_is_0 9 rfl rfl)
theorem dX2_is_10 : decode cX2_is 10 = .ok (.getfield 7, 3) := dk_180 0 7 (dk_at dksX2_is_0 10 rfl rfl)
theorem dX2_is_13 : decode cX2_is 13 = .ok (.bipush 10, 2) := dk_16 10 (dk_at dksX2_is_0 13 rfl rfl)
theorem dX2_is_15 : decode cX2_is 15 = .ok (.iload_n 1, 1) := dk_27 (dk_at dksX2_is_0 15 rfl rfl)
theorem dX2_is_16 : decode cX2_is 16 = .ok (.iadd, 1) := dk_96 (dk_at dksX2_is_0 16 rfl rfl)
theorem dX2_is_17 : decode cX2_is 17 = .ok (.iaload, 1) := dk_46 (dk_at dksX2_is_0 17 rfl rfl)
theorem dX2_is_18 : decode cX2_is 18 = .ok (.goto 5, 3) := dk_167 0 5 (dk_at dksX2_is_0 18 rfl rfl)
theorem dX2_is_21 : decode cX2_is 21 = .ok (.bipush (-2), 2) := dk_16 254 (dk_at dksX2_is_0 21 rfl rfl)
theorem dX2_is_23 : decode cX2_is 23 = .ok (.ireturn, 1) := dk_172 (dk_at dksX2_is_0 23 rfl rfl)
abbrev cX2_book : ByteArray := prog_20_method_109_code
def yX2_book : MethodName := ⟨RX2, "book", "(II)I"⟩
def dkwX2_book_1 : List UInt8 := [28, 3, 5, 184, 0, 63, 153, 0, 12, 42, 27, 28, 182, 1, 168, 167, 0, 5, 16, 254, 172]
abbrev dktX2_book_1 : List UInt8 := dkwX2_book_1 ++ []
def dkwX2_book_0 : List UInt8 := [27, 2, 160, 0, 8, 42, 182, 1, 165, 172, 27, 3, 42, 182, 1, 165, 4, 100, 184, 0, 63, 153, 0, 21]
abbrev dktX2_book_0 : List UInt8 := dkwX2_book_0 ++ dktX2_book_1
theorem dksX2_book_0 : cX2_book.data.toList.drop 0 = dktX2_book_0 := by decide +kernel
theorem dksX2_book_1 : cX2_book.data.toList.drop 24 = dktX2_book_1 := dk_seg dksX2_book_0 24 rfl rfl
theorem dX2_book_0 : decode cX2_book 0 = .ok (.iload_n 1, 1) := dk_27 (dk_at dksX2_book_0 0 rfl rfl)
theorem dX2_book_1 : decode cX2_book 1 = .ok (.iconst (-1), 1) := dk_2 (dk_at dksX2_book_0 1 rfl rfl)
theorem dX2_book_2 : decode cX2_book 2 = .ok (.if_icmp .ne 8, 3) := dk_160 0 8 (dk_at dksX2_book_0 2 rfl rfl)
theorem dX2_book_5 : decode cX2_book 5 = .ok (.aload_n 0, 1) := dk_42 (dk_at dksX2_book_0 5 rfl rfl)
theorem dX2_book_6 : decode cX2_book 6 = .ok (.invokevirtual 421, 3) := dk_182 1 165 (dk_at dksX2_book_0 6 rfl rfl)
theorem dX2_book_9 : decode cX2_book 9 = .ok (.ireturn, 1) := dk_172 (dk_at dksX2_book_0 9 rfl rfl)
theorem dX2_book_10 : decode cX2_book 10 = .ok (.iload_n 1, 1) := dk_27 (dk_at dksX2_book_0 10 rfl rfl)
theorem dX2_book_11 : decode cX2_book 11 = .ok (.iconst 0, 1) := dk_3 (dk_at dksX2_book_0 11 rfl rfl)
theorem dX2_book_12 : decode cX2_book 12 = .ok (.aload_n 0, 1) := dk_42 (dk_at dksX2_book_0 12 rfl rfl)
theorem dX2_book_13 : decode cX2_book 13 = .ok (.invokevirtual 421, 3) := dk_182 1 165 (dk_at dksX2_book_0 13 rfl rfl)
theorem dX2_book_16 : decode cX2_book 16 = .ok (.iconst 1, 1) := dk_4 (dk_at dksX2_book_0 16 rfl rfl)
theorem dX2_book_17 : decode cX2_book 17 = .ok (.isub, 1) := dk_100 (dk_at dksX2_book_0 17 rfl rfl)
theorem dX2_book_18 : decode cX2_book 18 = .ok (.invokestatic 63, 3) := dk_184 0 63 (dk_at dksX2_book_0 18 rfl rfl)
theorem dX2_book_21 : decode cX2_book 21 = .ok (.ifCond .eq 21, 3) := dk_153 0 21 (dk_at dksX2_book_0 21 rfl rfl)
theorem dX2_book_24 : decode cX2_book 24 = .ok (.iload_n 2, 1) := dk_28 (dk_at dksX2_book_1 0 rfl rfl)
theorem dX2_book_25 : decode cX2_book 25 = .ok (.iconst 0, 1) := dk_3 (dk_at dksX2_book_1 1 rfl rfl)
theorem dX2_book_26 : decode cX2_book 26 = .ok (.iconst 2, 1) := dk_5 (dk_at dksX2_book_1 2 rfl rfl)
theorem dX2_book_27 : decode cX2_book 27 = .ok (.invokestatic 63, 3) := dk_184 0 63 (dk_at dksX2_book_1 3 rfl rfl)
theorem dX2_book_30 : decode cX2_book 30 = .ok (.ifCond .eq 12, 3) := dk_153 0 12 (dk_at dksX2_book_1 6 rfl rfl)
theorem dX2_book_33 : decode cX2_book 33 = .ok (.aload_n 0, 1) := dk_42 (dk_at dksX2_book_1 9 rfl rfl)
theorem dX2_book_34 : decode cX2_book 34 = .ok (.iload_n 1, 1) := dk_27 (dk_at dksX2_book_1 10 rfl rfl)
theorem dX2_book_35 : decode cX2_book 35 = .ok (.iload_n 2, 1) := dk_28 (dk_at dksX2_book_1 11 rfl rfl)
theorem dX2_book_36 : decode cX2_book 36 = .ok (.invokevirtual 424, 3) := dk_182 1 168 (dk_at dksX2_book_1 12 rfl rfl)
theorem dX2_book_39 : decode cX2_book 39 = .ok (.goto 5, 3) := dk_167 0 5 (dk_at dksX2_book_1 15 rfl rfl)
theorem dX2_book_42 : decode cX2_book 42 = .ok (.bipush (-2), 2) := dk_16 254 (dk_at dksX2_book_1 18 rfl rfl)
theorem dX2_book_44 : decode cX2_book 44 = .ok (.ireturn, 1) := dk_172 (dk_at dksX2_book_1 20 rfl rfl)
abbrev cX2_shown : ByteArray := prog_20_method_107_code
def yX2_shown : MethodName := ⟨RX2, "shown", "()I"⟩
def dkwX2_shown_1 : List UInt8 := [172]
abbrev dktX2_shown_1 : List UInt8 := dkwX2_shown_1 ++ []
def dkwX2_shown_0 : List UInt8 := [42, 180, 0, 7, 16, 12, 46, 16, 30, 162, 0, 13, 42, 180, 0, 7, 16, 12, 46, 167, 0, 5, 16, 30]
abbrev dktX2_shown_0 : List UInt8 := dkwX2_shown_0 ++ dktX2_shown_1
theorem dksX2_shown_0 : cX2_shown.data.toList.drop 0 = dktX2_shown_0 := by decide +kernel
theorem dksX2_shown_1 : cX2_shown.data.toList.drop 24 = dktX2_shown_1 := dk_seg dksX2_shown_0 24 rfl rfl
theorem dX2_shown_0 : decode cX2_shown 0 = .ok (.aload_n 0, 1) := dk_42 (dk_at dksX2_shown_0 0 rfl rfl)
theorem dX2_shown_1 : decode cX2_shown 1 = .ok (.getfield 7, 3) := dk_180 0 7 (dk_at dksX2_shown_0 1 rfl rfl)
theorem dX2_shown_4 : decode cX2_shown 4 = .ok (.bipush 12, 2) := dk_16 12 (dk_at dksX2_shown_0 4 rfl rfl)
theorem dX2_shown_6 : decode cX2_shown 6 = .ok (.iaload, 1) := dk_46 (dk_at dksX2_shown_0 6 rfl rfl)
theorem dX2_shown_7 : decode cX2_shown 7 = .ok (.bipush 30, 2) := dk_16 30 (dk_at dksX2_shown_0 7 rfl rfl)
theorem dX2_shown_9 : decode cX2_shown 9 = .ok (.if_icmp .ge 13, 3) := dk_162 0 13 (dk_at dksX2_shown_0 9 rfl rfl)
theorem dX2_shown_12 : decode cX2_shown 12 = .ok (.aload_n 0, 1) := dk_42 (dk_at dksX2_shown_0 12 rfl rfl)
theorem dX2_shown_13 : decode cX2_shown 13 = .ok (.getfield 7, 3) := dk_180 0 7 (dk_at dksX2_shown_0 13 rfl rfl)
theorem dX2_shown_16 : decode cX2_shown 16 = .ok (.bipush 12, 2) := dk_16 12 (dk_at dksX2_shown_0 16 rfl rfl)
theorem dX2_shown_18 : decode cX2_shown 18 = .ok (.iaload, 1) := dk_46 (dk_at dksX2_shown_0 18 rfl rfl)
theorem dX2_shown_19 : decode cX2_shown 19 = .ok (.goto 5, 3) := dk_167 0 5 (dk_at dksX2_shown_0 19 rfl rfl)
theorem dX2_shown_22 : decode cX2_shown 22 = .ok (.bipush 30, 2) := dk_16 30 (dk_at dksX2_shown_0 22 rfl rfl)
theorem dX2_shown_24 : decode cX2_shown 24 = .ok (.ireturn, 1) := dk_172 (dk_at dksX2_shown_1 0 rfl rfl)
abbrev cX2_entry : ByteArray := prog_20_method_108_code
def yX2_entry : MethodName := ⟨RX2, "entry", "(II)I"⟩
def dkwX2_entry_2 : List UInt8 := [16, 8, 112, 167, 0, 7, 29, 16, 8, 112, 172]
abbrev dktX2_entry_2 : List UInt8 := dkwX2_entry_2 ++ []
def dkwX2_entry_1 : List UInt8 := [112, 96, 46, 62, 28, 154, 0, 10, 29, 16, 64, 108, 167, 0, 22, 28, 4, 160, 0, 13, 29, 16, 8, 108]
abbrev dktX2_entry_1 : List UInt8 := dkwX2_entry_1 ++ dktX2_entry_2
def dkwX2_entry_0 : List UInt8 := [42, 180, 0, 7, 17, 5, 242, 42, 180, 0, 7, 16, 12, 46, 42, 182, 1, 165, 100, 27, 96, 17, 28, 72]
abbrev dktX2_entry_0 : List UInt8 := dkwX2_entry_0 ++ dktX2_entry_1
theorem dksX2_entry_0 : cX2_entry.data.toList.drop 0 = dktX2_entry_0 := by decide +kernel
theorem dksX2_entry_1 : cX2_entry.data.toList.drop 24 = dktX2_entry_1 := dk_seg dksX2_entry_0 24 rfl rfl
theorem dksX2_entry_2 : cX2_entry.data.toList.drop 48 = dktX2_entry_2 := dk_seg dksX2_entry_1 24 rfl rfl
theorem dX2_entry_0 : decode cX2_entry 0 = .ok (.aload_n 0, 1) := dk_42 (dk_at dksX2_entry_0 0 rfl rfl)
theorem dX2_entry_1 : decode cX2_entry 1 = .ok (.getfield 7, 3) := dk_180 0 7 (dk_at dksX2_entry_0 1 rfl rfl)
theorem dX2_entry_4 : decode cX2_entry 4 = .ok (.sipush 1522, 3) := dk_17 5 242 (dk_at dksX2_entry_0 4 rfl rfl)
theorem dX2_entry_7 : decode cX2_entry 7 = .ok (.aload_n 0, 1) := dk_42 (dk_at dksX2_entry_0 7 rfl rfl)
theorem dX2_entry_8 : decode cX2_entry 8 = .ok (.getfield 7, 3) := dk_180 0 7 (dk_at dksX2_entry_0 8 rfl rfl)
theorem dX2_entry_11 : decode cX2_entry 11 = .ok (.bipush 12, 2) := dk_16 12 (dk_at dksX2_entry_0 11 rfl rfl)
theorem dX2_entry_13 : decode cX2_entry 13 = .ok (.iaload, 1) := dk_46 (dk_at dksX2_entry_0 13 rfl rfl)
theorem dX2_entry_14 : decode cX2_entry 14 = .ok (.aload_n 0, 1) := dk_42 (dk_at dksX2_entry_0 14 rfl rfl)
theorem dX2_entry_15 : decode cX2_entry 15 = .ok (.invokevirtual 421, 3) := dk_182 1 165 (dk_at dksX2_entry_0 15 rfl rfl)
theorem dX2_entry_18 : decode cX2_entry 18 = .ok (.isub, 1) := dk_100 (dk_at dksX2_entry_0 18 rfl rfl)
theorem dX2_entry_19 : decode cX2_entry 19 = .ok (.iload_n 1, 1) := dk_27 (dk_at dksX2_entry_0 19 rfl rfl)
theorem dX2_entry_20 : decode cX2_entry 20 = .ok (.iadd, 1) := dk_96 (dk_at dksX2_entry_0 20 rfl rfl)
theorem dX2_entry_21 : decode cX2_entry 21 = .ok (.sipush 7240, 3) := dk_17 28 72 (dk_at dksX2_entry_0 21 rfl rfl)
theorem dX2_entry_24 : decode cX2_entry 24 = .ok (.irem, 1) := dk_112 (dk_at dksX2_entry_1 0 rfl rfl)
theorem dX2_entry_25 : decode cX2_entry 25 = .ok (.iadd, 1) := dk_96 (dk_at dksX2_entry_1 1 rfl rfl)
theorem dX2_entry_26 : decode cX2_entry 26 = .ok (.iaload, 1) := dk_46 (dk_at dksX2_entry_1 2 rfl rfl)
theorem dX2_entry_27 : decode cX2_entry 27 = .ok (.istore_n 3, 1) := dk_62 (dk_at dksX2_entry_1 3 rfl rfl)
theorem dX2_entry_28 : decode cX2_entry 28 = .ok (.iload_n 2, 1) := dk_28 (dk_at dksX2_entry_1 4 rfl rfl)
theorem dX2_entry_29 : decode cX2_entry 29 = .ok (.ifCond .ne 10, 3) := dk_154 0 10 (dk_at dksX2_entry_1 5 rfl rfl)
theorem dX2_entry_32 : decode cX2_entry 32 = .ok (.iload_n 3, 1) := dk_29 (dk_at dksX2_entry_1 8 rfl rfl)
theorem dX2_entry_33 : decode cX2_entry 33 = .ok (.bipush 64, 2) := dk_16 64 (dk_at dksX2_entry_1 9 rfl rfl)
theorem dX2_entry_35 : decode cX2_entry 35 = .ok (.idiv, 1) := dk_108 (dk_at dksX2_entry_1 11 rfl rfl)
theorem dX2_entry_36 : decode cX2_entry 36 = .ok (.goto 22, 3) := dk_167 0 22 (dk_at dksX2_entry_1 12 rfl rfl)
theorem dX2_entry_39 : decode cX2_entry 39 = .ok (.iload_n 2, 1) := dk_28 (dk_at dksX2_entry_1 15 rfl rfl)
theorem dX2_entry_40 : decode cX2_entry 40 = .ok (.iconst 1, 1) := dk_4 (dk_at dksX2_entry_1 16 rfl rfl)
theorem dX2_entry_41 : decode cX2_entry 41 = .ok (.if_icmp .ne 13, 3) := dk_160 0 13 (dk_at dksX2_entry_1 17 rfl rfl)
theorem dX2_entry_44 : decode cX2_entry 44 = .ok (.iload_n 3, 1) := dk_29 (dk_at dksX2_entry_1 20 rfl rfl)
theorem dX2_entry_45 : decode cX2_entry 45 = .ok (.bipush 8, 2) := dk_16 8 (dk_at dksX2_entry_1 21 rfl rfl)
theorem dX2_entry_47 : decode cX2_entry 47 = .ok (.idiv, 1) := dk_108 (dk_at dksX2_entry_1 23 rfl rfl)
theorem dX2_entry_48 : decode cX2_entry 48 = .ok (.bipush 8, 2) := dk_16 8 (dk_at dksX2_entry_2 0 rfl rfl)
theorem dX2_entry_50 : decode cX2_entry 50 = .ok (.irem, 1) := dk_112 (dk_at dksX2_entry_2 2 rfl rfl)
theorem dX2_entry_51 : decode cX2_entry 51 = .ok (.goto 7, 3) := dk_167 0 7 (dk_at dksX2_entry_2 3 rfl rfl)
theorem dX2_entry_54 : decode cX2_entry 54 = .ok (.iload_n 3, 1) := dk_29 (dk_at dksX2_entry_2 6 rfl rfl)
theorem dX2_entry_55 : decode cX2_entry 55 = .ok (.bipush 8, 2) := dk_16 8 (dk_at dksX2_entry_2 7 rfl rfl)
theorem dX2_entry_57 : decode cX2_entry 57 = .ok (.irem, 1) := dk_112 (dk_at dksX2_entry_2 9 rfl rfl)
theorem dX2_entry_58 : decode cX2_entry 58 = .ok (.ireturn, 1) := dk_172 (dk_at dksX2_entry_2 10 rfl rfl)
abbrev cX2_befell : ByteArray := prog_20_method_110_code
def yX2_befell : MethodName := ⟨RX2, "befell", "(II)I"⟩
def dkwX2_befell_3 : List UInt8 := [167, 0, 4, 3, 96, 62, 132, 4, 1, 167, 255, 209, 29, 172]
abbrev dktX2_befell_3 : List UInt8 := dkwX2_befell_3 ++ []
def dkwX2_befell_2 : List UInt8 := [182, 1, 168, 28, 160, 0, 23, 27, 2, 159, 0, 14, 42, 21, 4, 4, 182, 1, 168, 27, 160, 0, 7, 4]
abbrev dktX2_befell_2 : List UInt8 := dkwX2_befell_2 ++ dktX2_befell_3
def dkwX2_befell_1 : List UInt8 := [16, 254, 172, 3, 62, 3, 54, 4, 21, 4, 42, 182, 1, 165, 162, 0, 44, 29, 42, 21, 4, 5]
abbrev dktX2_befell_1 : List UInt8 := dkwX2_befell_1 ++ dktX2_befell_2
def dkwX2_befell_0 : List UInt8 := [27, 2, 159, 0, 11, 42, 27, 182, 0, 67, 153, 0, 13, 28, 3, 16, 6, 184, 0, 63, 154, 0, 6]
abbrev dktX2_befell_0 : List UInt8 := dkwX2_befell_0 ++ dktX2_befell_1
theorem dksX2_befell_0 : cX2_befell.data.toList.drop 0 = dktX2_befell_0 := by decide +kernel
theorem dksX2_befell_1 : cX2_befell.data.toList.drop 23 = dktX2_befell_1 := dk_seg dksX2_befell_0 23 rfl rfl
theorem dksX2_befell_2 : cX2_befell.data.toList.drop 45 = dktX2_befell_2 := dk_seg dksX2_befell_1 22 rfl rfl
theorem dksX2_befell_3 : cX2_befell.data.toList.drop 69 = dktX2_befell_3 := dk_seg dksX2_befell_2 24 rfl rfl
theorem dX2_befell_0 : decode cX2_befell 0 = .ok (.iload_n 1, 1) := dk_27 (dk_at dksX2_befell_0 0 rfl rfl)
theorem dX2_befell_1 : decode cX2_befell 1 = .ok (.iconst (-1), 1) := dk_2 (dk_at dksX2_befell_0 1 rfl rfl)
theorem dX2_befell_2 : decode cX2_befell 2 = .ok (.if_icmp .eq 11, 3) := dk_159 0 11 (dk_at dksX2_befell_0 2 rfl rfl)
theorem dX2_befell_5 : decode cX2_befell 5 = .ok (.aload_n 0, 1) := dk_42 (dk_at dksX2_befell_0 5 rfl rfl)
theorem dX2_befell_6 : decode cX2_befell 6 = .ok (.iload_n 1, 1) := dk_27 (dk_at dksX2_befell_0 6 rfl rfl)
theorem dX2_befell_7 : decode cX2_befell 7 = .ok (.invokevirtual 67, 3) := dk_182 0 67 (dk_at dksX2_befell_0 7 rfl rfl)
theorem dX2_befell_10 : decode cX2_befell 10 = .ok (.ifCond .eq 13, 3) := dk_153 0 13 (dk_at dksX2_befell_0 10 rfl rfl)
theorem dX2_befell_13 : decode cX2_befell 13 = .ok (.iload_n 2, 1) := dk_28 (dk_at dksX2_befell_0 13 rfl rfl)
theorem dX2_befell_14 : decode cX2_befell 14 = .ok (.iconst 0, 1) := dk_3 (dk_at dksX2_befell_0 14 rfl rfl)
theorem dX2_befell_15 : decode cX2_befell 15 = .ok (.bipush 6, 2) := dk_16 6 (dk_at dksX2_befell_0 15 rfl rfl)
theorem dX2_befell_17 : decode cX2_befell 17 = .ok (.invokestatic 63, 3) := dk_184 0 63 (dk_at dksX2_befell_0 17 rfl rfl)
theorem dX2_befell_20 : decode cX2_befell 20 = .ok (.ifCond .ne 6, 3) := dk_154 0 6 (dk_at dksX2_befell_0 20 rfl rfl)
theorem dX2_befell_23 : decode cX2_befell 23 = .ok (.bipush (-2), 2) := dk_16 254 (dk_at dksX2_befell_1 0 rfl rfl)
theorem dX2_befell_25 : decode cX2_befell 25 = .ok (.ireturn, 1) := dk_172 (dk_at dksX2_befell_1 2 rfl rfl)
theorem dX2_befell_26 : decode cX2_befell 26 = .ok (.iconst 0, 1) := dk_3 (dk_at dksX2_befell_1 3 rfl rfl)
theorem dX2_befell_27 : decode cX2_befell 27 = .ok (.istore_n 3, 1) := dk_62 (dk_at dksX2_befell_1 4 rfl rfl)
theorem dX2_befell_28 : decode cX2_befell 28 = .ok (.iconst 0, 1) := dk_3 (dk_at dksX2_befell_1 5 rfl rfl)
theorem dX2_befell_29 : decode cX2_befell 29 = .ok (.istore 4, 2) := dk_54 4 (dk_at dksX2_befell_1 6 rfl rfl)
theorem dX2_befell_31 : decode cX2_befell 31 = .ok (.iload 4, 2) := dk_21 4 (dk_at dksX2_befell_1 8 rfl rfl)
theorem dX2_befell_33 : decode cX2_befell 33 = .ok (.aload_n 0, 1) := dk_42 (dk_at dksX2_befell_1 10 rfl rfl)
theorem dX2_befell_34 : decode cX2_befell 34 = .ok (.invokevirtual 421, 3) := dk_182 1 165 (dk_at dksX2_befell_1 11 rfl rfl)
theorem dX2_befell_37 : decode cX2_befell 37 = .ok (.if_icmp .ge 44, 3) := dk_162 0 44 (dk_at dksX2_befell_1 14 rfl rfl)
theorem dX2_befell_40 : decode cX2_befell 40 = .ok (.iload_n 3, 1) := dk_29 (dk_at dksX2_befell_1 17 rfl rfl)
theorem dX2_befell_41 : decode cX2_befell 41 = .ok (.aload_n 0, 1) := dk_42 (dk_at dksX2_befell_1 18 rfl rfl)
theorem dX2_befell_42 : decode cX2_befell 42 = .ok (.iload 4, 2) := dk_21 4 (dk_at dksX2_befell_1 19 rfl rfl)
theorem dX2_befell_44 : decode cX2_befell 44 = .ok (.iconst 2, 1) := dk_5 (dk_at dksX2_befell_1 21 rfl rfl)
theorem dX2_befell_45 : decode cX2_befell 45 = .ok (.invokevirtual 424, 3) := dk_182 1 168 (dk_at dksX2_befell_2 0 rfl rfl)
theorem dX2_befell_48 : decode cX2_befell 48 = .ok (.iload_n 2, 1) := dk_28 (dk_at dksX2_befell_2 3 rfl rfl)
theorem dX2_befell_49 : decode cX2_befell 49 = .ok (.if_icmp .ne 23, 3) := dk_160 0 23 (dk_at dksX2_befell_2 4 rfl rfl)
theorem dX2_befell_52 : decode cX2_befell 52 = .ok (.iload_n 1, 1) := dk_27 (dk_at dksX2_befell_2 7 rfl rfl)
theorem dX2_befell_53 : decode cX2_befell 53 = .ok (.iconst (-1), 1) := dk_2 (dk_at dksX2_befell_2 8 rfl rfl)
theorem dX2_befell_54 : decode cX2_befell 54 = .ok (.if_icmp .eq 14, 3) := dk_159 0 14 (dk_at dksX2_befell_2 9 rfl rfl)
theorem dX2_befell_57 : decode cX2_befell 57 = .ok (.aload_n 0, 1) := dk_42 (dk_at dksX2_befell_2 12 rfl rfl)
theorem dX2_befell_58 : decode cX2_befell 58 = .ok (.iload 4, 2) := dk_21 4 (dk_at dksX2_befell_2 13 rfl rfl)
theorem dX2_befell_60 : decode cX2_befell 60 = .ok (.iconst 1, 1) := dk_4 (dk_at dksX2_befell_2 15 rfl rfl)
theorem dX2_befell_61 : decode cX2_befell 61 = .ok (.invokevirtual 424, 3) := dk_182 1 168 (dk_at dksX2_befell_2 16 rfl rfl)
theorem dX2_befell_64 : decode cX2_befell 64 = .ok (.iload_n 1, 1) := dk_27 (dk_at dksX2_befell_2 19 rfl rfl)
theorem dX2_befell_65 : decode cX2_befell 65 = .ok (.if_icmp .ne 7, 3) := dk_160 0 7 (dk_at dksX2_befell_2 20 rfl rfl)
theorem dX2_befell_68 : decode cX2_befell 68 = .ok (.iconst 1, 1) := dk_4 (dk_at dksX2_befell_2 23 rfl rfl)
theorem dX2_befell_69 : decode cX2_befell 69 = .ok (.goto 4, 3) := dk_167 0 4 (dk_at dksX2_befell_3 0 rfl rfl)
theorem dX2_befell_72 : decode cX2_befell 72 = .ok (.iconst 0, 1) := dk_3 (dk_at dksX2_befell_3 3 rfl rfl)
theorem dX2_befell_73 : decode cX2_befell 73 = .ok (.iadd, 1) := dk_96 (dk_at dksX2_befell_3 4 rfl rfl)
theorem dX2_befell_74 : decode cX2_befell 74 = .ok (.istore_n 3, 1) := dk_62 (dk_at dksX2_befell_3 5 rfl rfl)
theorem dX2_befell_75 : decode cX2_befell 75 = .ok (.iinc 4 1, 3) := dk_132 4 1 (dk_at dksX2_befell_3 6 rfl rfl)
theorem dX2_befell_78 : decode cX2_befell 78 = .ok (.goto (-47), 3) := dk_167 255 209 (dk_at dksX2_befell_3 9 rfl rfl)
theorem dX2_befell_81 : decode cX2_befell 81 = .ok (.iload_n 3, 1) := dk_29 (dk_at dksX2_befell_3 12 rfl rfl)
theorem dX2_befell_82 : decode cX2_befell 82 = .ok (.ireturn, 1) := dk_172 (dk_at dksX2_befell_3 13 rfl rfl)
abbrev cX2_heirs : ByteArray := prog_20_method_111_code
def yX2_heirs : MethodName := ⟨RX2, "heirs", "(I)I"⟩
def dkwX2_heirs_1 : List UInt8 := [167, 0, 4, 2, 172]
abbrev dktX2_heirs_1 : List UInt8 := dkwX2_heirs_1 ++ []
def dkwX2_heirs_0 : List UInt8 := [42, 27, 182, 0, 67, 153, 0, 22, 42, 42, 27, 3, 182, 0, 71, 182, 1, 162, 4, 27, 120, 2, 130, 126]
abbrev dktX2_heirs_0 : List UInt8 := dkwX2_heirs_0 ++ dktX2_heirs_1
theorem dksX2_heirs_0 : cX2_heirs.data.toList.drop 0 = dktX2_heirs_0 := by decide +kernel
theorem dksX2_heirs_1 : cX2_heirs.data.toList.drop 24 = dktX2_heirs_1 := dk_seg dksX2_heirs_0 24 rfl rfl
theorem dX2_heirs_0 : decode cX2_heirs 0 = .ok (.aload_n 0, 1) := dk_42 (dk_at dksX2_heirs_0 0 rfl rfl)
theorem dX2_heirs_1 : decode cX2_heirs 1 = .ok (.iload_n 1, 1) := dk_27 (dk_at dksX2_heirs_0 1 rfl rfl)
theorem dX2_heirs_2 : decode cX2_heirs 2 = .ok (.invokevirtual 67, 3) := dk_182 0 67 (dk_at dksX2_heirs_0 2 rfl rfl)
theorem dX2_heirs_5 : decode cX2_heirs 5 = .ok (.ifCond .eq 22, 3) := dk_153 0 22 (dk_at dksX2_heirs_0 5 rfl rfl)
theorem dX2_heirs_8 : decode cX2_heirs 8 = .ok (.aload_n 0, 1) := dk_42 (dk_at dksX2_heirs_0 8 rfl rfl)
theorem dX2_heirs_9 : decode cX2_heirs 9 = .ok (.aload_n 0, 1) := dk_42 (dk_at dksX2_heirs_0 9 rfl rfl)
theorem dX2_heirs_10 : decode cX2_heirs 10 = .ok (.iload_n 1, 1) := dk_27 (dk_at dksX2_heirs_0 10 rfl rfl)
theorem dX2_heirs_11 : decode cX2_heirs 11 = .ok (.iconst 0, 1) := dk_3 (dk_at dksX2_heirs_0 11 rfl rfl)
theorem dX2_heirs_12 : decode cX2_heirs 12 = .ok (.invokevirtual 71, 3) := dk_182 0 71 (dk_at dksX2_heirs_0 12 rfl rfl)
theorem dX2_heirs_15 : decode cX2_heirs 15 = .ok (.invokevirtual 418, 3) := dk_182 1 162 (dk_at dksX2_heirs_0 15 rfl rfl)
theorem dX2_heirs_18 : decode cX2_heirs 18 = .ok (.iconst 1, 1) := dk_4 (dk_at dksX2_heirs_0 18 rfl rfl)
theorem dX2_heirs_19 : decode cX2_heirs 19 = .ok (.iload_n 1, 1) := dk_27 (dk_at dksX2_heirs_0 19 rfl rfl)
theorem dX2_heirs_20 : decode cX2_heirs 20 = .ok (.ishl, 1) := dk_120 (dk_at dksX2_heirs_0 20 rfl rfl)
theorem dX2_heirs_21 : decode cX2_heirs 21 = .ok (.iconst (-1), 1) := dk_2 (dk_at dksX2_heirs_0 21 rfl rfl)
theorem dX2_heirs_22 : decode cX2_heirs 22 = .ok (.ixor, 1) := dk_130 (dk_at dksX2_heirs_0 22 rfl rfl)
theorem dX2_heirs_23 : decode cX2_heirs 23 = .ok (.iand, 1) := dk_126 (dk_at dksX2_heirs_0 23 rfl rfl)
theorem dX2_heirs_24 : decode cX2_heirs 24 = .ok (.goto 4, 3) := dk_167 0 4 (dk_at dksX2_heirs_1 0 rfl rfl)
theorem dX2_heirs_27 : decode cX2_heirs 27 = .ok (.iconst (-1), 1) := dk_2 (dk_at dksX2_heirs_1 3 rfl rfl)
theorem dX2_heirs_28 : decode cX2_heirs 28 = .ok (.ireturn, 1) := dk_172 (dk_at dksX2_heirs_1 4 rfl rfl)
abbrev cX2_wolves : ByteArray := prog_20_method_112_code
def yX2_wolves : MethodName := ⟨RX2, "wolves", "()I"⟩
def dkwX2_wolves_1 : List UInt8 := [28, 120, 167, 0, 4, 3, 128, 60, 132, 2, 1, 167, 255, 225, 27, 172]
abbrev dktX2_wolves_1 : List UInt8 := dkwX2_wolves_1 ++ []
def dkwX2_wolves_0 : List UInt8 := [3, 60, 3, 61, 28, 42, 180, 0, 7, 4, 46, 162, 0, 27, 27, 42, 28, 182, 1, 102, 153, 0, 9, 4]
abbrev dktX2_wolves_0 : List UInt8 := dkwX2_wolves_0 ++ dktX2_wolves_1
theorem dksX2_wolves_0 : cX2_wolves.data.toList.drop 0 = dktX2_wolves_0 := by decide +kernel
theorem dksX2_wolves_1 : cX2_wolves.data.toList.drop 24 = dktX2_wolves_1 := dk_seg dksX2_wolves_0 24 rfl rfl
theorem dX2_wolves_0 : decode cX2_wolves 0 = .ok (.iconst 0, 1) := dk_3 (dk_at dksX2_wolves_0 0 rfl rfl)
theorem dX2_wolves_1 : decode cX2_wolves 1 = .ok (.istore_n 1, 1) := dk_60 (dk_at dksX2_wolves_0 1 rfl rfl)
theorem dX2_wolves_2 : decode cX2_wolves 2 = .ok (.iconst 0, 1) := dk_3 (dk_at dksX2_wolves_0 2 rfl rfl)
theorem dX2_wolves_3 : decode cX2_wolves 3 = .ok (.istore_n 2, 1) := dk_61 (dk_at dksX2_wolves_0 3 rfl rfl)
theorem dX2_wolves_4 : decode cX2_wolves 4 = .ok (.iload_n 2, 1) := dk_28 (dk_at dksX2_wolves_0 4 rfl rfl)
theorem dX2_wolves_5 : decode cX2_wolves 5 = .ok (.aload_n 0, 1) := dk_42 (dk_at dksX2_wolves_0 5 rfl rfl)
theorem dX2_wolves_6 : decode cX2_wolves 6 = .ok (.getfield 7, 3) := dk_180 0 7 (dk_at dksX2_wolves_0 6 rfl rfl)
theorem dX2_wolves_9 : decode cX2_wolves 9 = .ok (.iconst 1, 1) := dk_4 (dk_at dksX2_wolves_0 9 rfl rfl)
theorem dX2_wolves_10 : decode cX2_wolves 10 = .ok (.iaload, 1) := dk_46 (dk_at dksX2_wolves_0 10 rfl rfl)
theorem dX2_wolves_11 : decode cX2_wolves 11 = .ok (.if_icmp .ge 27, 3) := dk_162 0 27 (dk_at dksX2_wolves_0 11 rfl rfl)
theorem dX2_wolves_14 : decode cX2_wolves 14 = .ok (.iload_n 1, 1) := dk_27 (dk_at dksX2_wolves_0 14 rfl rfl)
theorem dX2_wolves_15 : decode cX2_wolves 15 = .ok (.aload_n 0, 1) := dk_42 (dk_at dksX2_wolves_0 15 rfl rfl)
theorem dX2_wolves_16 : decode cX2_wolves 16 = .ok (.iload_n 2, 1) := dk_28 (dk_at dksX2_wolves_0 16 rfl rfl)
theorem dX2_wolves_17 : decode cX2_wolves 17 = .ok (.invokevirtual 358, 3) := dk_182 1 102 (dk_at dksX2_wolves_0 17 rfl rfl)
theorem dX2_wolves_20 : decode cX2_wolves 20 = .ok (.ifCond .eq 9, 3) := dk_153 0 9 (dk_at dksX2_wolves_0 20 rfl rfl)
theorem dX2_wolves_23 : decode cX2_wolves 23 = .ok (.iconst 1, 1) := dk_4 (dk_at dksX2_wolves_0 23 rfl rfl)
theorem dX2_wolves_24 : decode cX2_wolves 24 = .ok (.iload_n 2, 1) := dk_28 (dk_at dksX2_wolves_1 0 rfl rfl)
theorem dX2_wolves_25 : decode cX2_wolves 25 = .ok (.ishl, 1) := dk_120 (dk_at dksX2_wolves_1 1 rfl rfl)
theorem dX2_wolves_26 : decode cX2_wolves 26 = .ok (.goto 4, 3) := dk_167 0 4 (dk_at dksX2_wolves_1 2 rfl rfl)
theorem dX2_wolves_29 : decode cX2_wolves 29 = .ok (.iconst 0, 1) := dk_3 (dk_at dksX2_wolves_1 5 rfl rfl)
theorem dX2_wolves_30 : decode cX2_wolves 30 = .ok (.ior, 1) := dk_128 (dk_at dksX2_wolves_1 6 rfl rfl)
theorem dX2_wolves_31 : decode cX2_wolves 31 = .ok (.istore_n 1, 1) := dk_60 (dk_at dksX2_wolves_1 7 rfl rfl)
theorem dX2_wolves_32 : decode cX2_wolves 32 = .ok (.iinc 2 1, 3) := dk_132 2 1 (dk_at dksX2_wolves_1 8 rfl rfl)
theorem dX2_wolves_35 : decode cX2_wolves 35 = .ok (.goto (-31), 3) := dk_167 255 225 (dk_at dksX2_wolves_1 11 rfl rfl)
theorem dX2_wolves_38 : decode cX2_wolves 38 = .ok (.iload_n 1, 1) := dk_27 (dk_at dksX2_wolves_1 14 rfl rfl)
theorem dX2_wolves_39 : decode cX2_wolves 39 = .ok (.ireturn, 1) := dk_172 (dk_at dksX2_wolves_1 15 rfl rfl)
abbrev cX2_feared : ByteArray := prog_20_method_113_code
def yX2_feared : MethodName := ⟨RX2, "feared", "()I"⟩
def dkwX2_feared_3 : List UInt8 := [132, 3, 1, 167, 255, 188, 27, 172]
abbrev dktX2_feared_3 : List UInt8 := dkwX2_feared_3 ++ []
def dkwX2_feared_2 : List UInt8 := [2, 130, 126, 133, 184, 1, 12, 54, 4, 21, 4, 28, 163, 0, 6, 167, 0, 8, 21, 4, 61, 29, 60]
abbrev dktX2_feared_2 : List UInt8 := dkwX2_feared_2 ++ dktX2_feared_3
def dkwX2_feared_1 : List UInt8 := [160, 0, 6, 167, 0, 44, 42, 42, 29, 3, 182, 0, 71, 182, 1, 162, 42, 182, 1, 171, 126, 4, 29, 120]
abbrev dktX2_feared_1 : List UInt8 := dkwX2_feared_1 ++ dktX2_feared_2
def dkwX2_feared_0 : List UInt8 := [2, 60, 3, 61, 3, 62, 29, 42, 180, 0, 7, 4, 46, 162, 0, 64, 42, 29, 16, 6, 182, 0, 71, 6]
abbrev dktX2_feared_0 : List UInt8 := dkwX2_feared_0 ++ dktX2_feared_1
theorem dksX2_feared_0 : cX2_feared.data.toList.drop 0 = dktX2_feared_0 := by decide +kernel
theorem dksX2_feared_1 : cX2_feared.data.toList.drop 24 = dktX2_feared_1 := dk_seg dksX2_feared_0 24 rfl rfl
theorem dksX2_feared_2 : cX2_feared.data.toList.drop 48 = dktX2_feared_2 := dk_seg dksX2_feared_1 24 rfl rfl
theorem dksX2_feared_3 : cX2_feared.data.toList.drop 71 = dktX2_feared_3 := dk_seg dksX2_feared_2 23 rfl rfl
theorem dX2_feared_0 : decode cX2_feared 0 = .ok (.iconst (-1), 1) := dk_2 (dk_at dksX2_feared_0 0 rfl rfl)
theorem dX2_feared_1 : decode cX2_feared 1 = .ok (.istore_n 1, 1) := dk_60 (dk_at dksX2_feared_0 1 rfl rfl)
theorem dX2_feared_2 : decode cX2_feared 2 = .ok (.iconst 0, 1) := dk_3 (dk_at dksX2_feared_0 2 rfl rfl)
theorem dX2_feared_3 : decode cX2_feared 3 = .ok (.istore_n 2, 1) := dk_61 (dk_at dksX2_feared_0 3 rfl rfl)
theorem dX2_feared_4 : decode cX2_feared 4 = .ok (.iconst 0, 1) := dk_3 (dk_at dksX2_feared_0 4 rfl rfl)
theorem dX2_feared_5 : decode cX2_feared 5 = .ok (.istore_n 3, 1) := dk_62 (dk_at dksX2_feared_0 5 rfl rfl)
theorem dX2_feared_6 : decode cX2_feared 6 = .ok (.iload_n 3, 1) := dk_29 (dk_at dksX2_feared_0 6 rfl rfl)
theorem dX2_feared_7 : decode cX2_feared 7 = .ok (.aload_n 0, 1) := dk_42 (dk_at dksX2_feared_0 7 rfl rfl)
theorem dX2_feared_8 : decode cX2_feared 8 = .ok (.getfield 7, 3) := dk_180 0 7 (dk_at dksX2_feared_0 8 rfl rfl)
theorem dX2_feared_11 : decode cX2_feared 11 = .ok (.iconst 1, 1) := dk_4 (dk_at dksX2_feared_0 11 rfl rfl)
theorem dX2_feared_12 : decode cX2_feared 12 = .ok (.iaload, 1) := dk_46 (dk_at dksX2_feared_0 12 rfl rfl)
theorem dX2_feared_13 : decode cX2_feared 13 = .ok (.if_icmp .ge 64, 3) := dk_162 0 64 (dk_at dksX2_feared_0 13 rfl rfl)
theorem dX2_feared_16 : decode cX2_feared 16 = .ok (.aload_n 0, 1) := dk_42 (dk_at dksX2_feared_0 16 rfl rfl)
theorem dX2_feared_17 : decode cX2_feared 17 = .ok (.iload_n 3, 1) := dk_29 (dk_at dksX2_feared_0 17 rfl rfl)
theorem dX2_feared_18 : decode cX2_feared 18 = .ok (.bipush 6, 2) := dk_16 6 (dk_at dksX2_feared_0 18 rfl rfl)
theorem dX2_feared_20 : decode cX2_feared 20 = .ok (.invokevirtual 71, 3) := dk_182 0 71 (dk_at dksX2_feared_0 20 rfl rfl)
theorem dX2_feared_23 : decode cX2_feared 23 = .ok (.iconst 3, 1) := dk_6 (dk_at dksX2_feared_0 23 rfl rfl)
theorem dX2_feared_24 : decode cX2_feared 24 = .ok (.if_icmp .ne 6, 3) := dk_160 0 6 (dk_at dksX2_feared_1 0 rfl rfl)
theorem dX2_feared_27 : decode cX2_feared 27 = .ok (.goto 44, 3) := dk_167 0 44 (dk_at dksX2_feared_1 3 rfl rfl)
theorem dX2_feared_30 : decode cX2_feared 30 = .ok (.aload_n 0, 1) := dk_42 (dk_at dksX2_feared_1 6 rfl rfl)
theorem dX2_feared_31 : decode cX2_feared 31 = .ok (.aload_n 0, 1) := dk_42 (dk_at dksX2_feared_1 7 rfl rfl)
theorem dX2_feared_32 : decode cX2_feared 32 = .ok (.iload_n 3, 1) := dk_29 (dk_at dksX2_feared_1 8 rfl rfl)
theorem dX2_feared_33 : decode cX2_feared 33 = .ok (.iconst 0, 1) := dk_3 (dk_at dksX2_feared_1 9 rfl rfl)
theorem dX2_feared_34 : decode cX2_feared 34 = .ok (.invokevirtual 71, 3) := dk_182 0 71 (dk_at dksX2_feared_1 10 rfl rfl)
theorem dX2_feared_37 : decode cX2_feared 37 = .ok (.invokevirtual 418, 3) := dk_182 1 162 (dk_at dksX2_feared_1 13 rfl rfl)
theorem dX2_feared_40 : decode cX2_feared 40 = .ok (.aload_n 0, 1) := dk_42 (dk_at dksX2_feared_1 16 rfl rfl)
theorem dX2_feared_41 : decode cX2_feared 41 = .ok (.invokevirtual 427, 3) := dk_182 1 171 (dk_at dksX2_feared_1 17 rfl rfl)
theorem dX2_feared_44 : decode cX2_feared 44 = .ok (.iand, 1) := dk_126 (dk_at dksX2_feared_1 20 rfl rfl)
theorem dX2_feared_45 : decode cX2_feared 45 = .ok (.iconst 1, 1) := dk_4 (dk_at dksX2_feared_1 21 rfl rfl)
theorem dX2_feared_46 : decode cX2_feared 46 = .ok (.iload_n 3, 1) := dk_29 (dk_at dksX2_feared_1 22 rfl rfl)
theorem dX2_feared_47 : decode cX2_feared 47 = .ok (.ishl, 1) := dk_120 (dk_at dksX2_feared_1 23 rfl rfl)
theorem dX2_feared_48 : decode cX2_feared 48 = .ok (.iconst (-1), 1) := dk_2 (dk_at dksX2_feared_2 0 rfl rfl)
theorem dX2_feared_49 : decode cX2_feared 49 = .ok (.ixor, 1) := dk_130 (dk_at dksX2_feared_2 1 rfl rfl)
theorem dX2_feared_50 : decode cX2_feared 50 = .ok (.iand, 1) := dk_126 (dk_at dksX2_feared_2 2 rfl rfl)
theorem dX2_feared_51 : decode cX2_feared 51 = .ok (.i2l, 1) := dk_133 (dk_at dksX2_feared_2 3 rfl rfl)
theorem dX2_feared_52 : decode cX2_feared 52 = .ok (.invokestatic 268, 3) := dk_184 1 12 (dk_at dksX2_feared_2 4 rfl rfl)
theorem dX2_feared_55 : decode cX2_feared 55 = .ok (.istore 4, 2) := dk_54 4 (dk_at dksX2_feared_2 7 rfl rfl)
theorem dX2_feared_57 : decode cX2_feared 57 = .ok (.iload 4, 2) := dk_21 4 (dk_at dksX2_feared_2 9 rfl rfl)
theorem dX2_feared_59 : decode cX2_feared 59 = .ok (.iload_n 2, 1) := dk_28 (dk_at dksX2_feared_2 11 rfl rfl)
theorem dX2_feared_60 : decode cX2_feared 60 = .ok (.if_icmp .gt 6, 3) := dk_163 0 6 (dk_at dksX2_feared_2 12 rfl rfl)
theorem dX2_feared_63 : decode cX2_feared 63 = .ok (.goto 8, 3) := dk_167 0 8 (dk_at dksX2_feared_2 15 rfl rfl)
theorem dX2_feared_66 : decode cX2_feared 66 = .ok (.iload 4, 2) := dk_21 4 (dk_at dksX2_feared_2 18 rfl rfl)
theorem dX2_feared_68 : decode cX2_feared 68 = .ok (.istore_n 2, 1) := dk_61 (dk_at dksX2_feared_2 20 rfl rfl)
theorem dX2_feared_69 : decode cX2_feared 69 = .ok (.iload_n 3, 1) := dk_29 (dk_at dksX2_feared_2 21 rfl rfl)
theorem dX2_feared_70 : decode cX2_feared 70 = .ok (.istore_n 1, 1) := dk_60 (dk_at dksX2_feared_2 22 rfl rfl)
theorem dX2_feared_71 : decode cX2_feared 71 = .ok (.iinc 3 1, 3) := dk_132 3 1 (dk_at dksX2_feared_3 0 rfl rfl)
theorem dX2_feared_74 : decode cX2_feared 74 = .ok (.goto (-68), 3) := dk_167 255 188 (dk_at dksX2_feared_3 3 rfl rfl)
theorem dX2_feared_77 : decode cX2_feared 77 = .ok (.iload_n 1, 1) := dk_27 (dk_at dksX2_feared_3 6 rfl rfl)
theorem dX2_feared_78 : decode cX2_feared 78 = .ok (.ireturn, 1) := dk_172 (dk_at dksX2_feared_3 7 rfl rfl)
abbrev cX2_foretold : ByteArray := prog_20_method_116_code
def yX2_foretold : MethodName := ⟨RX2, "foretold", "(IIZ)I"⟩
def dkwX2_foretold_3 : List UInt8 := [54, 4, 42, 182, 1, 177, 21, 4, 172]
abbrev dktX2_foretold_3 : List UInt8 := dkwX2_foretold_3 ++ []
def dkwX2_foretold_2 : List UInt8 := [182, 1, 126, 132, 4, 1, 167, 255, 230, 42, 28, 29, 153, 0, 7, 4, 167, 0, 5, 16, 6, 182, 0, 71]
abbrev dktX2_foretold_2 : List UInt8 := dkwX2_foretold_2 ++ dktX2_foretold_3
def dkwX2_foretold_1 : List UInt8 := [3, 54, 4, 21, 4, 27, 162, 0, 26, 42, 180, 0, 7, 16, 10, 46, 17, 39, 15, 162, 0, 7, 42]
abbrev dktX2_foretold_1 : List UInt8 := dkwX2_foretold_1 ++ dktX2_foretold_2
def dkwX2_foretold_0 : List UInt8 := [27, 4, 16, 60, 184, 0, 63, 153, 0, 11, 42, 28, 182, 0, 67, 154, 0, 5, 2, 172, 42, 182, 1, 174]
abbrev dktX2_foretold_0 : List UInt8 := dkwX2_foretold_0 ++ dktX2_foretold_1
theorem dksX2_foretold_0 : cX2_foretold.data.toList.drop 0 = dktX2_foretold_0 := by decide +kernel
theorem dksX2_foretold_1 : cX2_foretold.data.toList.drop 24 = dktX2_foretold_1 := dk_seg dksX2_foretold_0 24 rfl rfl
theorem dksX2_foretold_2 : cX2_foretold.data.toList.drop 47 = dktX2_foretold_2 := dk_seg dksX2_foretold_1 23 rfl rfl
theorem dksX2_foretold_3 : cX2_foretold.data.toList.drop 71 = dktX2_foretold_3 := dk_seg dksX2_foretold_2 24 rfl rfl
theorem dX2_foretold_0 : decode cX2_foretold 0 = .ok (.iload_n 1, 1) := dk_27 (dk_at dksX2_foretold_0 0 rfl rfl)
theorem dX2_foretold_1 : decode cX2_foretold 1 = .ok (.iconst 1, 1) := dk_4 (dk_at dksX2_foretold_0 1 rfl rfl)
theorem dX2_foretold_2 : decode cX2_foretold 2 = .ok (.bipush 60, 2) := dk_16 60 (dk_at dksX2_foretold_0 2 rfl rfl)
theorem dX2_foretold_4 : decode cX2_foretold 4 = .ok (.invokestatic 63, 3) := dk_184 0 63 (dk_at dksX2_foretold_0 4 rfl rfl)
theorem dX2_foretold_7 : decode cX2_foretold 7 = .ok (.ifCond .eq 11, 3) := dk_153 0 11 (dk_at dksX2_foretold_0 7 rfl rfl)
theorem dX2_foretold_10 : decode cX2_foretold 10 = .ok (.aload_n 0, 1) := dk_42 (dk_at dksX2_foretold_0 10 rfl rfl)
theorem dX2_foretold_11 : decode cX2_foretold 11 = .ok (.iload_n 2, 1) := dk_28 (dk_at dksX2_foretold_0 11 rfl rfl)
theorem dX2_foretold_12 : decode cX2_foretold 12 = .ok (.invokevirtual 67, 3) := dk_182 0 67 (dk_at dksX2_foretold_0 12 rfl rfl)
theorem dX2_foretold_15 : decode cX2_foretold 15 = .ok (.ifCond .ne 5, 3) := dk_154 0 5 (dk_at dksX2_foretold_0 15 rfl rfl)
theorem dX2_foretold_18 : decode cX2_foretold 18 = .ok (.iconst (-1), 1) := dk_2 (dk_at dksX2_foretold_0 18 rfl rfl)
theorem dX2_foretold_19 : decode cX2_foretold 19 = .ok (.ireturn, 1) := dk_172 (dk_at dksX2_foretold_0 19 rfl rfl)
theorem dX2_foretold_20 : decode cX2_foretold 20 = .ok (.aload_n 0, 1) := dk_42 (dk_at dksX2_foretold_0 20 rfl rfl)
theorem dX2_foretold_21 : decode cX2_foretold 21 = .ok (.invokevirtual 430, 3) := dk_182 1 174 (dk_at dksX2_foretold_0 21 rfl rfl)
theorem dX2_foretold_24 : decode cX2_foretold 24 = .ok (.iconst 0, 1) := dk_3 (dk_at dksX2_foretold_1 0 rfl rfl)
theorem dX2_foretold_25 : decode cX2_foretold 25 = .ok (.istore 4, 2) := dk_54 4 (dk_at dksX2_foretold_1 1 rfl rfl)
theorem dX2_foretold_27 : decode cX2_foretold 27 = .ok (.iload 4, 2) := dk_21 4 (dk_at dksX2_foretold_1 3 rfl rfl)
theorem dX2_foretold_29 : decode cX2_foretold 29 = .ok (.iload_n 1, 1) := dk_27 (dk_at dksX2_foretold_1 5 rfl rfl)
theorem dX2_foretold_30 : decode cX2_foretold 30 = .ok (.if_icmp .ge 26, 3) := dk_162 0 26 (dk_at dksX2_foretold_1 6 rfl rfl)
theorem dX2_foretold_33 : decode cX2_foretold 33 = .ok (.aload_n 0, 1) := dk_42 (dk_at dksX2_foretold_1 9 rfl rfl)
theorem dX2_foretold_34 : decode cX2_foretold 34 = .ok (.getfield 7, 3) := dk_180 0 7 (dk_at dksX2_foretold_1 10 rfl rfl)
theorem dX2_foretold_37 : decode cX2_foretold 37 = .ok (.bipush 10, 2) := dk_16 10 (dk_at dksX2_foretold_1 13 rfl rfl)
theorem dX2_foretold_39 : decode cX2_foretold 39 = .ok (.iaload, 1) := dk_46 (dk_at dksX2_foretold_1 15 rfl rfl)
theorem dX2_foretold_40 : decode cX2_foretold 40 = .ok (.sipush 9999, 3) := dk_17 39 15 (dk_at dksX2_foretold_1 16 rfl rfl)
theorem dX2_foretold_43 : decode cX2_foretold 43 = .ok (.if_icmp .ge 7, 3) := dk_162 0 7 (dk_at dksX2_foretold_1 19 rfl rfl)
theorem dX2_foretold_46 : decode cX2_foretold 46 = .ok (.aload_n 0, 1) := dk_42 (dk_at dksX2_foretold_1 22 rfl rfl)
theorem dX2_foretold_47 : decode cX2_foretold 47 = .ok (.invokevirtual 382, 3) := dk_182 1 126 (dk_at dksX2_foretold_2 0 rfl rfl)
theorem dX2_foretold_50 : decode cX2_foretold 50 = .ok (.iinc 4 1, 3) := dk_132 4 1 (dk_at dksX2_foretold_2 3 rfl rfl)
theorem dX2_foretold_53 : decode cX2_foretold 53 = .ok (.goto (-26), 3) := dk_167 255 230 (dk_at dksX2_foretold_2 6 rfl rfl)
theorem dX2_foretold_56 : decode cX2_foretold 56 = .ok (.aload_n 0, 1) := dk_42 (dk_at dksX2_foretold_2 9 rfl rfl)
theorem dX2_foretold_57 : decode cX2_foretold 57 = .ok (.iload_n 2, 1) := dk_28 (dk_at dksX2_foretold_2 10 rfl rfl)
theorem dX2_foretold_58 : decode cX2_foretold 58 = .ok (.iload_n 3, 1) := dk_29 (dk_at dksX2_foretold_2 11 rfl rfl)
theorem dX2_foretold_59 : decode cX2_foretold 59 = .ok (.ifCond .eq 7, 3) := dk_153 0 7 (dk_at dksX2_foretold_2 12 rfl rfl)
theorem dX2_foretold_62 : decode cX2_foretold 62 = .ok (.iconst 1, 1) := dk_4 (dk_at dksX2_foretold_2 15 rfl rfl)
theorem dX2_foretold_63 : decode cX2_foretold 63 = .ok (.goto 5, 3) := dk_167 0 5 (dk_at dksX2_foretold_2 16 rfl rfl)
theorem dX2_foretold_66 : decode cX2_foretold 66 = .ok (.bipush 6, 2) := dk_16 6 (dk_at dksX2_foretold_2 19 rfl rfl)
theorem dX2_foretold_68 : decode cX2_foretold 68 = .ok (.invokevirtual 71, 3) := dk_182 0 71 (dk_at dksX2_foretold_2 21 rfl rfl)
theorem dX2_foretold_71 : decode cX2_foretold 71 = .ok (.istore 4, 2) := dk_54 4 (dk_at dksX2_foretold_3 0 rfl rfl)
theorem dX2_foretold_73 : decode cX2_foretold 73 = .ok (.aload_n 0, 1) := dk_42 (dk_at dksX2_foretold_3 2 rfl rfl)
theorem dX2_foretold_74 : decode cX2_foretold 74 = .ok (.invokevirtual 433, 3) := dk_182 1 177 (dk_at dksX2_foretold_3 3 rfl rfl)
theorem dX2_foretold_77 : decode cX2_foretold 77 = .ok (.iload 4, 2) := dk_21 4 (dk_at dksX2_foretold_3 6 rfl rfl)
theorem dX2_foretold_79 : decode cX2_foretold 79 = .ok (.ireturn, 1) := dk_172 (dk_at dksX2_foretold_3 8 rfl rfl)
abbrev cX2_setAside : ByteArray := prog_20_method_114_code
def yX2_setAside : MethodName := ⟨RX2, "setAside", "()V"⟩
def dkwX2_setAside_1 : List UInt8 := [167, 255, 235, 42, 3, 181, 0, 43, 177]
abbrev dktX2_setAside_1 : List UInt8 := dkwX2_setAside_1 ++ []
def dkwX2_setAside_0 : List UInt8 := [16, 10, 60, 27, 16, 80, 162, 0, 21, 42, 180, 0, 47, 27, 42, 180, 0, 7, 27, 46, 79, 132, 1, 1]
abbrev dktX2_setAside_0 : List UInt8 := dkwX2_setAside_0 ++ dktX2_setAside_1
theorem dksX2_setAside_0 : cX2_setAside.data.toList.drop 0 = dktX2_setAside_0 := by decide +kernel
theorem dksX2_setAside_1 : cX2_setAside.data.toList.drop 24 = dktX2_setAside_1 := dk_seg dksX2_setAside_0 24 rfl rfl
theorem dX2_setAside_0 : decode cX2_setAside 0 = .ok (.bipush 10, 2) := dk_16 10 (dk_at dksX2_setAside_0 0 rfl rfl)
theorem dX2_setAside_2 : decode cX2_setAside 2 = .ok (.istore_n 1, 1) := dk_60 (dk_at dksX2_setAside_0 2 rfl rfl)
theorem dX2_setAside_3 : decode cX2_setAside 3 = .ok (.iload_n 1, 1) := dk_27 (dk_at dksX2_setAside_0 3 rfl rfl)
theorem dX2_setAside_4 : decode cX2_setAside 4 = .ok (.bipush 80, 2) := dk_16 80 (dk_at dksX2_setAside_0 4 rfl rfl)
theorem dX2_setAside_6 : decode cX2_setAside 6 = .ok (.if_icmp .ge 21, 3) := dk_162 0 21 (dk_at dksX2_setAside_0 6 rfl rfl)
theorem dX2_setAside_9 : decode cX2_setAside 9 = .ok (.aload_n 0, 1) := dk_42 (dk_at dksX2_setAside_0 9 rfl rfl)
theorem dX2_setAside_10 : decode cX2_setAside 10 = .ok (.getfield 47, 3) := dk_180 0 47 (dk_at dksX2_setAside_0 10 rfl rfl)
theorem dX2_setAside_13 : decode cX2_setAside 13 = .ok (.iload_n 1, 1) := dk_27 (dk_at dksX2_setAside_0 13 rfl rfl)
theorem dX2_setAside_14 : decode cX2_setAside 14 = .ok (.aload_n 0, 1) := dk_42 (dk_at dksX2_setAside_0 14 rfl rfl)
theorem dX2_setAside_15 : decode cX2_setAside 15 = .ok (.getfield 7, 3) := dk_180 0 7 (dk_at dksX2_setAside_0 15 rfl rfl)
theorem dX2_setAside_18 : decode cX2_setAside 18 = .ok (.iload_n 1, 1) := dk_27 (dk_at dksX2_setAside_0 18 rfl rfl)
theorem dX2_setAside_19 : decode cX2_setAside 19 = .ok (.iaload, 1) := dk_46 (dk_at dksX2_setAside_0 19 rfl rfl)
theorem dX2_setAside_20 : decode cX2_setAside 20 = .ok (.iastore, 1) := dk_79 (dk_at dksX2_setAside_0 20 rfl rfl)
theorem dX2_setAside_21 : decode cX2_setAside 21 = .ok (.iinc 1 1, 3) := dk_132 1 1 (dk_at dksX2_setAside_0 21 rfl rfl)
theorem dX2_setAside_24 : decode cX2_setAside 24 = .ok (.goto (-21), 3) := dk_167 255 235 (dk_at dksX2_setAside_1 0 rfl rfl)
theorem dX2_setAside_27 : decode cX2_setAside 27 = .ok (.aload_n 0, 1) := dk_42 (dk_at dksX2_setAside_1 3 rfl rfl)
theorem dX2_setAside_28 : decode cX2_setAside 28 = .ok (.iconst 0, 1) := dk_3 (dk_at dksX2_setAside_1 4 rfl rfl)
theorem dX2_setAside_29 : decode cX2_setAside 29 = .ok (.putfield 43, 3) := dk_181 0 43 (dk_at dksX2_setAside_1 5 rfl rfl)
theorem dX2_setAside_32 : decode cX2_setAside 32 = .ok (.return_, 1) := dk_177 (dk_at dksX2_setAside_1 8 rfl rfl)
abbrev cX2_putBack : ByteArray := prog_20_method_115_code
def yX2_putBack : MethodName := ⟨RX2, "putBack", "()V"⟩
def dkwX2_putBack_1 : List UInt8 := [167, 255, 235, 42, 4, 181, 0, 43, 177]
abbrev dktX2_putBack_1 : List UInt8 := dkwX2_putBack_1 ++ []
def dkwX2_putBack_0 : List UInt8 := [16, 10, 60, 27, 16, 80, 162, 0, 21, 42, 180, 0, 7, 27, 42, 180, 0, 47, 27, 46, 79, 132, 1, 1]
abbrev dktX2_putBack_0 : List UInt8 := dkwX2_putBack_0 ++ dktX2_putBack_1
theorem dksX2_putBack_0 : cX2_putBack.data.toList.drop 0 = dktX2_putBack_0 := by decide +kernel
theorem dksX2_putBack_1 : cX2_putBack.data.toList.drop 24 = dktX2_putBack_1 := dk_seg dksX2_putBack_0 24 rfl rfl
theorem dX2_putBack_0 : decode cX2_putBack 0 = .ok (.bipush 10, 2) := dk_16 10 (dk_at dksX2_putBack_0 0 rfl rfl)
theorem dX2_putBack_2 : decode cX2_putBack 2 = .ok (.istore_n 1, 1) := dk_60 (dk_at dksX2_putBack_0 2 rfl rfl)
theorem dX2_putBack_3 : decode cX2_putBack 3 = .ok (.iload_n 1, 1) := dk_27 (dk_at dksX2_putBack_0 3 rfl rfl)
theorem dX2_putBack_4 : decode cX2_putBack 4 = .ok (.bipush 80, 2) := dk_16 80 (dk_at dksX2_putBack_0 4 rfl rfl)
theorem dX2_putBack_6 : decode cX2_putBack 6 = .ok (.if_icmp .ge 21, 3) := dk_162 0 21 (dk_at dksX2_putBack_0 6 rfl rfl)
theorem dX2_putBack_9 : decode cX2_putBack 9 = .ok (.aload_n 0, 1) := dk_42 (dk_at dksX2_putBack_0 9 rfl rfl)
theorem dX2_putBack_10 : decode cX2_putBack 10 = .ok (.getfield 7, 3) := dk_180 0 7 (dk_at dksX2_putBack_0 10 rfl rfl)
theorem dX2_putBack_13 : decode cX2_putBack 13 = .ok (.iload_n 1, 1) := dk_27 (dk_at dksX2_putBack_0 13 rfl rfl)
theorem dX2_putBack_14 : decode cX2_putBack 14 = .ok (.aload_n 0, 1) := dk_42 (dk_at dksX2_putBack_0 14 rfl rfl)
theorem dX2_putBack_15 : decode cX2_putBack 15 = .ok (.getfield 47, 3) := dk_180 0 47 (dk_at dksX2_putBack_0 15 rfl rfl)
theorem dX2_putBack_18 : decode cX2_putBack 18 = .ok (.iload_n 1, 1) := dk_27 (dk_at dksX2_putBack_0 18 rfl rfl)
theorem dX2_putBack_19 : decode cX2_putBack 19 = .ok (.iaload, 1) := dk_46 (dk_at dksX2_putBack_0 19 rfl rfl)
theorem dX2_putBack_20 : decode cX2_putBack 20 = .ok (.iastore, 1) := dk_79 (dk_at dksX2_putBack_0 20 rfl rfl)
theorem dX2_putBack_21 : decode cX2_putBack 21 = .ok (.iinc 1 1, 3) := dk_132 1 1 (dk_at dksX2_putBack_0 21 rfl rfl)
theorem dX2_putBack_24 : decode cX2_putBack 24 = .ok (.goto (-21), 3) := dk_167 255 235 (dk_at dksX2_putBack_1 0 rfl rfl)
theorem dX2_putBack_27 : decode cX2_putBack 27 = .ok (.aload_n 0, 1) := dk_42 (dk_at dksX2_putBack_1 3 rfl rfl)
theorem dX2_putBack_28 : decode cX2_putBack 28 = .ok (.iconst 1, 1) := dk_4 (dk_at dksX2_putBack_1 4 rfl rfl)
theorem dX2_putBack_29 : decode cX2_putBack 29 = .ok (.putfield 43, 3) := dk_181 0 43 (dk_at dksX2_putBack_1 5 rfl rfl)
theorem dX2_putBack_32 : decode cX2_putBack 32 = .ok (.return_, 1) := dk_177 (dk_at dksX2_putBack_1 8 rfl rfl)
abbrev cX2_toPay : ByteArray := prog_20_method_117_code
def yX2_toPay : MethodName := ⟨RX2, "toPay", "(II)I"⟩
def dkwX2_toPay_3 : List UInt8 := [132, 4, 1, 167, 255, 209, 42, 182, 1, 177, 29, 172]
abbrev dktX2_toPay_3 : List UInt8 := dkwX2_toPay_3 ++ []
def dkwX2_toPay_2 : List UInt8 := [21, 4, 62, 42, 180, 0, 7, 16, 10, 46, 17, 39, 15, 160, 0, 6, 167, 0, 13, 42, 182, 1, 126]
abbrev dktX2_toPay_2 : List UInt8 := dkwX2_toPay_2 ++ dktX2_toPay_3
def dkwX2_toPay_1 : List UInt8 := [3, 54, 4, 21, 4, 16, 60, 163, 0, 46, 29, 2, 160, 0, 41, 42, 27, 28, 182, 1, 120, 153, 0, 6]
abbrev dktX2_toPay_1 : List UInt8 := dkwX2_toPay_1 ++ dktX2_toPay_2
def dkwX2_toPay_0 : List UInt8 := [42, 27, 182, 0, 67, 153, 0, 11, 42, 28, 182, 0, 67, 154, 0, 5, 2, 172, 42, 182, 1, 174, 2, 62]
abbrev dktX2_toPay_0 : List UInt8 := dkwX2_toPay_0 ++ dktX2_toPay_1
theorem dksX2_toPay_0 : cX2_toPay.data.toList.drop 0 = dktX2_toPay_0 := by decide +kernel
theorem dksX2_toPay_1 : cX2_toPay.data.toList.drop 24 = dktX2_toPay_1 := dk_seg dksX2_toPay_0 24 rfl rfl
theorem dksX2_toPay_2 : cX2_toPay.data.toList.drop 48 = dktX2_toPay_2 := dk_seg dksX2_toPay_1 24 rfl rfl
theorem dksX2_toPay_3 : cX2_toPay.data.toList.drop 71 = dktX2_toPay_3 := dk_seg dksX2_toPay_2 23 rfl rfl
theorem dX2_toPay_0 : decode cX2_toPay 0 = .ok (.aload_n 0, 1) := dk_42 (dk_at dksX2_toPay_0 0 rfl rfl)
theorem dX2_toPay_1 : decode cX2_toPay 1 = .ok (.iload_n 1, 1) := dk_27 (dk_at dksX2_toPay_0 1 rfl rfl)
theorem dX2_toPay_2 : decode cX2_toPay 2 = .ok (.invokevirtual 67, 3) := dk_182 0 67 (dk_at dksX2_toPay_0 2 rfl rfl)
theorem dX2_toPay_5 : decode cX2_toPay 5 = .ok (.ifCond .eq 11, 3) := dk_153 0 11 (dk_at dksX2_toPay_0 5 rfl rfl)
theorem dX2_toPay_8 : decode cX2_toPay 8 = .ok (.aload_n 0, 1) := dk_42 (dk_at dksX2_toPay_0 8 rfl rfl)
theorem dX2_toPay_9 : decode cX2_toPay 9 = .ok (.iload_n 2, 1) := dk_28 (dk_at dksX2_toPay_0 9 rfl rfl)
theorem dX2_toPay_10 : decode cX2_toPay 10 = .ok (.invokevirtual 67, 3) := dk_182 0 67 (dk_at dksX2_toPay_0 10 rfl rfl)
theorem dX2_toPay_13 : decode cX2_toPay 13 = .ok (.ifCond .ne 5, 3) := dk_154 0 5 (dk_at dksX2_toPay_0 13 rfl rfl)
theorem dX2_toPay_16 : decode cX2_toPay 16 = .ok (.iconst (-1), 1) := dk_2 (dk_at dksX2_toPay_0 16 rfl rfl)
theorem dX2_toPay_17 : decode cX2_toPay 17 = .ok (.ireturn, 1) := dk_172 (dk_at dksX2_toPay_0 17 rfl rfl)
theorem dX2_toPay_18 : decode cX2_toPay 18 = .ok (.aload_n 0, 1) := dk_42 (dk_at dksX2_toPay_0 18 rfl rfl)
theorem dX2_toPay_19 : decode cX2_toPay 19 = .ok (.invokevirtual 430, 3) := dk_182 1 174 (dk_at dksX2_toPay_0 19 rfl rfl)
theorem dX2_toPay_22 : decode cX2_toPay 22 = .ok (.iconst (-1), 1) := dk_2 (dk_at dksX2_toPay_0 22 rfl rfl)
theorem dX2_toPay_23 : decode cX2_toPay 23 = .ok (.istore_n 3, 1) := dk_62 (dk_at dksX2_toPay_0 23 rfl rfl)
theorem dX2_toPay_24 : decode cX2_toPay 24 = .ok (.iconst 0, 1) := dk_3 (dk_at dksX2_toPay_1 0 rfl rfl)
theorem dX2_toPay_25 : decode cX2_toPay 25 = .ok (.istore 4, 2) := dk_54 4 (dk_at dksX2_toPay_1 1 rfl rfl)
theorem dX2_toPay_27 : decode cX2_toPay 27 = .ok (.iload 4, 2) := dk_21 4 (dk_at dksX2_toPay_1 3 rfl rfl)
theorem dX2_toPay_29 : decode cX2_toPay 29 = .ok (.bipush 60, 2) := dk_16 60 (dk_at dksX2_toPay_1 5 rfl rfl)
theorem dX2_toPay_31 : decode cX2_toPay 31 = .ok (.if_icmp .gt 46, 3) := dk_163 0 46 (dk_at dksX2_toPay_1 7 rfl rfl)
theorem dX2_toPay_34 : decode cX2_toPay 34 = .ok (.iload_n 3, 1) := dk_29 (dk_at dksX2_toPay_1 10 rfl rfl)
theorem dX2_toPay_35 : decode cX2_toPay 35 = .ok (.iconst (-1), 1) := dk_2 (dk_at dksX2_toPay_1 11 rfl rfl)
theorem dX2_toPay_36 : decode cX2_toPay 36 = .ok (.if_icmp .ne 41, 3) := dk_160 0 41 (dk_at dksX2_toPay_1 12 rfl rfl)
theorem dX2_toPay_39 : decode cX2_toPay 39 = .ok (.aload_n 0, 1) := dk_42 (dk_at dksX2_toPay_1 15 rfl rfl)
theorem dX2_toPay_40 : decode cX2_toPay 40 = .ok (.iload_n 1, 1) := dk_27 (dk_at dksX2_toPay_1 16 rfl rfl)
theorem dX2_toPay_41 : decode cX2_toPay 41 = .ok (.iload_n 2, 1) := dk_28 (dk_at dksX2_toPay_1 17 rfl rfl)
theorem dX2_toPay_42 : decode cX2_toPay 42 = .ok (.invokevirtual 376, 3) := dk_182 1 120 (dk_at dksX2_toPay_1 18 rfl rfl)
theorem dX2_toPay_45 : decode cX2_toPay 45 = .ok (.ifCond .eq 6, 3) := dk_153 0 6 (dk_at dksX2_toPay_1 21 rfl rfl)
theorem dX2_toPay_48 : decode cX2_toPay 48 = .ok (.iload 4, 2) := dk_21 4 (dk_at dksX2_toPay_2 0 rfl rfl)
theorem dX2_toPay_50 : decode cX2_toPay 50 = .ok (.istore_n 3, 1) := dk_62 (dk_at dksX2_toPay_2 2 rfl rfl)
theorem dX2_toPay_51 : decode cX2_toPay 51 = .ok (.aload_n 0, 1) := dk_42 (dk_at dksX2_toPay_2 3 rfl rfl)
theorem dX2_toPay_52 : decode cX2_toPay 52 = .ok (.getfield 7, 3) := dk_180 0 7 (dk_at dksX2_toPay_2 4 rfl rfl)
theorem dX2_toPay_55 : decode cX2_toPay 55 = .ok (.bipush 10, 2) := dk_16 10 (dk_at dksX2_toPay_2 7 rfl rfl)
theorem dX2_toPay_57 : decode cX2_toPay 57 = .ok (.iaload, 1) := dk_46 (dk_at dksX2_toPay_2 9 rfl rfl)
theorem dX2_toPay_58 : decode cX2_toPay 58 = .ok (.sipush 9999, 3) := dk_17 39 15 (dk_at dksX2_toPay_2 10 rfl rfl)
theorem dX2_toPay_61 : decode cX2_toPay 61 = .ok (.if_icmp .ne 6, 3) := dk_160 0 6 (dk_at dksX2_toPay_2 13 rfl rfl)
theorem dX2_toPay_64 : decode cX2_toPay 64 = .ok (.goto 13, 3) := dk_167 0 13 (dk_at dksX2_toPay_2 16 rfl rfl)
theorem dX2_toPay_67 : decode cX2_toPay 67 = .ok (.aload_n 0, 1) := dk_42 (dk_at dksX2_toPay_2 19 rfl rfl)
theorem dX2_toPay_68 : decode cX2_toPay 68 = .ok (.invokevirtual 382, 3) := dk_182 1 126 (dk_at dksX2_toPay_2 20 rfl rfl)
theorem dX2_toPay_71 : decode cX2_toPay 71 = .ok (.iinc 4 1, 3) := dk_132 4 1 (dk_at dksX2_toPay_3 0 rfl rfl)
theorem dX2_toPay_74 : decode cX2_toPay 74 = .ok (.goto (-47), 3) := dk_167 255 209 (dk_at dksX2_toPay_3 3 rfl rfl)
theorem dX2_toPay_77 : decode cX2_toPay 77 = .ok (.aload_n 0, 1) := dk_42 (dk_at dksX2_toPay_3 6 rfl rfl)
theorem dX2_toPay_78 : decode cX2_toPay 78 = .ok (.invokevirtual 433, 3) := dk_182 1 177 (dk_at dksX2_toPay_3 7 rfl rfl)
theorem dX2_toPay_81 : decode cX2_toPay 81 = .ok (.iload_n 3, 1) := dk_29 (dk_at dksX2_toPay_3 10 rfl rfl)
theorem dX2_toPay_82 : decode cX2_toPay 82 = .ok (.ireturn, 1) := dk_172 (dk_at dksX2_toPay_3 11 rfl rfl)
abbrev cX2_surest : ByteArray := prog_20_method_123_code
def yX2_surest : MethodName := ⟨RX2, "surest", "(III)I"⟩
def dkwX2_surest_6 : List UInt8 := [100, 182, 1, 183, 54, 4, 132, 7, 1, 167, 255, 221, 21, 4, 172]
abbrev dktX2_surest_6 : List UInt8 := dkwX2_surest_6 ++ []
def dkwX2_surest_5 : List UInt8 := [29, 163, 0, 35, 21, 5, 154, 0, 12, 42, 21, 4, 182, 1, 192, 167, 0, 13, 42, 21, 4, 28, 21, 7]
abbrev dktX2_surest_5 : List UInt8 := dkwX2_surest_5 ++ dktX2_surest_6
def dkwX2_surest_4 : List UInt8 := [160, 0, 8, 21, 5, 167, 0, 5, 21, 6, 21, 5, 21, 6, 184, 1, 189, 108, 172, 3, 54, 7, 21, 7]
abbrev dktX2_surest_4 : List UInt8 := dkwX2_surest_4 ++ dktX2_surest_5
def dkwX2_surest_3 : List UInt8 := [162, 0, 16, 21, 6, 16, 10, 104, 54, 6, 132, 7, 1, 167, 255, 240, 29, 156, 0, 25, 29, 16, 254]
abbrev dktX2_surest_3 : List UInt8 := dkwX2_surest_3 ++ dktX2_surest_4
def dkwX2_surest_2 : List UInt8 := [180, 0, 50, 16, 8, 28, 104, 21, 4, 96, 46, 54, 5, 4, 54, 6, 3, 54, 7, 21, 7, 28]
abbrev dktX2_surest_2 : List UInt8 := dkwX2_surest_2 ++ dktX2_surest_3
def dkwX2_surest_1 : List UInt8 := [184, 0, 63, 154, 0, 6, 16, 253, 172, 42, 27, 28, 182, 1, 186, 42, 27, 3, 182, 0, 71, 54, 4, 42]
abbrev dktX2_surest_1 : List UInt8 := dkwX2_surest_1 ++ dktX2_surest_2
def dkwX2_surest_0 : List UInt8 := [42, 27, 182, 1, 102, 153, 0, 25, 28, 4, 16, 6, 184, 0, 63, 153, 0, 15, 29, 16, 254, 28, 4, 100]
abbrev dktX2_surest_0 : List UInt8 := dkwX2_surest_0 ++ dktX2_surest_1
theorem dksX2_surest_0 : cX2_surest.data.toList.drop 0 = dktX2_surest_0 := by decide +kernel
theorem dksX2_surest_1 : cX2_surest.data.toList.drop 24 = dktX2_surest_1 := dk_seg dksX2_surest_0 24 rfl rfl
theorem dksX2_surest_2 : cX2_surest.data.toList.drop 48 = dktX2_surest_2 := dk_seg dksX2_surest_1 24 rfl rfl
theorem dksX2_surest_3 : cX2_surest.data.toList.drop 70 = dktX2_surest_3 := dk_seg dksX2_surest_2 22 rfl rfl
theorem dksX2_surest_4 : cX2_surest.data.toList.drop 93 = dktX2_surest_4 := dk_seg dksX2_surest_3 23 rfl rfl
theorem dksX2_surest_5 : cX2_surest.data.toList.drop 117 = dktX2_surest_5 := dk_seg dksX2_surest_4 24 rfl rfl
theorem dksX2_surest_6 : cX2_surest.data.toList.drop 141 = dktX2_surest_6 := dk_seg dksX2_surest_5 24 rfl rfl
theorem dX2_surest_0 : decode cX2_surest 0 = .ok (.aload_n 0, 1) := dk_42 (dk_at dksX2_surest_0 0 rfl rfl)
theorem dX2_surest_1 : decode cX2_surest 1 = .ok (.iload_n 1, 1) := dk_27 (dk_at dksX2_surest_0 1 rfl rfl)
theorem dX2_surest_2 : decode cX2_surest 2 = .ok (.invokevirtual 358, 3) := dk_182 1 102 (dk_at dksX2_surest_0 2 rfl rfl)
theorem dX2_surest_5 : decode cX2_surest 5 = .ok (.ifCond .eq 25, 3) := dk_153 0 25 (dk_at dksX2_surest_0 5 rfl rfl)
theorem dX2_surest_8 : decode cX2_surest 8 = .ok (.iload_n 2, 1) := dk_28 (dk_at dksX2_surest_0 8 rfl rfl)
theorem dX2_surest_9 : decode cX2_surest 9 = .ok (.iconst 1, 1) := dk_4 (dk_at dksX2_surest_0 9 rfl rfl)
theorem dX2_surest_10 : decode cX2_surest 10 = .ok (.bipush 6, 2) := dk_16 6 (dk_at dksX2_surest_0 10 rfl rfl)
theorem dX2_surest_12 : decode cX2_surest 12 = .ok (.invokestatic 63, 3) := dk_184 0 63 (dk_at dksX2_surest_0 12 rfl rfl)
theorem dX2_surest_15 : decode cX2_surest 15 = .ok (.ifCond .eq 15, 3) := dk_153 0 15 (dk_at dksX2_surest_0 15 rfl rfl)
theorem dX2_surest_18 : decode cX2_surest 18 = .ok (.iload_n 3, 1) := dk_29 (dk_at dksX2_surest_0 18 rfl rfl)
theorem dX2_surest_19 : decode cX2_surest 19 = .ok (.bipush (-2), 2) := dk_16 254 (dk_at dksX2_surest_0 19 rfl rfl)
theorem dX2_surest_21 : decode cX2_surest 21 = .ok (.iload_n 2, 1) := dk_28 (dk_at dksX2_surest_0 21 rfl rfl)
theorem dX2_surest_22 : decode cX2_surest 22 = .ok (.iconst 1, 1) := dk_4 (dk_at dksX2_surest_0 22 rfl rfl)
theorem dX2_surest_23 : decode cX2_surest 23 = .ok (.isub, 1) := dk_100 (dk_at dksX2_surest_0 23 rfl rfl)
theorem dX2_surest_24 : decode cX2_surest 24 = .ok (.invokestatic 63, 3) := dk_184 0 63 (dk_at dksX2_surest_1 0 rfl rfl)
theorem dX2_surest_27 : decode cX2_surest 27 = .ok (.ifCond .ne 6, 3) := dk_154 0 6 (dk_at dksX2_surest_1 3 rfl rfl)
theorem dX2_surest_30 : decode cX2_surest 30 = .ok (.bipush (-3), 2) := dk_16 253 (dk_at dksX2_surest_1 6 rfl rfl)
theorem dX2_surest_32 : decode cX2_surest 32 = .ok (.ireturn, 1) := dk_172 (dk_at dksX2_surest_1 8 rfl rfl)
theorem dX2_surest_33 : decode cX2_surest 33 = .ok (.aload_n 0, 1) := dk_42 (dk_at dksX2_surest_1 9 rfl rfl)
theorem dX2_surest_34 : decode cX2_surest 34 = .ok (.iload_n 1, 1) := dk_27 (dk_at dksX2_surest_1 10 rfl rfl)
theorem dX2_surest_35 : decode cX2_surest 35 = .ok (.iload_n 2, 1) := dk_28 (dk_at dksX2_surest_1 11 rfl rfl)
theorem dX2_surest_36 : decode cX2_surest 36 = .ok (.invokevirtual 442, 3) := dk_182 1 186 (dk_at dksX2_surest_1 12 rfl rfl)
theorem dX2_surest_39 : decode cX2_surest 39 = .ok (.aload_n 0, 1) := dk_42 (dk_at dksX2_surest_1 15 rfl rfl)
theorem dX2_surest_40 : decode cX2_surest 40 = .ok (.iload_n 1, 1) := dk_27 (dk_at dksX2_surest_1 16 rfl rfl)
theorem dX2_surest_41 : decode cX2_surest 41 = .ok (.iconst 0, 1) := dk_3 (dk_at dksX2_surest_1 17 rfl rfl)
theorem dX2_surest_42 : decode cX2_surest 42 = .ok (.invokevirtual 71, 3) := dk_182 0 71 (dk_at dksX2_surest_1 18 rfl rfl)
theorem dX2_surest_45 : decode cX2_surest 45 = .ok (.istore 4, 2) := dk_54 4 (dk_at dksX2_surest_1 21 rfl rfl)
theorem dX2_surest_47 : decode cX2_surest 47 = .ok (.aload_n 0, 1) := dk_42 (dk_at dksX2_surest_1 23 rfl rfl)
theorem dX2_surest_48 : decode cX2_surest 48 = .ok (.getfield 50, 3) := dk_180 0 50 (dk_at dksX2_surest_2 0 rfl rfl)
theorem dX2_surest_51 : decode cX2_surest 51 = .ok (.bipush 8, 2) := dk_16 8 (dk_at dksX2_surest_2 3 rfl rfl)
theorem dX2_surest_53 : decode cX2_surest 53 = .ok (.iload_n 2, 1) := dk_28 (dk_at dksX2_surest_2 5 rfl rfl)
theorem dX2_surest_54 : decode cX2_surest 54 = .ok (.imul, 1) := dk_104 (dk_at dksX2_surest_2 6 rfl rfl)
theorem dX2_surest_55 : decode cX2_surest 55 = .ok (.iload 4, 2) := dk_21 4 (dk_at dksX2_surest_2 7 rfl rfl)
theorem dX2_surest_57 : decode cX2_surest 57 = .ok (.iadd, 1) := dk_96 (dk_at dksX2_surest_2 9 rfl rfl)
theorem dX2_surest_58 : decode cX2_surest 58 = .ok (.iaload, 1) := dk_46 (dk_at dksX2_surest_2 10 rfl rfl)
theorem dX2_surest_59 : decode cX2_surest 59 = .ok (.istore 5, 2) := dk_54 5 (dk_at dksX2_surest_2 11 rfl rfl)
theorem dX2_surest_61 : decode cX2_surest 61 = .ok (.iconst 1, 1) := dk_4 (dk_at dksX2_surest_2 13 rfl rfl)
theorem dX2_surest_62 : decode cX2_surest 62 = .ok (.istore 6, 2) := dk_54 6 (dk_at dksX2_surest_2 14 rfl rfl)
theorem dX2_surest_64 : decode cX2_surest 64 = .ok (.iconst 0, 1) := dk_3 (dk_at dksX2_surest_2 16 rfl rfl)
theorem dX2_surest_65 : decode cX2_surest 65 = .ok (.istore 7, 2) := dk_54 7 (dk_at dksX2_surest_2 17 rfl rfl)
theorem dX2_surest_67 : decode cX2_surest 67 = .ok (.iload 7, 2) := dk_21 7 (dk_at dksX2_surest_2 19 rfl rfl)
theorem dX2_surest_69 : decode cX2_surest 69 = .ok (.iload_n 2, 1) := dk_28 (dk_at dksX2_surest_2 21 rfl rfl)
theorem dX2_surest_70 : decode cX2_surest 70 = .ok (.if_icmp .ge 16, 3) := dk_162 0 16 (dk_at dksX2_surest_3 0 rfl rfl)
theorem dX2_surest_73 : decode cX2_surest 73 = .ok (.iload 6, 2) := dk_21 6 (dk_at dksX2_surest_3 3 rfl rfl)
theorem dX2_surest_75 : decode cX2_surest 75 = .ok (.bipush 10, 2) := dk_16 10 (dk_at dksX2_surest_3 5 rfl rfl)
theorem dX2_surest_77 : decode cX2_surest 77 = .ok (.imul, 1) := dk_104 (dk_at dksX2_surest_3 7 rfl rfl)
theorem dX2_surest_78 : decode cX2_surest 78 = .ok (.istore 6, 2) := dk_54 6 (dk_at dksX2_surest_3 8 rfl rfl)
theorem dX2_surest_80 : decode cX2_surest 80 = .ok (.iinc 7 1, 3) := dk_132 7 1 (dk_at dksX2_surest_3 10 rfl rfl)
theorem dX2_surest_83 : decode cX2_surest 83 = .ok (.goto (-16), 3) := dk_167 255 240 (dk_at dksX2_surest_3 13 rfl rfl)
theorem dX2_surest_86 : decode cX2_surest 86 = .ok (.iload_n 3, 1) := dk_29 (dk_at dksX2_surest_3 16 rfl rfl)
theorem dX2_surest_87 : decode cX2_surest 87 = .ok (.ifCond .ge 25, 3) := dk_156 0 25 (dk_at dksX2_surest_3 17 rfl rfl)
theorem dX2_surest_90 : decode cX2_surest 90 = .ok (.iload_n 3, 1) := dk_29 (dk_at dksX2_surest_3 20 rfl rfl)
theorem dX2_surest_91 : decode cX2_surest 91 = .ok (.bipush (-2), 2) := dk_16 254 (dk_at dksX2_surest_3 21 rfl rfl)
theorem dX2_surest_93 : decode cX2_surest 93 = .ok (.if_icmp .ne 8, 3) := dk_160 0 8 (dk_at dksX2_surest_4 0 rfl rfl)
theorem dX2_surest_96 : decode cX2_surest 96 = .ok (.iload 5, 2) := dk_21 5 (dk_at dksX2_surest_4 3 rfl rfl)
theorem dX2_surest_98 : decode cX2_surest 98 = .ok (.goto 5, 3) := dk_167 0 5 (dk_at dksX2_surest_4 5 rfl rfl)
theorem dX2_surest_101 : decode cX2_surest 101 = .ok (.iload 6, 2) := dk_21 6 (dk_at dksX2_surest_4 8 rfl rfl)
theorem dX2_surest_103 : decode cX2_surest 103 = .ok (.iload 5, 2) := dk_21 5 (dk_at dksX2_surest_4 10 rfl rfl)
theorem dX2_surest_105 : decode cX2_surest 105 = .ok (.iload 6, 2) := dk_21 6 (dk_at dksX2_surest_4 12 rfl rfl)
theorem dX2_surest_107 : decode cX2_surest 107 = .ok (.invokestatic 445, 3) := dk_184 1 189 (dk_at dksX2_surest_4 14 rfl rfl)
theorem dX2_surest_110 : decode cX2_surest 110 = .ok (.idiv, 1) := dk_108 (dk_at dksX2_surest_4 17 rfl rfl)
theorem dX2_surest_111 : decode cX2_surest 111 = .ok (.ireturn, 1) := dk_172 (dk_at dksX2_surest_4 18 rfl rfl)
theorem dX2_surest_112 : decode cX2_surest 112 = .ok (.iconst 0, 1) := dk_3 (dk_at dksX2_surest_4 19 rfl rfl)
theorem dX2_surest_113 : decode cX2_surest 113 = .ok (.istore 7, 2) := dk_54 7 (dk_at dksX2_surest_4 20 rfl rfl)
theorem dX2_surest_115 : decode cX2_surest 115 = .ok (.iload 7, 2) := dk_21 7 (dk_at dksX2_surest_4 22 rfl rfl)
theorem dX2_surest_117 : decode cX2_surest 117 = .ok (.iload_n 3, 1) := dk_29 (dk_at dksX2_surest_5 0 rfl rfl)
theorem dX2_surest_118 : decode cX2_surest 118 = .ok (.if_icmp .gt 35, 3) := dk_163 0 35 (dk_at dksX2_surest_5 1 rfl rfl)
theorem dX2_surest_121 : decode cX2_surest 121 = .ok (.iload 5, 2) := dk_21 5 (dk_at dksX2_surest_5 4 rfl rfl)
theorem dX2_surest_123 : decode cX2_surest 123 = .ok (.ifCond .ne 12, 3) := dk_154 0 12 (dk_at dksX2_surest_5 6 rfl rfl)
theorem dX2_surest_126 : decode cX2_surest 126 = .ok (.aload_n 0, 1) := dk_42 (dk_at dksX2_surest_5 9 rfl rfl)
theorem dX2_surest_127 : decode cX2_surest 127 = .ok (.iload 4, 2) := dk_21 4 (dk_at dksX2_surest_5 10 rfl rfl)
theorem dX2_surest_129 : decode cX2_surest 129 = .ok (.invokevirtual 448, 3) := dk_182 1 192 (dk_at dksX2_surest_5 12 rfl rfl)
theorem dX2_surest_132 : decode cX2_surest 132 = .ok (.goto 13, 3) := dk_167 0 13 (dk_at dksX2_surest_5 15 rfl rfl)
theorem dX2_surest_135 : decode cX2_surest 135 = .ok (.aload_n 0, 1) := dk_42 (dk_at dksX2_surest_5 18 rfl rfl)
theorem dX2_surest_136 : decode cX2_surest 136 = .ok (.iload 4, 2) := dk_21 4 (dk_at dksX2_surest_5 19 rfl rfl)
theorem dX2_surest_138 : decode cX2_surest 138 = .ok (.iload_n 2, 1) := dk_28 (dk_at dksX2_surest_5 21 rfl rfl)
theorem dX2_surest_139 : decode cX2_surest 139 = .ok (.iload 7, 2) := dk_21 7 (dk_at dksX2_surest_5 22 rfl rfl)
theorem dX2_surest_141 : decode cX2_surest 141 = .ok (.isub, 1) := dk_100 (dk_at dksX2_surest_6 0 rfl rfl)
theorem dX2_surest_142 : decode cX2_surest 142 = .ok (.invokevirtual 439, 3) := dk_182 1 183 (dk_at dksX2_surest_6 1 rfl rfl)
theorem dX2_surest_145 : decode cX2_surest 145 = .ok (.istore 4, 2) := dk_54 4 (dk_at dksX2_surest_6 4 rfl rfl)
theorem dX2_surest_147 : decode cX2_surest 147 = .ok (.iinc 7 1, 3) := dk_132 7 1 (dk_at dksX2_surest_6 6 rfl rfl)
theorem dX2_surest_150 : decode cX2_surest 150 = .ok (.goto (-35), 3) := dk_167 255 221 (dk_at dksX2_surest_6 9 rfl rfl)
theorem dX2_surest_153 : decode cX2_surest 153 = .ok (.iload 4, 2) := dk_21 4 (dk_at dksX2_surest_6 12 rfl rfl)
theorem dX2_surest_155 : decode cX2_surest 155 = .ok (.ireturn, 1) := dk_172 (dk_at dksX2_surest_6 14 rfl rfl)
abbrev cX2_layLikely : ByteArray := prog_20_method_121_code
def yX2_layLikely : MethodName := ⟨RX2, "layLikely", "(II)V"⟩
def dkwX2_layLikely_5 : List UInt8 := [177]
abbrev dktX2_layLikely_5 : List UInt8 := dkwX2_layLikely_5 ++ []
def dkwX2_layLikely_4 : List UInt8 := [16, 8, 29, 4, 100, 104, 21, 5, 96, 46, 104, 79, 132, 4, 1, 167, 255, 199, 132, 3, 1, 167, 255, 185]
abbrev dktX2_layLikely_4 : List UInt8 := dkwX2_layLikely_4 ++ dktX2_layLikely_5
def dkwX2_layLikely_3 : List UInt8 := [54, 5, 42, 180, 0, 50, 16, 8, 29, 104, 21, 4, 96, 42, 180, 0, 53, 21, 5, 46, 42, 180, 0, 50]
abbrev dktX2_layLikely_3 : List UInt8 := dkwX2_layLikely_3 ++ dktX2_layLikely_4
def dkwX2_layLikely_2 : List UInt8 := [163, 0, 72, 3, 54, 4, 21, 4, 42, 180, 0, 7, 3, 46, 162, 0, 52, 42, 21, 4, 29, 182, 1, 183]
abbrev dktX2_layLikely_2 : List UInt8 := dkwX2_layLikely_2 ++ dktX2_layLikely_3
def dkwX2_layLikely_1 : List UInt8 := [182, 1, 51, 100, 79, 42, 180, 0, 50, 29, 4, 79, 132, 3, 1, 167, 255, 221, 4, 62, 29, 28]
abbrev dktX2_layLikely_1 : List UInt8 := dkwX2_layLikely_1 ++ dktX2_layLikely_2
def dkwX2_layLikely_0 : List UInt8 := [3, 62, 29, 42, 180, 0, 7, 3, 46, 162, 0, 31, 42, 180, 0, 53, 29, 16, 10, 42, 27, 29]
abbrev dktX2_layLikely_0 : List UInt8 := dkwX2_layLikely_0 ++ dktX2_layLikely_1
theorem dksX2_layLikely_0 : cX2_layLikely.data.toList.drop 0 = dktX2_layLikely_0 := by decide +kernel
theorem dksX2_layLikely_1 : cX2_layLikely.data.toList.drop 22 = dktX2_layLikely_1 := dk_seg dksX2_layLikely_0 22 rfl rfl
theorem dksX2_layLikely_2 : cX2_layLikely.data.toList.drop 44 = dktX2_layLikely_2 := dk_seg dksX2_layLikely_1 22 rfl rfl
theorem dksX2_layLikely_3 : cX2_layLikely.data.toList.drop 68 = dktX2_layLikely_3 := dk_seg dksX2_layLikely_2 24 rfl rfl
theorem dksX2_layLikely_4 : cX2_layLikely.data.toList.drop 92 = dktX2_layLikely_4 := dk_seg dksX2_layLikely_3 24 rfl rfl
theorem dksX2_layLikely_5 : cX2_layLikely.data.toList.drop 116 = dktX2_layLikely_5 := dk_seg dksX2_layLikely_4 24 rfl rfl
theorem dX2_layLikely_0 : decode cX2_layLikely 0 = .ok (.iconst 0, 1) := dk_3 (dk_at dksX2_layLikely_0 0 rfl rfl)
theorem dX2_layLikely_1 : decode cX2_layLikely 1 = .ok (.istore_n 3, 1) := dk_62 (dk_at dksX2_layLikely_0 1 rfl rfl)
theorem dX2_layLikely_2 : decode cX2_layLikely 2 = .ok (.iload_n 3, 1) := dk_29 (dk_at dksX2_layLikely_0 2 rfl rfl)
theorem dX2_layLikely_3 : decode cX2_layLikely 3 = .ok (.aload_n 0, 1) := dk_42 (dk_at dksX2_layLikely_0 3 rfl rfl)
theorem dX2_layLikely_4 : decode cX2_layLikely 4 = .ok (.getfield 7, 3) := dk_180 0 7 (dk_at dksX2_layLikely_0 4 rfl rfl)
theorem dX2_layLikely_7 : decode cX2_layLikely 7 = .ok (.iconst 0, 1) := dk_3 (dk_at dksX2_layLikely_0 7 rfl rfl)
theorem dX2_layLikely_8 : decode cX2_layLikely 8 = .ok (.iaload, 1) := dk_46 (dk_at dksX2_layLikely_0 8 rfl rfl)
theorem dX2_layLikely_9 : decode cX2_layLikely 9 = .ok (.if_icmp .ge 31, 3) := dk_162 0 31 (dk_at dksX2_layLikely_0 9 rfl rfl)
theorem dX2_layLikely_12 : decode cX2_layLikely 12 = .ok (.aload_n 0, 1) := dk_42 (dk_at dksX2_layLikely_0 12 rfl rfl)
theorem dX2_layLikely_13 : decode cX2_layLikely 13 = .ok (.getfield 53, 3) := dk_180 0 53 (dk_at dksX2_layLikely_0 13 rfl rfl)
theorem dX2_layLikely_16 : decode cX2_layLikely 16 = .ok (.iload_n 3, 1) := dk_29 (dk_at dksX2_layLikely_0 16 rfl rfl)
theorem dX2_layLikely_17 : decode cX2_layLikely 17 = .ok (.bipush 10, 2) := dk_16 10 (dk_at dksX2_layLikely_0 17 rfl rfl)
theorem dX2_layLikely_19 : decode cX2_layLikely 19 = .ok (.aload_n 0, 1) := dk_42 (dk_at dksX2_layLikely_0 19 rfl rfl)
theorem dX2_layLikely_20 : decode cX2_layLikely 20 = .ok (.iload_n 1, 1) := dk_27 (dk_at dksX2_layLikely_0 20 rfl rfl)
theorem dX2_layLikely_21 : decode cX2_layLikely 21 = .ok (.iload_n 3, 1) := dk_29 (dk_at dksX2_layLikely_0 21 rfl rfl)
theorem dX2_layLikely_22 : decode cX2_layLikely 22 = .ok (.invokevirtual 307, 3) := dk_182 1 51 (dk_at dksX2_layLikely_1 0 rfl rfl)
theorem dX2_layLikely_25 : decode cX2_layLikely 25 = .ok (.isub, 1) := dk_100 (dk_at dksX2_layLikely_1 3 rfl rfl)
theorem dX2_layLikely_26 : decode cX2_layLikely 26 = .ok (.iastore, 1) := dk_79 (dk_at dksX2_layLikely_1 4 rfl rfl)
theorem dX2_layLikely_27 : decode cX2_layLikely 27 = .ok (.aload_n 0, 1) := dk_42 (dk_at dksX2_layLikely_1 5 rfl rfl)
theorem dX2_layLikely_28 : decode cX2_layLikely 28 = .ok (.getfield 50, 3) := dk_180 0 50 (dk_at dksX2_layLikely_1 6 rfl rfl)
theorem dX2_layLikely_31 : decode cX2_layLikely 31 = .ok (.iload_n 3, 1) := dk_29 (dk_at dksX2_layLikely_1 9 rfl rfl)
theorem dX2_layLikely_32 : decode cX2_layLikely 32 = .ok (.iconst 1, 1) := dk_4 (dk_at dksX2_layLikely_1 10 rfl rfl)
theorem dX2_layLikely_33 : decode cX2_layLikely 33 = .ok (.iastore, 1) := dk_79 (dk_at dksX2_layLikely_1 11 rfl rfl)
theorem dX2_layLikely_34 : decode cX2_layLikely 34 = .ok (.iinc 3 1, 3) := dk_132 3 1 (dk_at dksX2_layLikely_1 12 rfl rfl)
theorem dX2_layLikely_37 : decode cX2_layLikely 37 = .ok (.goto (-35), 3) := dk_167 255 221 (dk_at dksX2_layLikely_1 15 rfl rfl)
theorem dX2_layLikely_40 : decode cX2_layLikely 40 = .ok (.iconst 1, 1) := dk_4 (dk_at dksX2_layLikely_1 18 rfl rfl)
theorem dX2_layLikely_41 : decode cX2_layLikely 41 = .ok (.istore_n 3, 1) := dk_62 (dk_at dksX2_layLikely_1 19 rfl rfl)
theorem dX2_layLikely_42 : decode cX2_layLikely 42 = .ok (.iload_n 3, 1) := dk_29 (dk_at dksX2_layLikely_1 20 rfl rfl)
theorem dX2_layLikely_43 : decode cX2_layLikely 43 = .ok (.iload_n 2, 1) := dk_28 (dk_at dksX2_layLikely_1 21 rfl rfl)
theorem dX2_layLikely_44 : decode cX2_layLikely 44 = .ok (.if_icmp .gt 72, 3) := dk_163 0 72 (dk_at dksX2_layLikely_2 0 rfl rfl)
theorem dX2_layLikely_47 : decode cX2_layLikely 47 = .ok (.iconst 0, 1) := dk_3 (dk_at dksX2_layLikely_2 3 rfl rfl)
theorem dX2_layLikely_48 : decode cX2_layLikely 48 = .ok (.istore 4, 2) := dk_54 4 (dk_at dksX2_layLikely_2 4 rfl rfl)
theorem dX2_layLikely_50 : decode cX2_layLikely 50 = .ok (.iload 4, 2) := dk_21 4 (dk_at dksX2_layLikely_2 6 rfl rfl)
theorem dX2_layLikely_52 : decode cX2_layLikely 52 = .ok (.aload_n 0, 1) := dk_42 (dk_at dksX2_layLikely_2 8 rfl rfl)
theorem dX2_layLikely_53 : decode cX2_layLikely 53 = .ok (.getfield 7, 3) := dk_180 0 7 (dk_at dksX2_layLikely_2 9 rfl rfl)
theorem dX2_layLikely_56 : decode cX2_layLikely 56 = .ok (.iconst 0, 1) := dk_3 (dk_at dksX2_layLikely_2 12 rfl rfl)
theorem dX2_layLikely_57 : decode cX2_layLikely 57 = .ok (.iaload, 1) := dk_46 (dk_at dksX2_layLikely_2 13 rfl rfl)
theorem dX2_layLikely_58 : decode cX2_layLikely 58 = .ok (.if_icmp .ge 52, 3) := dk_162 0 52 (dk_at dksX2_layLikely_2 14 rfl rfl)
theorem dX2_layLikely_61 : decode cX2_layLikely 61 = .ok (.aload_n 0, 1) := dk_42 (dk_at dksX2_layLikely_2 17 rfl rfl)
theorem dX2_layLikely_62 : decode cX2_layLikely 62 = .ok (.iload 4, 2) := dk_21 4 (dk_at dksX2_layLikely_2 18 rfl rfl)
theorem dX2_layLikely_64 : decode cX2_layLikely 64 = .ok (.iload_n 3, 1) := dk_29 (dk_at dksX2_layLikely_2 20 rfl rfl)
theorem dX2_layLikely_65 : decode cX2_layLikely 65 = .ok (.invokevirtual 439, 3) := dk_182 1 183 (dk_at dksX2_layLikely_2 21 rfl rfl)
theorem dX2_layLikely_68 : decode cX2_layLikely 68 = .ok (.istore 5, 2) := dk_54 5 (dk_at dksX2_layLikely_3 0 rfl rfl)
theorem dX2_layLikely_70 : decode cX2_layLikely 70 = .ok (.aload_n 0, 1) := dk_42 (dk_at dksX2_layLikely_3 2 rfl rfl)
theorem dX2_layLikely_71 : decode cX2_layLikely 71 = .ok (.getfield 50, 3) := dk_180 0 50 (dk_at dksX2_layLikely_3 3 rfl rfl)
theorem dX2_layLikely_74 : decode cX2_layLikely 74 = .ok (.bipush 8, 2) := dk_16 8 (dk_at dksX2_layLikely_3 6 rfl rfl)
theorem dX2_layLikely_76 : decode cX2_layLikely 76 = .ok (.iload_n 3, 1) := dk_29 (dk_at dksX2_layLikely_3 8 rfl rfl)
theorem dX2_layLikely_77 : decode cX2_layLikely 77 = .ok (.imul, 1) := dk_104 (dk_at dksX2_layLikely_3 9 rfl rfl)
theorem dX2_layLikely_78 : decode cX2_layLikely 78 = .ok (.iload 4, 2) := dk_21 4 (dk_at dksX2_layLikely_3 10 rfl rfl)
theorem dX2_layLikely_80 : decode cX2_layLikely 80 = .ok (.iadd, 1) := dk_96 (dk_at dksX2_layLikely_3 12 rfl rfl)
theorem dX2_layLikely_81 : decode cX2_layLikely 81 = .ok (.aload_n 0, 1) := dk_42 (dk_at dksX2_layLikely_3 13 rfl rfl)
theorem dX2_layLikely_82 : decode cX2_layLikely 82 = .ok (.getfield 53, 3) := dk_180 0 53 (dk_at dksX2_layLikely_3 14 rfl rfl)
theorem dX2_layLikely_85 : decode cX2_layLikely 85 = .ok (.iload 5, 2) := dk_21 5 (dk_at dksX2_layLikely_3 17 rfl rfl)
theorem dX2_layLikely_87 : decode cX2_layLikely 87 = .ok (.iaload, 1) := dk_46 (dk_at dksX2_layLikely_3 19 rfl rfl)
theorem dX2_layLikely_88 : decode cX2_layLikely 88 = .ok (.aload_n 0, 1) := dk_42 (dk_at dksX2_layLikely_3 20 rfl rfl)
theorem dX2_layLikely_89 : decode cX2_layLikely 89 = .ok (.getfield 50, 3) := dk_180 0 50 (dk_at dksX2_layLikely_3 21 rfl rfl)
theorem dX2_layLikely_92 : decode cX2_layLikely 92 = .ok (.bipush 8, 2) := dk_16 8 (dk_at dksX2_layLikely_4 0 rfl rfl)
theorem dX2_layLikely_94 : decode cX2_layLikely 94 = .ok (.iload_n 3, 1) := dk_29 (dk_at dksX2_layLikely_4 2 rfl rfl)
theorem dX2_layLikely_95 : decode cX2_layLikely 95 = .ok (.iconst 1, 1) := dk_4 (dk_at dksX2_layLikely_4 3 rfl rfl)
theorem dX2_layLikely_96 : decode cX2_layLikely 96 = .ok (.isub, 1) := dk_100 (dk_at dksX2_layLikely_4 4 rfl rfl)
theorem dX2_layLikely_97 : decode cX2_layLikely 97 = .ok (.imul, 1) := dk_104 (dk_at dksX2_layLikely_4 5 rfl rfl)
theorem dX2_layLikely_98 : decode cX2_layLikely 98 = .ok (.iload 5, 2) := dk_21 5 (dk_at dksX2_layLikely_4 6 rfl rfl)
theorem dX2_layLikely_100 : decode cX2_layLikely 100 = .ok (.iadd, 1) := dk_96 (dk_at dksX2_layLikely_4 8 rfl rfl)
theorem dX2_layLikely_101 : decode cX2_layLikely 101 = .ok (.iaload, 1) := dk_46 (dk_at dksX2_layLikely_4 9 rfl rfl)
theorem dX2_layLikely_102 : decode cX2_layLikely 102 = .ok (.imul, 1) := dk_104 (dk_at dksX2_layLikely_4 10 rfl rfl)
theorem dX2_layLikely_103 : decode cX2_layLikely 103 = .ok (.iastore, 1) := dk_79 (dk_at dksX2_layLikely_4 11 rfl rfl)
theorem dX2_layLikely_104 : decode cX2_layLikely 104 = .ok (.iinc 4 1, 3) := dk_132 4 1 (dk_at dksX2_layLikely_4 12 rfl rfl)
theorem dX2_layLikely_107 : decode cX2_layLikely 107 = .ok (.goto (-57), 3) := dk_167 255 199 (dk_at dksX2_layLikely_4 15 rfl rfl)
theorem dX2_layLikely_110 : decode cX2_layLikely 110 = .ok (.iinc 3 1, 3) := dk_132 3 1 (dk_at dksX2_layLikely_4 18 rfl rfl)
theorem dX2_layLikely_113 : decode cX2_layLikely 113 = .ok (.goto (-71), 3) := dk_167 255 185 (dk_at dksX2_layLikely_4 21 rfl rfl)
theorem dX2_layLikely_116 : decode cX2_layLikely 116 = .ok (.return_, 1) := dk_177 (dk_at dksX2_layLikely_5 0 rfl rfl)
abbrev cX2_nextFrom : ByteArray := prog_20_method_119_code
def yX2_nextFrom : MethodName := ⟨RX2, "nextFrom", "(II)I"⟩
def dkwX2_nextFrom_3 : List UInt8 := [104, 29, 96, 46, 104, 164, 0, 6, 21, 4, 62, 132, 4, 1, 167, 255, 176, 29, 172]
abbrev dktX2_nextFrom_3 : List UInt8 := dkwX2_nextFrom_3 ++ []
def dkwX2_nextFrom_2 : List UInt8 := [28, 4, 100, 104, 21, 4, 96, 46, 104, 42, 180, 0, 53, 29, 46, 42, 180, 0, 50, 16, 8, 28, 4, 100]
abbrev dktX2_nextFrom_2 : List UInt8 := dkwX2_nextFrom_2 ++ dktX2_nextFrom_3
def dkwX2_nextFrom_1 : List UInt8 := [184, 0, 78, 153, 0, 56, 29, 2, 159, 0, 48, 42, 180, 0, 53, 21, 4, 46, 42, 180, 0, 50, 16, 8]
abbrev dktX2_nextFrom_1 : List UInt8 := dkwX2_nextFrom_1 ++ dktX2_nextFrom_2
def dkwX2_nextFrom_0 : List UInt8 := [2, 62, 3, 54, 4, 21, 4, 42, 180, 0, 7, 3, 46, 162, 0, 75, 42, 27, 182, 1, 180, 21, 4]
abbrev dktX2_nextFrom_0 : List UInt8 := dkwX2_nextFrom_0 ++ dktX2_nextFrom_1
theorem dksX2_nextFrom_0 : cX2_nextFrom.data.toList.drop 0 = dktX2_nextFrom_0 := by decide +kernel
theorem dksX2_nextFrom_1 : cX2_nextFrom.data.toList.drop 23 = dktX2_nextFrom_1 := dk_seg dksX2_nextFrom_0 23 rfl rfl
theorem dksX2_nextFrom_2 : cX2_nextFrom.data.toList.drop 47 = dktX2_nextFrom_2 := dk_seg dksX2_nextFrom_1 24 rfl rfl
theorem dksX2_nextFrom_3 : cX2_nextFrom.data.toList.drop 71 = dktX2_nextFrom_3 := dk_seg dksX2_nextFrom_2 24 rfl rfl
theorem dX2_nextFrom_0 : decode cX2_nextFrom 0 = .ok (.iconst (-1), 1) := dk_2 (dk_at dksX2_nextFrom_0 0 rfl rfl)
theorem dX2_nextFrom_1 : decode cX2_nextFrom 1 = .ok (.istore_n 3, 1) := dk_62 (dk_at dksX2_nextFrom_0 1 rfl rfl)
theorem dX2_nextFrom_2 : decode cX2_nextFrom 2 = .ok (.iconst 0, 1) := dk_3 (dk_at dksX2_nextFrom_0 2 rfl rfl)
theorem dX2_nextFrom_3 : decode cX2_nextFrom 3 = .ok (.istore 4, 2) := dk_54 4 (dk_at dksX2_nextFrom_0 3 rfl rfl)
theorem dX2_nextFrom_5 : decode cX2_nextFrom 5 = .ok (.iload 4, 2) := dk_21 4 (dk_at dksX2_nextFrom_0 5 rfl rfl)
theorem dX2_nextFrom_7 : decode cX2_nextFrom 7 = .ok (.aload_n 0, 1) := dk_42 (dk_at dksX2_nextFrom_0 7 rfl rfl)
theorem dX2_nextFrom_8 : decode cX2_nextFrom 8 = .ok (.getfield 7, 3) := dk_180 0 7 (dk_at dksX2_nextFrom_0 8 rfl rfl)
theorem dX2_nextFrom_11 : decode cX2_nextFrom 11 = .ok (.iconst 0, 1) := dk_3 (dk_at dksX2_nextFrom_0 11 rfl rfl)
theorem dX2_nextFrom_12 : decode cX2_nextFrom 12 = .ok (.iaload, 1) := dk_46 (dk_at dksX2_nextFrom_0 12 rfl rfl)
theorem dX2_nextFrom_13 : decode cX2_nextFrom 13 = .ok (.if_icmp .ge 75, 3) := dk_162 0 75 (dk_at dksX2_nextFrom_0 13 rfl rfl)
theorem dX2_nextFrom_16 : decode cX2_nextFrom 16 = .ok (.aload_n 0, 1) := dk_42 (dk_at dksX2_nextFrom_0 16 rfl rfl)
theorem dX2_nextFrom_17 : decode cX2_nextFrom 17 = .ok (.iload_n 1, 1) := dk_27 (dk_at dksX2_nextFrom_0 17 rfl rfl)
theorem dX2_nextFrom_18 : decode cX2_nextFrom 18 = .ok (.invokevirtual 436, 3) := dk_182 1 180 (dk_at dksX2_nextFrom_0 18 rfl rfl)
theorem dX2_nextFrom_21 : decode cX2_nextFrom 21 = .ok (.iload 4, 2) := dk_21 4 (dk_at dksX2_nextFrom_0 21 rfl rfl)
theorem dX2_nextFrom_23 : decode cX2_nextFrom 23 = .ok (.invokestatic 78, 3) := dk_184 0 78 (dk_at dksX2_nextFrom_1 0 rfl rfl)
theorem dX2_nextFrom_26 : decode cX2_nextFrom 26 = .ok (.ifCond .eq 56, 3) := dk_153 0 56 (dk_at dksX2_nextFrom_1 3 rfl rfl)
theorem dX2_nextFrom_29 : decode cX2_nextFrom 29 = .ok (.iload_n 3, 1) := dk_29 (dk_at dksX2_nextFrom_1 6 rfl rfl)
theorem dX2_nextFrom_30 : decode cX2_nextFrom 30 = .ok (.iconst (-1), 1) := dk_2 (dk_at dksX2_nextFrom_1 7 rfl rfl)
theorem dX2_nextFrom_31 : decode cX2_nextFrom 31 = .ok (.if_icmp .eq 48, 3) := dk_159 0 48 (dk_at dksX2_nextFrom_1 8 rfl rfl)
theorem dX2_nextFrom_34 : decode cX2_nextFrom 34 = .ok (.aload_n 0, 1) := dk_42 (dk_at dksX2_nextFrom_1 11 rfl rfl)
theorem dX2_nextFrom_35 : decode cX2_nextFrom 35 = .ok (.getfield 53, 3) := dk_180 0 53 (dk_at dksX2_nextFrom_1 12 rfl rfl)
theorem dX2_nextFrom_38 : decode cX2_nextFrom 38 = .ok (.iload 4, 2) := dk_21 4 (dk_at dksX2_nextFrom_1 15 rfl rfl)
theorem dX2_nextFrom_40 : decode cX2_nextFrom 40 = .ok (.iaload, 1) := dk_46 (dk_at dksX2_nextFrom_1 17 rfl rfl)
theorem dX2_nextFrom_41 : decode cX2_nextFrom 41 = .ok (.aload_n 0, 1) := dk_42 (dk_at dksX2_nextFrom_1 18 rfl rfl)
theorem dX2_nextFrom_42 : decode cX2_nextFrom 42 = .ok (.getfield 50, 3) := dk_180 0 50 (dk_at dksX2_nextFrom_1 19 rfl rfl)
theorem dX2_nextFrom_45 : decode cX2_nextFrom 45 = .ok (.bipush 8, 2) := dk_16 8 (dk_at dksX2_nextFrom_1 22 rfl rfl)
theorem dX2_nextFrom_47 : decode cX2_nextFrom 47 = .ok (.iload_n 2, 1) := dk_28 (dk_at dksX2_nextFrom_2 0 rfl rfl)
theorem dX2_nextFrom_48 : decode cX2_nextFrom 48 = .ok (.iconst 1, 1) := dk_4 (dk_at dksX2_nextFrom_2 1 rfl rfl)
theorem dX2_nextFrom_49 : decode cX2_nextFrom 49 = .ok (.isub, 1) := dk_100 (dk_at dksX2_nextFrom_2 2 rfl rfl)
theorem dX2_nextFrom_50 : decode cX2_nextFrom 50 = .ok (.imul, 1) := dk_104 (dk_at dksX2_nextFrom_2 3 rfl rfl)
theorem dX2_nextFrom_51 : decode cX2_nextFrom 51 = .ok (.iload 4, 2) := dk_21 4 (dk_at dksX2_nextFrom_2 4 rfl rfl)
theorem dX2_nextFrom_53 : decode cX2_nextFrom 53 = .ok (.iadd, 1) := dk_96 (dk_at dksX2_nextFrom_2 6 rfl rfl)
theorem dX2_nextFrom_54 : decode cX2_nextFrom 54 = .ok (.iaload, 1) := dk_46 (dk_at dksX2_nextFrom_2 7 rfl rfl)
theorem dX2_nextFrom_55 : decode cX2_nextFrom 55 = .ok (.imul, 1) := dk_104 (dk_at dksX2_nextFrom_2 8 rfl rfl)
theorem dX2_nextFrom_56 : decode cX2_nextFrom 56 = .ok (.aload_n 0, 1) := dk_42 (dk_at dksX2_nextFrom_2 9 rfl rfl)
theorem dX2_nextFrom_57 : decode cX2_nextFrom 57 = .ok (.getfield 53, 3) := dk_180 0 53 (dk_at dksX2_nextFrom_2 10 rfl rfl)
theorem dX2_nextFrom_60 : decode cX2_nextFrom 60 = .ok (.iload_n 3, 1) := dk_29 (dk_at dksX2_nextFrom_2 13 rfl rfl)
theorem dX2_nextFrom_61 : decode cX2_nextFrom 61 = .ok (.iaload, 1) := dk_46 (dk_at dksX2_nextFrom_2 14 rfl rfl)
theorem dX2_nextFrom_62 : decode cX2_nextFrom 62 = .ok (.aload_n 0, 1) := dk_42 (dk_at dksX2_nextFrom_2 15 rfl rfl)
theorem dX2_nextFrom_63 : decode cX2_nextFrom 63 = .ok (.getfield 50, 3) := dk_180 0 50 (dk_at dksX2_nextFrom_2 16 rfl rfl)
theorem dX2_nextFrom_66 : decode cX2_nextFrom 66 = .ok (.bipush 8, 2) := dk_16 8 (dk_at dksX2_nextFrom_2 19 rfl rfl)
theorem dX2_nextFrom_68 : decode cX2_nextFrom 68 = .ok (.iload_n 2, 1) := dk_28 (dk_at dksX2_nextFrom_2 21 rfl rfl)
theorem dX2_nextFrom_69 : decode cX2_nextFrom 69 = .ok (.iconst 1, 1) := dk_4 (dk_at dksX2_nextFrom_2 22 rfl rfl)
theorem dX2_nextFrom_70 : decode cX2_nextFrom 70 = .ok (.isub, 1) := dk_100 (dk_at dksX2_nextFrom_2 23 rfl rfl)
theorem dX2_nextFrom_71 : decode cX2_nextFrom 71 = .ok (.imul, 1) := dk_104 (dk_at dksX2_nextFrom_3 0 rfl rfl)
theorem dX2_nextFrom_72 : decode cX2_nextFrom 72 = .ok (.iload_n 3, 1) := dk_29 (dk_at dksX2_nextFrom_3 1 rfl rfl)
theorem dX2_nextFrom_73 : decode cX2_nextFrom 73 = .ok (.iadd, 1) := dk_96 (dk_at dksX2_nextFrom_3 2 rfl rfl)
theorem dX2_nextFrom_74 : decode cX2_nextFrom 74 = .ok (.iaload, 1) := dk_46 (dk_at dksX2_nextFrom_3 3 rfl rfl)
theorem dX2_nextFrom_75 : decode cX2_nextFrom 75 = .ok (.imul, 1) := dk_104 (dk_at dksX2_nextFrom_3 4 rfl rfl)
theorem dX2_nextFrom_76 : decode cX2_nextFrom 76 = .ok (.if_icmp .le 6, 3) := dk_164 0 6 (dk_at dksX2_nextFrom_3 5 rfl rfl)
theorem dX2_nextFrom_79 : decode cX2_nextFrom 79 = .ok (.iload 4, 2) := dk_21 4 (dk_at dksX2_nextFrom_3 8 rfl rfl)
theorem dX2_nextFrom_81 : decode cX2_nextFrom 81 = .ok (.istore_n 3, 1) := dk_62 (dk_at dksX2_nextFrom_3 10 rfl rfl)
theorem dX2_nextFrom_82 : decode cX2_nextFrom 82 = .ok (.iinc 4 1, 3) := dk_132 4 1 (dk_at dksX2_nextFrom_3 11 rfl rfl)
theorem dX2_nextFrom_85 : decode cX2_nextFrom 85 = .ok (.goto (-80), 3) := dk_167 255 176 (dk_at dksX2_nextFrom_3 14 rfl rfl)
theorem dX2_nextFrom_88 : decode cX2_nextFrom 88 = .ok (.iload_n 3, 1) := dk_29 (dk_at dksX2_nextFrom_3 17 rfl rfl)
theorem dX2_nextFrom_89 : decode cX2_nextFrom 89 = .ok (.ireturn, 1) := dk_172 (dk_at dksX2_nextFrom_3 18 rfl rfl)
abbrev cX2_reachOf : ByteArray := prog_20_method_118_code
def yX2_reachOf : MethodName := ⟨RX2, "reachOf", "(I)I"⟩
def dkwX2_reachOf_0 : List UInt8 := [42, 180, 0, 7, 16, 88, 27, 96, 46, 4, 27, 120, 128, 172]
abbrev dktX2_reachOf_0 : List UInt8 := dkwX2_reachOf_0 ++ []
theorem dksX2_reachOf_0 : cX2_reachOf.data.toList.drop 0 = dktX2_reachOf_0 := by decide +kernel
theorem dX2_reachOf_0 : decode cX2_reachOf 0 = .ok (.aload_n 0, 1) := dk_42 (dk_at dksX2_reachOf_0 0 rfl rfl)
theorem dX2_reachOf_1 : decode cX2_reachOf 1 = .ok (.getfield 7, 3) := dk_180 0 7 (dk_at dksX2_reachOf_0 1 rfl rfl)
theorem dX2_reachOf_4 : decode cX2_reachOf 4 = .ok (.bipush 88, 2) := dk_16 88 (dk_at dksX2_reachOf_0 4 rfl rfl)
theorem dX2_reachOf_6 : decode cX2_reachOf 6 = .ok (.iload_n 1, 1) := dk_27 (dk_at dksX2_reachOf_0 6 rfl rfl)
theorem dX2_reachOf_7 : decode cX2_reachOf 7 = .ok (.iadd, 1) := dk_96 (dk_at dksX2_reachOf_0 7 rfl rfl)
theorem dX2_reachOf_8 : decode cX2_reachOf 8 = .ok (.iaload, 1) := dk_46 (dk_at dksX2_reachOf_0 8 rfl rfl)
theorem dX2_reachOf_9 : decode cX2_reachOf 9 = .ok (.iconst 1, 1) := dk_4 (dk_at dksX2_reachOf_0 9 rfl rfl)
theorem dX2_reachOf_10 : decode cX2_reachOf 10 = .ok (.iload_n 1, 1) := dk_27 (dk_at dksX2_reachOf_0 10 rfl rfl)
theorem dX2_reachOf_11 : decode cX2_reachOf 11 = .ok (.ishl, 1) := dk_120 (dk_at dksX2_reachOf_0 11 rfl rfl)
theorem dX2_reachOf_12 : decode cX2_reachOf 12 = .ok (.ior, 1) := dk_128 (dk_at dksX2_reachOf_0 12 rfl rfl)
theorem dX2_reachOf_13 : decode cX2_reachOf 13 = .ok (.ireturn, 1) := dk_172 (dk_at dksX2_reachOf_0 13 rfl rfl)
abbrev cX2_common : ByteArray := prog_20_method_122_code
def yX2_common : MethodName := ⟨RX2, "common", "(II)I"⟩
def dkwX2_common_0 : List UInt8 := [26, 61, 27, 62, 29, 153, 0, 16, 28, 29, 112, 54, 4, 29, 61, 21, 4, 62, 167, 255, 242, 28, 172]
abbrev dktX2_common_0 : List UInt8 := dkwX2_common_0 ++ []
theorem dksX2_common_0 : cX2_common.data.toList.drop 0 = dktX2_common_0 := by decide +kernel
theorem dX2_common_0 : decode cX2_common 0 = .ok (.iload_n 0, 1) := dk_26 (dk_at dksX2_common_0 0 rfl rfl)
theorem dX2_common_1 : decode cX2_common 1 = .ok (.istore_n 2, 1) := dk_61 (dk_at dksX2_common_0 1 rfl rfl)
theorem dX2_common_2 : decode cX2_common 2 = .ok (.iload_n 1, 1) := dk_27 (dk_at dksX2_common_0 2 rfl rfl)
theorem dX2_common_3 : decode cX2_common 3 = .ok (.istore_n 3, 1) := dk_62 (dk_at dksX2_common_0 3 rfl rfl)
theorem dX2_common_4 : decode cX2_common 4 = .ok (.iload_n 3, 1) := dk_29 (dk_at dksX2_common_0 4 rfl rfl)
theorem dX2_common_5 : decode cX2_common 5 = .ok (.ifCond .eq 16, 3) := dk_153 0 16 (dk_at dksX2_common_0 5 rfl rfl)
theorem dX2_common_8 : decode cX2_common 8 = .ok (.iload_n 2, 1) := dk_28 (dk_at dksX2_common_0 8 rfl rfl)
theorem dX2_common_9 : decode cX2_common 9 = .ok (.iload_n 3, 1) := dk_29 (dk_at dksX2_common_0 9 rfl rfl)
theorem dX2_common_10 : decode cX2_common 10 = .ok (.irem, 1) := dk_112 (dk_at dksX2_common_0 10 rfl rfl)
theorem dX2_common_11 : decode cX2_common 11 = .ok (.istore 4, 2) := dk_54 4 (dk_at dksX2_common_0 11 rfl rfl)
theorem dX2_common_13 : decode cX2_common 13 = .ok (.iload_n 3, 1) := dk_29 (dk_at dksX2_common_0 13 rfl rfl)
theorem dX2_common_14 : decode cX2_common 14 = .ok (.istore_n 2, 1) := dk_61 (dk_at dksX2_common_0 14 rfl rfl)
theorem dX2_common_15 : decode cX2_common 15 = .ok (.iload 4, 2) := dk_21 4 (dk_at dksX2_common_0 15 rfl rfl)
theorem dX2_common_17 : decode cX2_common 17 = .ok (.istore_n 3, 1) := dk_62 (dk_at dksX2_common_0 17 rfl rfl)
theorem dX2_common_18 : decode cX2_common 18 = .ok (.goto (-14), 3) := dk_167 255 242 (dk_at dksX2_common_0 18 rfl rfl)
theorem dX2_common_21 : decode cX2_common 21 = .ok (.iload_n 2, 1) := dk_28 (dk_at dksX2_common_0 21 rfl rfl)
theorem dX2_common_22 : decode cX2_common 22 = .ok (.ireturn, 1) := dk_172 (dk_at dksX2_common_0 22 rfl rfl)
abbrev cX2_lowestFrom : ByteArray := prog_20_method_120_code
def yX2_lowestFrom : MethodName := ⟨RX2, "lowestFrom", "(I)I"⟩
def dkwX2_lowestFrom_0 : List UInt8 := [3, 61, 42, 27, 182, 1, 180, 28, 184, 0, 78, 154, 0, 9, 132, 2, 1, 167, 255, 241, 28, 172]
abbrev dktX2_lowestFrom_0 : List UInt8 := dkwX2_lowestFrom_0 ++ []
theorem dksX2_lowestFrom_0 : cX2_lowestFrom.data.toList.drop 0 = dktX2_lowestFrom_0 := by decide +kernel
theorem dX2_lowestFrom_0 : decode cX2_lowestFrom 0 = .ok (.iconst 0, 1) := dk_3 (dk_at dksX2_lowestFrom_0 0 rfl rfl)
theorem dX2_lowestFrom_1 : decode cX2_lowestFrom 1 = .ok (.istore_n 2, 1) := dk_61 (dk_at dksX2_lowestFrom_0 1 rfl rfl)
theorem dX2_lowestFrom_2 : decode cX2_lowestFrom 2 = .ok (.aload_n 0, 1) := dk_42 (dk_at dksX2_lowestFrom_0 2 rfl rfl)
theorem dX2_lowestFrom_3 : decode cX2_lowestFrom 3 = .ok (.iload_n 1, 1) := dk_27 (dk_at dksX2_lowestFrom_0 3 rfl rfl)
theorem dX2_lowestFrom_4 : decode cX2_lowestFrom 4 = .ok (.invokevirtual 436, 3) := dk_182 1 180 (dk_at dksX2_lowestFrom_0 4 rfl rfl)
theorem dX2_lowestFrom_7 : decode cX2_lowestFrom 7 = .ok (.iload_n 2, 1) := dk_28 (dk_at dksX2_lowestFrom_0 7 rfl rfl)
theorem dX2_lowestFrom_8 : decode cX2_lowestFrom 8 = .ok (.invokestatic 78, 3) := dk_184 0 78 (dk_at dksX2_lowestFrom_0 8 rfl rfl)
theorem dX2_lowestFrom_11 : decode cX2_lowestFrom 11 = .ok (.ifCond .ne 9, 3) := dk_154 0 9 (dk_at dksX2_lowestFrom_0 11 rfl rfl)
theorem dX2_lowestFrom_14 : decode cX2_lowestFrom 14 = .ok (.iinc 2 1, 3) := dk_132 2 1 (dk_at dksX2_lowestFrom_0 14 rfl rfl)
theorem dX2_lowestFrom_17 : decode cX2_lowestFrom 17 = .ok (.goto (-15), 3) := dk_167 255 241 (dk_at dksX2_lowestFrom_0 17 rfl rfl)
theorem dX2_lowestFrom_20 : decode cX2_lowestFrom 20 = .ok (.iload_n 2, 1) := dk_28 (dk_at dksX2_lowestFrom_0 20 rfl rfl)
theorem dX2_lowestFrom_21 : decode cX2_lowestFrom 21 = .ok (.ireturn, 1) := dk_172 (dk_at dksX2_lowestFrom_0 21 rfl rfl)
abbrev cX2_steps : ByteArray := prog_20_method_125_code
def yX2_steps : MethodName := ⟨RX2, "steps", "(II)I"⟩
def dkwX2_steps_2 : List UInt8 := [182, 1, 195, 62, 132, 4, 1, 167, 255, 228, 2, 172]
abbrev dktX2_steps_2 : List UInt8 := dkwX2_steps_2 ++ []
def dkwX2_steps_1 : List UInt8 := [54, 4, 21, 4, 16, 8, 162, 0, 27, 29, 28, 184, 0, 78, 153, 0, 6, 21, 4, 172, 42, 29, 3]
abbrev dktX2_steps_1 : List UInt8 := dkwX2_steps_1 ++ dktX2_steps_2
def dkwX2_steps_0 : List UInt8 := [42, 27, 182, 0, 75, 153, 0, 11, 42, 28, 182, 0, 75, 154, 0, 5, 2, 172, 4, 27, 120, 62, 3]
abbrev dktX2_steps_0 : List UInt8 := dkwX2_steps_0 ++ dktX2_steps_1
theorem dksX2_steps_0 : cX2_steps.data.toList.drop 0 = dktX2_steps_0 := by decide +kernel
theorem dksX2_steps_1 : cX2_steps.data.toList.drop 23 = dktX2_steps_1 := dk_seg dksX2_steps_0 23 rfl rfl
theorem dksX2_steps_2 : cX2_steps.data.toList.drop 46 = dktX2_steps_2 := dk_seg dksX2_steps_1 23 rfl rfl
theorem dX2_steps_0 : decode cX2_steps 0 = .ok (.aload_n 0, 1) := dk_42 (dk_at dksX2_steps_0 0 rfl rfl)
theorem dX2_steps_1 : decode cX2_steps 1 = .ok (.iload_n 1, 1) := dk_27 (dk_at dksX2_steps_0 1 rfl rfl)
theorem dX2_steps_2 : decode cX2_steps 2 = .ok (.invokevirtual 75, 3) := dk_182 0 75 (dk_at dksX2_steps_0 2 rfl rfl)
theorem dX2_steps_5 : decode cX2_steps 5 = .ok (.ifCond .eq 11, 3) := dk_153 0 11 (dk_at dksX2_steps_0 5 rfl rfl)
theorem dX2_steps_8 : decode cX2_steps 8 = .ok (.aload_n 0, 1) := dk_42 (dk_at dksX2_steps_0 8 rfl rfl)
theorem dX2_steps_9 : decode cX2_steps 9 = .ok (.iload_n 2, 1) := dk_28 (dk_at dksX2_steps_0 9 rfl rfl)
theorem dX2_steps_10 : decode cX2_steps 10 = .ok (.invokevirtual 75, 3) := dk_182 0 75 (dk_at dksX2_steps_0 10 rfl rfl)
theorem dX2_steps_13 : decode cX2_steps 13 = .ok (.ifCond .ne 5, 3) := dk_154 0 5 (dk_at dksX2_steps_0 13 rfl rfl)
theorem dX2_steps_16 : decode cX2_steps 16 = .ok (.iconst (-1), 1) := dk_2 (dk_at dksX2_steps_0 16 rfl rfl)
theorem dX2_steps_17 : decode cX2_steps 17 = .ok (.ireturn, 1) := dk_172 (dk_at dksX2_steps_0 17 rfl rfl)
theorem dX2_steps_18 : decode cX2_steps 18 = .ok (.iconst 1, 1) := dk_4 (dk_at dksX2_steps_0 18 rfl rfl)
theorem dX2_steps_19 : decode cX2_steps 19 = .ok (.iload_n 1, 1) := dk_27 (dk_at dksX2_steps_0 19 rfl rfl)
theorem dX2_steps_20 : decode cX2_steps 20 = .ok (.ishl, 1) := dk_120 (dk_at dksX2_steps_0 20 rfl rfl)
theorem dX2_steps_21 : decode cX2_steps 21 = .ok (.istore_n 3, 1) := dk_62 (dk_at dksX2_steps_0 21 rfl rfl)
theorem dX2_steps_22 : decode cX2_steps 22 = .ok (.iconst 0, 1) := dk_3 (dk_at dksX2_steps_0 22 rfl rfl)
theorem dX2_steps_23 : decode cX2_steps 23 = .ok (.istore 4, 2) := dk_54 4 (dk_at dksX2_steps_1 0 rfl rfl)
theorem dX2_steps_25 : decode cX2_steps 25 = .ok (.iload 4, 2) := dk_21 4 (dk_at dksX2_steps_1 2 rfl rfl)
theorem dX2_steps_27 : decode cX2_steps 27 = .ok (.bipush 8, 2) := dk_16 8 (dk_at dksX2_steps_1 4 rfl rfl)
theorem dX2_steps_29 : decode cX2_steps 29 = .ok (.if_icmp .ge 27, 3) := dk_162 0 27 (dk_at dksX2_steps_1 6 rfl rfl)
theorem dX2_steps_32 : decode cX2_steps 32 = .ok (.iload_n 3, 1) := dk_29 (dk_at dksX2_steps_1 9 rfl rfl)
theorem dX2_steps_33 : decode cX2_steps 33 = .ok (.iload_n 2, 1) := dk_28 (dk_at dksX2_steps_1 10 rfl rfl)
theorem dX2_steps_34 : decode cX2_steps 34 = .ok (.invokestatic 78, 3) := dk_184 0 78 (dk_at dksX2_steps_1 11 rfl rfl)
theorem dX2_steps_37 : decode cX2_steps 37 = .ok (.ifCond .eq 6, 3) := dk_153 0 6 (dk_at dksX2_steps_1 14 rfl rfl)
theorem dX2_steps_40 : decode cX2_steps 40 = .ok (.iload 4, 2) := dk_21 4 (dk_at dksX2_steps_1 17 rfl rfl)
theorem dX2_steps_42 : decode cX2_steps 42 = .ok (.ireturn, 1) := dk_172 (dk_at dksX2_steps_1 19 rfl rfl)
theorem dX2_steps_43 : decode cX2_steps 43 = .ok (.aload_n 0, 1) := dk_42 (dk_at dksX2_steps_1 20 rfl rfl)
theorem dX2_steps_44 : decode cX2_steps 44 = .ok (.iload_n 3, 1) := dk_29 (dk_at dksX2_steps_1 21 rfl rfl)
theorem dX2_steps_45 : decode cX2_steps 45 = .ok (.iconst 0, 1) := dk_3 (dk_at dksX2_steps_1 22 rfl rfl)
theorem dX2_steps_46 : decode cX2_steps 46 = .ok (.invokevirtual 451, 3) := dk_182 1 195 (dk_at dksX2_steps_2 0 rfl rfl)
theorem dX2_steps_49 : decode cX2_steps 49 = .ok (.istore_n 3, 1) := dk_62 (dk_at dksX2_steps_2 3 rfl rfl)
theorem dX2_steps_50 : decode cX2_steps 50 = .ok (.iinc 4 1, 3) := dk_132 4 1 (dk_at dksX2_steps_2 4 rfl rfl)
theorem dX2_steps_53 : decode cX2_steps 53 = .ok (.goto (-28), 3) := dk_167 255 228 (dk_at dksX2_steps_2 7 rfl rfl)
theorem dX2_steps_56 : decode cX2_steps 56 = .ok (.iconst (-1), 1) := dk_2 (dk_at dksX2_steps_2 10 rfl rfl)
theorem dX2_steps_57 : decode cX2_steps 57 = .ok (.ireturn, 1) := dk_172 (dk_at dksX2_steps_2 11 rfl rfl)
abbrev cX2_spread : ByteArray := prog_20_method_124_code
def yX2_spread : MethodName := ⟨RX2, "spread", "(II)I"⟩
def dkwX2_spread_2 : List UInt8 := [2, 130, 126, 172]
abbrev dktX2_spread_2 : List UInt8 := dkwX2_spread_2 ++ []
def dkwX2_spread_1 : List UInt8 := [153, 0, 16, 29, 42, 180, 0, 7, 16, 88, 21, 4, 96, 46, 128, 62, 132, 4, 1, 167, 255, 220, 29, 28]
abbrev dktX2_spread_1 : List UInt8 := dkwX2_spread_1 ++ dktX2_spread_2
def dkwX2_spread_0 : List UInt8 := [27, 62, 3, 54, 4, 21, 4, 42, 180, 0, 7, 3, 46, 162, 0, 31, 27, 21, 4, 184, 0, 78]
abbrev dktX2_spread_0 : List UInt8 := dkwX2_spread_0 ++ dktX2_spread_1
theorem dksX2_spread_0 : cX2_spread.data.toList.drop 0 = dktX2_spread_0 := by decide +kernel
theorem dksX2_spread_1 : cX2_spread.data.toList.drop 22 = dktX2_spread_1 := dk_seg dksX2_spread_0 22 rfl rfl
theorem dksX2_spread_2 : cX2_spread.data.toList.drop 46 = dktX2_spread_2 := dk_seg dksX2_spread_1 24 rfl rfl
theorem dX2_spread_0 : decode cX2_spread 0 = .ok (.iload_n 1, 1) := dk_27 (dk_at dksX2_spread_0 0 rfl rfl)
theorem dX2_spread_1 : decode cX2_spread 1 = .ok (.istore_n 3, 1) := dk_62 (dk_at dksX2_spread_0 1 rfl rfl)
theorem dX2_spread_2 : decode cX2_spread 2 = .ok (.iconst 0, 1) := dk_3 (dk_at dksX2_spread_0 2 rfl rfl)
theorem dX2_spread_3 : decode cX2_spread 3 = .ok (.istore 4, 2) := dk_54 4 (dk_at dksX2_spread_0 3 rfl rfl)
theorem dX2_spread_5 : decode cX2_spread 5 = .ok (.iload 4, 2) := dk_21 4 (dk_at dksX2_spread_0 5 rfl rfl)
theorem dX2_spread_7 : decode cX2_spread 7 = .ok (.aload_n 0, 1) := dk_42 (dk_at dksX2_spread_0 7 rfl rfl)
theorem dX2_spread_8 : decode cX2_spread 8 = .ok (.getfield 7, 3) := dk_180 0 7 (dk_at dksX2_spread_0 8 rfl rfl)
theorem dX2_spread_11 : decode cX2_spread 11 = .ok (.iconst 0, 1) := dk_3 (dk_at dksX2_spread_0 11 rfl rfl)
theorem dX2_spread_12 : decode cX2_spread 12 = .ok (.iaload, 1) := dk_46 (dk_at dksX2_spread_0 12 rfl rfl)
theorem dX2_spread_13 : decode cX2_spread 13 = .ok (.if_icmp .ge 31, 3) := dk_162 0 31 (dk_at dksX2_spread_0 13 rfl rfl)
theorem dX2_spread_16 : decode cX2_spread 16 = .ok (.iload_n 1, 1) := dk_27 (dk_at dksX2_spread_0 16 rfl rfl)
theorem dX2_spread_17 : decode cX2_spread 17 = .ok (.iload 4, 2) := dk_21 4 (dk_at dksX2_spread_0 17 rfl rfl)
theorem dX2_spread_19 : decode cX2_spread 19 = .ok (.invokestatic 78, 3) := dk_184 0 78 (dk_at dksX2_spread_0 19 rfl rfl)
theorem dX2_spread_22 : decode cX2_spread 22 = .ok (.ifCond .eq 16, 3) := dk_153 0 16 (dk_at dksX2_spread_1 0 rfl rfl)
theorem dX2_spread_25 : decode cX2_spread 25 = .ok (.iload_n 3, 1) := dk_29 (dk_at dksX2_spread_1 3 rfl rfl)
theorem dX2_spread_26 : decode cX2_spread 26 = .ok (.aload_n 0, 1) := dk_42 (dk_at dksX2_spread_1 4 rfl rfl)
theorem dX2_spread_27 : decode cX2_spread 27 = .ok (.getfield 7, 3) := dk_180 0 7 (dk_at dksX2_spread_1 5 rfl rfl)
theorem dX2_spread_30 : decode cX2_spread 30 = .ok (.bipush 88, 2) := dk_16 88 (dk_at dksX2_spread_1 8 rfl rfl)
theorem dX2_spread_32 : decode cX2_spread 32 = .ok (.iload 4, 2) := dk_21 4 (dk_at dksX2_spread_1 10 rfl rfl)
theorem dX2_spread_34 : decode cX2_spread 34 = .ok (.iadd, 1) := dk_96 (dk_at dksX2_spread_1 12 rfl rfl)
theorem dX2_spread_35 : decode cX2_spread 35 = .ok (.iaload, 1) := dk_46 (dk_at dksX2_spread_1 13 rfl rfl)
theorem dX2_spread_36 : decode cX2_spread 36 = .ok (.ior, 1) := dk_128 (dk_at dksX2_spread_1 14 rfl rfl)
theorem dX2_spread_37 : decode cX2_spread 37 = .ok (.istore_n 3, 1) := dk_62 (dk_at dksX2_spread_1 15 rfl rfl)
theorem dX2_spread_38 : decode cX2_spread 38 = .ok (.iinc 4 1, 3) := dk_132 4 1 (dk_at dksX2_spread_1 16 rfl rfl)
theorem dX2_spread_41 : decode cX2_spread 41 = .ok (.goto (-36), 3) := dk_167 255 220 (dk_at dksX2_spread_1 19 rfl rfl)
theorem dX2_spread_44 : decode cX2_spread 44 = .ok (.iload_n 3, 1) := dk_29 (dk_at dksX2_spread_1 22 rfl rfl)
theorem dX2_spread_45 : decode cX2_spread 45 = .ok (.iload_n 2, 1) := dk_28 (dk_at dksX2_spread_1 23 rfl rfl)
theorem dX2_spread_46 : decode cX2_spread 46 = .ok (.iconst (-1), 1) := dk_2 (dk_at dksX2_spread_2 0 rfl rfl)
theorem dX2_spread_47 : decode cX2_spread 47 = .ok (.ixor, 1) := dk_130 (dk_at dksX2_spread_2 1 rfl rfl)
theorem dX2_spread_48 : decode cX2_spread 48 = .ok (.iand, 1) := dk_126 (dk_at dksX2_spread_2 2 rfl rfl)
theorem dX2_spread_49 : decode cX2_spread 49 = .ok (.ireturn, 1) := dk_172 (dk_at dksX2_spread_2 3 rfl rfl)
abbrev cX2_unheard : ByteArray := prog_20_method_126_code
def yX2_unheard : MethodName := ⟨RX2, "unheard", "(II)I"⟩
def dkwX2_unheard_2 : List UInt8 := [180, 0, 7, 3, 46, 120, 4, 100, 29, 2, 130, 126, 172]
abbrev dktX2_unheard_2 : List UInt8 := dkwX2_unheard_2 ++ []
def dkwX2_unheard_1 : List UInt8 := [3, 54, 4, 21, 4, 28, 162, 0, 16, 42, 29, 3, 182, 1, 195, 62, 132, 4, 1, 167, 255, 240, 4, 42]
abbrev dktX2_unheard_1 : List UInt8 := dkwX2_unheard_1 ++ dktX2_unheard_2
def dkwX2_unheard_0 : List UInt8 := [42, 27, 182, 0, 75, 153, 0, 13, 28, 3, 16, 9, 184, 0, 63, 154, 0, 5, 2, 172, 4, 27, 120, 62]
abbrev dktX2_unheard_0 : List UInt8 := dkwX2_unheard_0 ++ dktX2_unheard_1
theorem dksX2_unheard_0 : cX2_unheard.data.toList.drop 0 = dktX2_unheard_0 := by decide +kernel
theorem dksX2_unheard_1 : cX2_unheard.data.toList.drop 24 = dktX2_unheard_1 := dk_seg dksX2_unheard_0 24 rfl rfl
theorem dksX2_unheard_2 : cX2_unheard.data.toList.drop 48 = dktX2_unheard_2 := dk_seg dksX2_unheard_1 24 rfl rfl
theorem dX2_unheard_0 : decode cX2_unheard 0 = .ok (.aload_n 0, 1) := dk_42 (dk_at dksX2_unheard_0 0 rfl rfl)
theorem dX2_unheard_1 : decode cX2_unheard 1 = .ok (.iload_n 1, 1) := dk_27 (dk_at dksX2_unheard_0 1 rfl rfl)
theorem dX2_unheard_2 : decode cX2_unheard 2 = .ok (.invokevirtual 75, 3) := dk_182 0 75 (dk_at dksX2_unheard_0 2 rfl rfl)
theorem dX2_unheard_5 : decode cX2_unheard 5 = .ok (.ifCond .eq 13, 3) := dk_153 0 13 (dk_at dksX2_unheard_0 5 rfl rfl)
theorem dX2_unheard_8 : decode cX2_unheard 8 = .ok (.iload_n 2, 1) := dk_28 (dk_at dksX2_unheard_0 8 rfl rfl)
theorem dX2_unheard_9 : decode cX2_unheard 9 = .ok (.iconst 0, 1) := dk_3 (dk_at dksX2_unheard_0 9 rfl rfl)
theorem dX2_unheard_10 : decode cX2_unheard 10 = .ok (.bipush 9, 2) := dk_16 9 (dk_at dksX2_unheard_0 10 rfl rfl)
theorem dX2_unheard_12 : decode cX2_unheard 12 = .ok (.invokestatic 63, 3) := dk_184 0 63 (dk_at dksX2_unheard_0 12 rfl rfl)
theorem dX2_unheard_15 : decode cX2_unheard 15 = .ok (.ifCond .ne 5, 3) := dk_154 0 5 (dk_at dksX2_unheard_0 15 rfl rfl)
theorem dX2_unheard_18 : decode cX2_unheard 18 = .ok (.iconst (-1), 1) := dk_2 (dk_at dksX2_unheard_0 18 rfl rfl)
theorem dX2_unheard_19 : decode cX2_unheard 19 = .ok (.ireturn, 1) := dk_172 (dk_at dksX2_unheard_0 19 rfl rfl)
theorem dX2_unheard_20 : decode cX2_unheard 20 = .ok (.iconst 1, 1) := dk_4 (dk_at dksX2_unheard_0 20 rfl rfl)
theorem dX2_unheard_21 : decode cX2_unheard 21 = .ok (.iload_n 1, 1) := dk_27 (dk_at dksX2_unheard_0 21 rfl rfl)
theorem dX2_unheard_22 : decode cX2_unheard 22 = .ok (.ishl, 1) := dk_120 (dk_at dksX2_unheard_0 22 rfl rfl)
theorem dX2_unheard_23 : decode cX2_unheard 23 = .ok (.istore_n 3, 1) := dk_62 (dk_at dksX2_unheard_0 23 rfl rfl)
theorem dX2_unheard_24 : decode cX2_unheard 24 = .ok (.iconst 0, 1) := dk_3 (dk_at dksX2_unheard_1 0 rfl rfl)
theorem dX2_unheard_25 : decode cX2_unheard 25 = .ok (.istore 4, 2) := dk_54 4 (dk_at dksX2_unheard_1 1 rfl rfl)
theorem dX2_unheard_27 : decode cX2_unheard 27 = .ok (.iload 4, 2) := dk_21 4 (dk_at dksX2_unheard_1 3 rfl rfl)
theorem dX2_unheard_29 : decode cX2_unheard 29 = .ok (.iload_n 2, 1) := dk_28 (dk_at dksX2_unheard_1 5 rfl rfl)
theorem dX2_unheard_30 : decode cX2_unheard 30 = .ok (.if_icmp .ge 16, 3) := dk_162 0 16 (dk_at dksX2_unheard_1 6 rfl rfl)
theorem dX2_unheard_33 : decode cX2_unheard 33 = .ok (.aload_n 0, 1) := dk_42 (dk_at dksX2_unheard_1 9 rfl rfl)
theorem dX2_unheard_34 : decode cX2_unheard 34 = .ok (.iload_n 3, 1) := dk_29 (dk_at dksX2_unheard_1 10 rfl rfl)
theorem dX2_unheard_35 : decode cX2_unheard 35 = .ok (.iconst 0, 1) := dk_3 (dk_at dksX2_unheard_1 11 rfl rfl)
theorem dX2_unheard_36 : decode cX2_unheard 36 = .ok (.invokevirtual 451, 3) := dk_182 1 195 (dk_at dksX2_unheard_1 12 rfl rfl)
theorem dX2_unheard_39 : decode cX2_unheard 39 = .ok (.istore_n 3, 1) := dk_62 (dk_at dksX2_unheard_1 15 rfl rfl)
theorem dX2_unheard_40 : decode cX2_unheard 40 = .ok (.iinc 4 1, 3) := dk_132 4 1 (dk_at dksX2_unheard_1 16 rfl rfl)
theorem dX2_unheard_43 : decode cX2_unheard 43 = .ok (.goto (-16), 3) := dk_167 255 240 (dk_at dksX2_unheard_1 19 rfl rfl)
theorem dX2_unheard_46 : decode cX2_unheard 46 = .ok (.iconst 1, 1) := dk_4 (dk_at dksX2_unheard_1 22 rfl rfl)
theorem dX2_unheard_47 : decode cX2_unheard 47 = .ok (.aload_n 0, 1) := dk_42 (dk_at dksX2_unheard_1 23 rfl rfl)
theorem dX2_unheard_48 : decode cX2_unheard 48 = .ok (.getfield 7, 3) := dk_180 0 7 (dk_at dksX2_unheard_2 0 rfl rfl)
theorem dX2_unheard_51 : decode cX2_unheard 51 = .ok (.iconst 0, 1) := dk_3 (dk_at dksX2_unheard_2 3 rfl rfl)
theorem dX2_unheard_52 : decode cX2_unheard 52 = .ok (.iaload, 1) := dk_46 (dk_at dksX2_unheard_2 4 rfl rfl)
theorem dX2_unheard_53 : decode cX2_unheard 53 = .ok (.ishl, 1) := dk_120 (dk_at dksX2_unheard_2 5 rfl rfl)
theorem dX2_unheard_54 : decode cX2_unheard 54 = .ok (.iconst 1, 1) := dk_4 (dk_at dksX2_unheard_2 6 rfl rfl)
theorem dX2_unheard_55 : decode cX2_unheard 55 = .ok (.isub, 1) := dk_100 (dk_at dksX2_unheard_2 7 rfl rfl)
theorem dX2_unheard_56 : decode cX2_unheard 56 = .ok (.iload_n 3, 1) := dk_29 (dk_at dksX2_unheard_2 8 rfl rfl)
theorem dX2_unheard_57 : decode cX2_unheard 57 = .ok (.iconst (-1), 1) := dk_2 (dk_at dksX2_unheard_2 9 rfl rfl)
theorem dX2_unheard_58 : decode cX2_unheard 58 = .ok (.ixor, 1) := dk_130 (dk_at dksX2_unheard_2 10 rfl rfl)
theorem dX2_unheard_59 : decode cX2_unheard 59 = .ok (.iand, 1) := dk_126 (dk_at dksX2_unheard_2 11 rfl rfl)
theorem dX2_unheard_60 : decode cX2_unheard 60 = .ok (.ireturn, 1) := dk_172 (dk_at dksX2_unheard_2 12 rfl rfl)
abbrev cX2_borders : ByteArray := prog_20_method_127_code
def yX2_borders : MethodName := ⟨RX2, "borders", "(I)Z"⟩
def dkwX2_borders_0 : List UInt8 := [27, 3, 17, 0, 255, 184, 0, 63, 154, 0, 5, 3, 172, 42, 180, 0, 7, 16, 9, 27, 79, 4, 172]
abbrev dktX2_borders_0 : List UInt8 := dkwX2_borders_0 ++ []
theorem dksX2_borders_0 : cX2_borders.data.toList.drop 0 = dktX2_borders_0 := by decide +kernel
theorem dX2_borders_0 : decode cX2_borders 0 = .ok (.iload_n 1, 1) := dk_27 (dk_at dksX2_borders_0 0 rfl rfl)
theorem dX2_borders_1 : decode cX2_borders 1 = .ok (.iconst 0, 1) := dk_3 (dk_at dksX2_borders_0 1 rfl rfl)
theorem dX2_borders_2 : decode cX2_borders 2 = .ok (.sipush 255, 3) := dk_17 0 255 (dk_at dksX2_borders_0 2 rfl rfl)
theorem dX2_borders_5 : decode cX2_borders 5 = .ok (.invokestatic 63, 3) := dk_184 0 63 (dk_at dksX2_borders_0 5 rfl rfl)
theorem dX2_borders_8 : decode cX2_borders 8 = .ok (.ifCond .ne 5, 3) := dk_154 0 5 (dk_at dksX2_borders_0 8 rfl rfl)
theorem dX2_borders_11 : decode cX2_borders 11 = .ok (.iconst 0, 1) := dk_3 (dk_at dksX2_borders_0 11 rfl rfl)
theorem dX2_borders_12 : decode cX2_borders 12 = .ok (.ireturn, 1) := dk_172 (dk_at dksX2_borders_0 12 rfl rfl)
theorem dX2_borders_13 : decode cX2_borders 13 = .ok (.aload_n 0, 1) := dk_42 (dk_at dksX2_borders_0 13 rfl rfl)
theorem dX2_borders_14 : decode cX2_borders 14 = .ok (.getfield 7, 3) := dk_180 0 7 (dk_at dksX2_borders_0 14 rfl rfl)
theorem dX2_borders_17 : decode cX2_borders 17 = .ok (.bipush 9, 2) := dk_16 9 (dk_at dksX2_borders_0 17 rfl rfl)
theorem dX2_borders_19 : decode cX2_borders 19 = .ok (.iload_n 1, 1) := dk_27 (dk_at dksX2_borders_0 19 rfl rfl)
theorem dX2_borders_20 : decode cX2_borders 20 = .ok (.iastore, 1) := dk_79 (dk_at dksX2_borders_0 20 rfl rfl)
theorem dX2_borders_21 : decode cX2_borders 21 = .ok (.iconst 1, 1) := dk_4 (dk_at dksX2_borders_0 21 rfl rfl)
theorem dX2_borders_22 : decode cX2_borders 22 = .ok (.ireturn, 1) := dk_172 (dk_at dksX2_borders_0 22 rfl rfl)
abbrev cX2_toBorder : ByteArray := prog_20_method_128_code
def yX2_toBorder : MethodName := ⟨RX2, "toBorder", "(I)I"⟩
def dkwX2_toBorder_2 : List UInt8 := [167, 255, 226, 2, 172]
abbrev dktX2_toBorder_2 : List UInt8 := dkwX2_toBorder_2 ++ []
def dkwX2_toBorder_1 : List UInt8 := [180, 0, 7, 16, 9, 46, 126, 153, 0, 5, 29, 172, 42, 28, 3, 182, 1, 195, 61, 132, 3, 1]
abbrev dktX2_toBorder_1 : List UInt8 := dkwX2_toBorder_1 ++ dktX2_toBorder_2
def dkwX2_toBorder_0 : List UInt8 := [42, 27, 182, 0, 75, 154, 0, 5, 2, 172, 4, 27, 120, 61, 3, 62, 29, 16, 8, 162, 0, 30, 28, 42]
abbrev dktX2_toBorder_0 : List UInt8 := dkwX2_toBorder_0 ++ dktX2_toBorder_1
theorem dksX2_toBorder_0 : cX2_toBorder.data.toList.drop 0 = dktX2_toBorder_0 := by decide +kernel
theorem dksX2_toBorder_1 : cX2_toBorder.data.toList.drop 24 = dktX2_toBorder_1 := dk_seg dksX2_toBorder_0 24 rfl rfl
theorem dksX2_toBorder_2 : cX2_toBorder.data.toList.drop 46 = dktX2_toBorder_2 := dk_seg dksX2_toBorder_1 22 rfl rfl
theorem dX2_toBorder_0 : decode cX2_toBorder 0 = .ok (.aload_n 0, 1) := dk_42 (dk_at dksX2_toBorder_0 0 rfl rfl)
theorem dX2_toBorder_1 : decode cX2_toBorder 1 = .ok (.iload_n 1, 1) := dk_27 (dk_at dksX2_toBorder_0 1 rfl rfl)
theorem dX2_toBorder_2 : decode cX2_toBorder 2 = .ok (.invokevirtual 75, 3) := dk_182 0 75 (dk_at dksX2_toBorder_0 2 rfl rfl)
theorem dX2_toBorder_5 : decode cX2_toBorder 5 = .ok (.ifCond .ne 5, 3) := dk_154 0 5 (dk_at dksX2_toBorder_0 5 rfl rfl)
theorem dX2_toBorder_8 : decode cX2_toBorder 8 = .ok (.iconst (-1), 1) := dk_2 (dk_at dksX2_toBorder_0 8 rfl rfl)
theorem dX2_toBorder_9 : decode cX2_toBorder 9 = .ok (.ireturn, 1) := dk_172 (dk_at dksX2_toBorder_0 9 rfl rfl)
theorem dX2_toBorder_10 : decode cX2_toBorder 10 = .ok (.iconst 1, 1) := dk_4 (dk_at dksX2_toBorder_0 10 rfl rfl)
theorem dX2_toBorder_11 : decode cX2_toBorder 11 = .ok (.iload_n 1, 1) := dk_27 (dk_at dksX2_toBorder_0 11 rfl rfl)
theorem dX2_toBorder_12 : decode cX2_toBorder 12 = .ok (.ishl, 1) := dk_120 (dk_at dksX2_toBorder_0 12 rfl rfl)
theorem dX2_toBorder_13 : decode cX2_toBorder 13 = .ok (.istore_n 2, 1) := dk_61 (dk_at dksX2_toBorder_0 13 rfl rfl)
theorem dX2_toBorder_14 : decode cX2_toBorder 14 = .ok (.iconst 0, 1) := dk_3 (dk_at dksX2_toBorder_0 14 rfl rfl)
theorem dX2_toBorder_15 : decode cX2_toBorder 15 = .ok (.istore_n 3, 1) := dk_62 (dk_at dksX2_toBorder_0 15 rfl rfl)
theorem dX2_toBorder_16 : decode cX2_toBorder 16 = .ok (.iload_n 3, 1) := dk_29 (dk_at dksX2_toBorder_0 16 rfl rfl)
theorem dX2_toBorder_17 : decode cX2_toBorder 17 = .ok (.bipush 8, 2) := dk_16 8 (dk_at dksX2_toBorder_0 17 rfl rfl)
theorem dX2_toBorder_19 : decode cX2_toBorder 19 = .ok (.if_icmp .ge 30, 3) := dk_162 0 30 (dk_at dksX2_toBorder_0 19 rfl rfl)
theorem dX2_toBorder_22 : decode cX2_toBorder 22 = .ok (.iload_n 2, 1) := dk_28 (dk_at dksX2_toBorder_0 22 rfl rfl)
theorem dX2_toBorder_23 : decode cX2_toBorder 23 = .ok (.aload_n 0, 1) := dk_42 (dk_at dksX2_toBorder_0 23 rfl rfl)
theorem dX2_toBorder_24 : decode cX2_toBorder 24 = .ok (.getfield 7, 3) := dk_180 0 7 (dk_at dksX2_toBorder_1 0 rfl rfl)
theorem dX2_toBorder_27 : decode cX2_toBorder 27 = .ok (.bipush 9, 2) := dk_16 9 (dk_at dksX2_toBorder_1 3 rfl rfl)
theorem dX2_toBorder_29 : decode cX2_toBorder 29 = .ok (.iaload, 1) := dk_46 (dk_at dksX2_toBorder_1 5 rfl rfl)
theorem dX2_toBorder_30 : decode cX2_toBorder 30 = .ok (.iand, 1) := dk_126 (dk_at dksX2_toBorder_1 6 rfl rfl)
theorem dX2_toBorder_31 : decode cX2_toBorder 31 = .ok (.ifCond .eq 5, 3) := dk_153 0 5 (dk_at dksX2_toBorder_1 7 rfl rfl)
theorem dX2_toBorder_34 : decode cX2_toBorder 34 = .ok (.iload_n 3, 1) := dk_29 (dk_at dksX2_toBorder_1 10 rfl rfl)
theorem dX2_toBorder_35 : decode cX2_toBorder 35 = .ok (.ireturn, 1) := dk_172 (dk_at dksX2_toBorder_1 11 rfl rfl)
theorem dX2_toBorder_36 : decode cX2_toBorder 36 = .ok (.aload_n 0, 1) := dk_42 (dk_at dksX2_toBorder_1 12 rfl rfl)
theorem dX2_toBorder_37 : decode cX2_toBorder 37 = .ok (.iload_n 2, 1) := dk_28 (dk_at dksX2_toBorder_1 13 rfl rfl)
theorem dX2_toBorder_38 : decode cX2_toBorder 38 = .ok (.iconst 0, 1) := dk_3 (dk_at dksX2_toBorder_1 14 rfl rfl)
theorem dX2_toBorder_39 : decode cX2_toBorder 39 = .ok (.invokevirtual 451, 3) := dk_182 1 195 (dk_at dksX2_toBorder_1 15 rfl rfl)
theorem dX2_toBorder_42 : decode cX2_toBorder 42 = .ok (.istore_n 2, 1) := dk_61 (dk_at dksX2_toBorder_1 18 rfl rfl)
theorem dX2_toBorder_43 : decode cX2_toBorder 43 = .ok (.iinc 3 1, 3) := dk_132 3 1 (dk_at dksX2_toBorder_1 19 rfl rfl)
theorem dX2_toBorder_46 : decode cX2_toBorder 46 = .ok (.goto (-30), 3) := dk_167 255 226 (dk_at dksX2_toBorder_2 0 rfl rfl)
theorem dX2_toBorder_49 : decode cX2_toBorder 49 = .ok (.iconst (-1), 1) := dk_2 (dk_at dksX2_toBorder_2 3 rfl rfl)
theorem dX2_toBorder_50 : decode cX2_toBorder 50 = .ok (.ireturn, 1) := dk_172 (dk_at dksX2_toBorder_2 4 rfl rfl)
abbrev cX2_helpers : ByteArray := prog_20_method_129_code
def yX2_helpers : MethodName := ⟨RX2, "helpers", "()I"⟩
def dkwX2_helpers_2 : List UInt8 := [167, 255, 224, 28, 172]
abbrev dktX2_helpers_2 : List UInt8 := dkwX2_helpers_2 ++ []
def dkwX2_helpers_1 : List UInt8 := [28, 133, 184, 1, 12, 163, 0, 15, 42, 29, 3, 182, 1, 195, 27, 160, 0, 5, 29, 61, 132, 3, 255]
abbrev dktX2_helpers_1 : List UInt8 := dkwX2_helpers_1 ++ dktX2_helpers_2
def dkwX2_helpers_0 : List UInt8 := [4, 42, 180, 0, 7, 3, 46, 120, 4, 100, 60, 27, 61, 27, 62, 29, 155, 0, 34, 29, 133, 184, 1, 12]
abbrev dktX2_helpers_0 : List UInt8 := dkwX2_helpers_0 ++ dktX2_helpers_1
theorem dksX2_helpers_0 : cX2_helpers.data.toList.drop 0 = dktX2_helpers_0 := by decide +kernel
theorem dksX2_helpers_1 : cX2_helpers.data.toList.drop 24 = dktX2_helpers_1 := dk_seg dksX2_helpers_0 24 rfl rfl
theorem dksX2_helpers_2 : cX2_helpers.data.toList.drop 47 = dktX2_helpers_2 := dk_seg dksX2_helpers_1 23 rfl rfl
theorem dX2_helpers_0 : decode cX2_helpers 0 = .ok (.iconst 1, 1) := dk_4 (dk_at dksX2_helpers_0 0 rfl rfl)
theorem dX2_helpers_1 : decode cX2_helpers 1 = .ok (.aload_n 0, 1) := dk_42 (dk_at dksX2_helpers_0 1 rfl rfl)
theorem dX2_helpers_2 : decode cX2_helpers 2 = .ok (.getfield 7, 3) := dk_180 0 7 (dk_at dksX2_helpers_0 2 rfl rfl)
theorem dX2_helpers_5 : decode cX2_helpers 5 = .ok (.iconst 0, 1) := dk_3 (dk_at dksX2_helpers_0 5 rfl rfl)
theorem dX2_helpers_6 : decode cX2_helpers 6 = .ok (.iaload, 1) := dk_46 (dk_at dksX2_helpers_0 6 rfl rfl)
theorem dX2_helpers_7 : decode cX2_helpers 7 = .ok (.ishl, 1) := dk_120 (dk_at dksX2_helpers_0 7 rfl rfl)
theorem dX2_helpers_8 : decode cX2_helpers 8 = .ok (.iconst 1, 1) := dk_4 (dk_at dksX2_helpers_0 8 rfl rfl)
theorem dX2_helpers_9 : decode cX2_helpers 9 = .ok (.isub, 1) := dk_100 (dk_at dksX2_helpers_0 9 rfl rfl)
theorem dX2_helpers_10 : decode cX2_helpers 10 = .ok (.istore_n 1, 1) := dk_60 (dk_at dksX2_helpers_0 10 rfl rfl)
theorem dX2_helpers_11 : decode cX2_helpers 11 = .ok (.iload_n 1, 1) := dk_27 (dk_at dksX2_helpers_0 11 rfl rfl)
theorem dX2_helpers_12 : decode cX2_helpers 12 = .ok (.istore_n 2, 1) := dk_61 (dk_at dksX2_helpers_0 12 rfl rfl)
theorem dX2_helpers_13 : decode cX2_helpers 13 = .ok (.iload_n 1, 1) := dk_27 (dk_at dksX2_helpers_0 13 rfl rfl)
theorem dX2_helpers_14 : decode cX2_helpers 14 = .ok (.istore_n 3, 1) := dk_62 (dk_at dksX2_helpers_0 14 rfl rfl)
theorem dX2_helpers_15 : decode cX2_helpers 15 = .ok (.iload_n 3, 1) := dk_29 (dk_at dksX2_helpers_0 15 rfl rfl)
theorem dX2_helpers_16 : decode cX2_helpers 16 = .ok (.ifCond .lt 34, 3) := dk_155 0 34 (dk_at dksX2_helpers_0 16 rfl rfl)
theorem dX2_helpers_19 : decode cX2_helpers 19 = .ok (.iload_n 3, 1) := dk_29 (dk_at dksX2_helpers_0 19 rfl rfl)
theorem dX2_helpers_20 : decode cX2_helpers 20 = .ok (.i2l, 1) := dk_133 (dk_at dksX2_helpers_0 20 rfl rfl)
theorem dX2_helpers_21 : decode cX2_helpers 21 = .ok (.invokestatic 268, 3) := dk_184 1 12 (dk_at dksX2_helpers_0 21 rfl rfl)
theorem dX2_helpers_24 : decode cX2_helpers 24 = .ok (.iload_n 2, 1) := dk_28 (dk_at dksX2_helpers_1 0 rfl rfl)
theorem dX2_helpers_25 : decode cX2_helpers 25 = .ok (.i2l, 1) := dk_133 (dk_at dksX2_helpers_1 1 rfl rfl)
theorem dX2_helpers_26 : decode cX2_helpers 26 = .ok (.invokestatic 268, 3) := dk_184 1 12 (dk_at dksX2_helpers_1 2 rfl rfl)
theorem dX2_helpers_29 : decode cX2_helpers 29 = .ok (.if_icmp .gt 15, 3) := dk_163 0 15 (dk_at dksX2_helpers_1 5 rfl rfl)
theorem dX2_helpers_32 : decode cX2_helpers 32 = .ok (.aload_n 0, 1) := dk_42 (dk_at dksX2_helpers_1 8 rfl rfl)
theorem dX2_helpers_33 : decode cX2_helpers 33 = .ok (.iload_n 3, 1) := dk_29 (dk_at dksX2_helpers_1 9 rfl rfl)
theorem dX2_helpers_34 : decode cX2_helpers 34 = .ok (.iconst 0, 1) := dk_3 (dk_at dksX2_helpers_1 10 rfl rfl)
theorem dX2_helpers_35 : decode cX2_helpers 35 = .ok (.invokevirtual 451, 3) := dk_182 1 195 (dk_at dksX2_helpers_1 11 rfl rfl)
theorem dX2_helpers_38 : decode cX2_helpers 38 = .ok (.iload_n 1, 1) := dk_27 (dk_at dksX2_helpers_1 14 rfl rfl)
theorem dX2_helpers_39 : decode cX2_helpers 39 = .ok (.if_icmp .ne 5, 3) := dk_160 0 5 (dk_at dksX2_helpers_1 15 rfl rfl)
theorem dX2_helpers_42 : decode cX2_helpers 42 = .ok (.iload_n 3, 1) := dk_29 (dk_at dksX2_helpers_1 18 rfl rfl)
theorem dX2_helpers_43 : decode cX2_helpers 43 = .ok (.istore_n 2, 1) := dk_61 (dk_at dksX2_helpers_1 19 rfl rfl)
theorem dX2_helpers_44 : decode cX2_helpers 44 = .ok (.iinc 3 (-1), 3) := dk_132 3 255 (dk_at dksX2_helpers_1 20 rfl rfl)
theorem dX2_helpers_47 : decode cX2_helpers 47 = .ok (.goto (-32), 3) := dk_167 255 224 (dk_at dksX2_helpers_2 0 rfl rfl)
theorem dX2_helpers_50 : decode cX2_helpers 50 = .ok (.iload_n 2, 1) := dk_28 (dk_at dksX2_helpers_2 3 rfl rfl)
theorem dX2_helpers_51 : decode cX2_helpers 51 = .ok (.ireturn, 1) := dk_172 (dk_at dksX2_helpers_2 4 rfl rfl)
abbrev cX2_watch : ByteArray := prog_20_method_131_code
def yX2_watch : MethodName := ⟨RX2, "watch", "(II)I"⟩
def dkwX2_watch_5 : List UInt8 := [167, 255, 186, 29, 172]
abbrev dktX2_watch_5 : List UInt8 := dkwX2_watch_5 ++ []
def dkwX2_watch_4 : List UInt8 := [161, 0, 6, 167, 0, 17, 42, 27, 28, 21, 4, 182, 1, 198, 154, 0, 6, 21, 4, 62, 132, 4, 1]
abbrev dktX2_watch_4 : List UInt8 := dkwX2_watch_4 ++ dktX2_watch_5
def dkwX2_watch_3 : List UInt8 := [184, 0, 78, 154, 0, 39, 29, 2, 159, 0, 20, 21, 4, 133, 184, 1, 12, 29, 133, 184, 1, 12]
abbrev dktX2_watch_3 : List UInt8 := dkwX2_watch_3 ++ dktX2_watch_4
def dkwX2_watch_2 : List UInt8 := [4, 42, 180, 0, 7, 3, 46, 120, 162, 0, 63, 21, 4, 27, 184, 0, 78, 154, 0, 48, 21, 4, 28]
abbrev dktX2_watch_2 : List UInt8 := dkwX2_watch_2 ++ dktX2_watch_3
def dkwX2_watch_1 : List UInt8 := [180, 0, 7, 16, 88, 27, 96, 46, 28, 184, 0, 78, 153, 0, 5, 2, 172, 2, 62, 3, 54, 4, 21, 4]
abbrev dktX2_watch_1 : List UInt8 := dkwX2_watch_1 ++ dktX2_watch_2
def dkwX2_watch_0 : List UInt8 := [42, 27, 182, 0, 75, 153, 0, 32, 42, 28, 182, 0, 75, 153, 0, 24, 27, 28, 159, 0, 19, 42]
abbrev dktX2_watch_0 : List UInt8 := dkwX2_watch_0 ++ dktX2_watch_1
theorem dksX2_watch_0 : cX2_watch.data.toList.drop 0 = dktX2_watch_0 := by decide +kernel
theorem dksX2_watch_1 : cX2_watch.data.toList.drop 22 = dktX2_watch_1 := dk_seg dksX2_watch_0 22 rfl rfl
theorem dksX2_watch_2 : cX2_watch.data.toList.drop 46 = dktX2_watch_2 := dk_seg dksX2_watch_1 24 rfl rfl
theorem dksX2_watch_3 : cX2_watch.data.toList.drop 69 = dktX2_watch_3 := dk_seg dksX2_watch_2 23 rfl rfl
theorem dksX2_watch_4 : cX2_watch.data.toList.drop 91 = dktX2_watch_4 := dk_seg dksX2_watch_3 22 rfl rfl
theorem dksX2_watch_5 : cX2_watch.data.toList.drop 114 = dktX2_watch_5 := dk_seg dksX2_watch_4 23 rfl rfl
theorem dX2_watch_0 : decode cX2_watch 0 = .ok (.aload_n 0, 1) := dk_42 (dk_at dksX2_watch_0 0 rfl rfl)
theorem dX2_watch_1 : decode cX2_watch 1 = .ok (.iload_n 1, 1) := dk_27 (dk_at dksX2_watch_0 1 rfl rfl)
theorem dX2_watch_2 : decode cX2_watch 2 = .ok (.invokevirtual 75, 3) := dk_182 0 75 (dk_at dksX2_watch_0 2 rfl rfl)
theorem dX2_watch_5 : decode cX2_watch 5 = .ok (.ifCond .eq 32, 3) := dk_153 0 32 (dk_at dksX2_watch_0 5 rfl rfl)
theorem dX2_watch_8 : decode cX2_watch 8 = .ok (.aload_n 0, 1) := dk_42 (dk_at dksX2_watch_0 8 rfl rfl)
theorem dX2_watch_9 : decode cX2_watch 9 = .ok (.iload_n 2, 1) := dk_28 (dk_at dksX2_watch_0 9 rfl rfl)
theorem dX2_watch_10 : decode cX2_watch 10 = .ok (.invokevirtual 75, 3) := dk_182 0 75 (dk_at dksX2_watch_0 10 rfl rfl)
theorem dX2_watch_13 : decode cX2_watch 13 = .ok (.ifCond .eq 24, 3) := dk_153 0 24 (dk_at dksX2_watch_0 13 rfl rfl)
theorem dX2_watch_16 : decode cX2_watch 16 = .ok (.iload_n 1, 1) := dk_27 (dk_at dksX2_watch_0 16 rfl rfl)
theorem dX2_watch_17 : decode cX2_watch 17 = .ok (.iload_n 2, 1) := dk_28 (dk_at dksX2_watch_0 17 rfl rfl)
theorem dX2_watch_18 : decode cX2_watch 18 = .ok (.if_icmp .eq 19, 3) := dk_159 0 19 (dk_at dksX2_watch_0 18 rfl rfl)
theorem dX2_watch_21 : decode cX2_watch 21 = .ok (.aload_n 0, 1) := dk_42 (dk_at dksX2_watch_0 21 rfl rfl)
theorem dX2_watch_22 : decode cX2_watch 22 = .ok (.getfield 7, 3) := dk_180 0 7 (dk_at dksX2_watch_1 0 rfl rfl)
theorem dX2_watch_25 : decode cX2_watch 25 = .ok (.bipush 88, 2) := dk_16 88 (dk_at dksX2_watch_1 3 rfl rfl)
theorem dX2_watch_27 : decode cX2_watch 27 = .ok (.iload_n 1, 1) := dk_27 (dk_at dksX2_watch_1 5 rfl rfl)
theorem dX2_watch_28 : decode cX2_watch 28 = .ok (.iadd, 1) := dk_96 (dk_at dksX2_watch_1 6 rfl rfl)
theorem dX2_watch_29 : decode cX2_watch 29 = .ok (.iaload, 1) := dk_46 (dk_at dksX2_watch_1 7 rfl rfl)
theorem dX2_watch_30 : decode cX2_watch 30 = .ok (.iload_n 2, 1) := dk_28 (dk_at dksX2_watch_1 8 rfl rfl)
theorem dX2_watch_31 : decode cX2_watch 31 = .ok (.invokestatic 78, 3) := dk_184 0 78 (dk_at dksX2_watch_1 9 rfl rfl)
theorem dX2_watch_34 : decode cX2_watch 34 = .ok (.ifCond .eq 5, 3) := dk_153 0 5 (dk_at dksX2_watch_1 12 rfl rfl)
theorem dX2_watch_37 : decode cX2_watch 37 = .ok (.iconst (-1), 1) := dk_2 (dk_at dksX2_watch_1 15 rfl rfl)
theorem dX2_watch_38 : decode cX2_watch 38 = .ok (.ireturn, 1) := dk_172 (dk_at dksX2_watch_1 16 rfl rfl)
theorem dX2_watch_39 : decode cX2_watch 39 = .ok (.iconst (-1), 1) := dk_2 (dk_at dksX2_watch_1 17 rfl rfl)
theorem dX2_watch_40 : decode cX2_watch 40 = .ok (.istore_n 3, 1) := dk_62 (dk_at dksX2_watch_1 18 rfl rfl)
theorem dX2_watch_41 : decode cX2_watch 41 = .ok (.iconst 0, 1) := dk_3 (dk_at dksX2_watch_1 19 rfl rfl)
theorem dX2_watch_42 : decode cX2_watch 42 = .ok (.istore 4, 2) := dk_54 4 (dk_at dksX2_watch_1 20 rfl rfl)
theorem dX2_watch_44 : decode cX2_watch 44 = .ok (.iload 4, 2) := dk_21 4 (dk_at dksX2_watch_1 22 rfl rfl)
theorem dX2_watch_46 : decode cX2_watch 46 = .ok (.iconst 1, 1) := dk_4 (dk_at dksX2_watch_2 0 rfl rfl)
theorem dX2_watch_47 : decode cX2_watch 47 = .ok (.aload_n 0, 1) := dk_42 (dk_at dksX2_watch_2 1 rfl rfl)
theorem dX2_watch_48 : decode cX2_watch 48 = .ok (.getfield 7, 3) := dk_180 0 7 (dk_at dksX2_watch_2 2 rfl rfl)
theorem dX2_watch_51 : decode cX2_watch 51 = .ok (.iconst 0, 1) := dk_3 (dk_at dksX2_watch_2 5 rfl rfl)
theorem dX2_watch_52 : decode cX2_watch 52 = .ok (.iaload, 1) := dk_46 (dk_at dksX2_watch_2 6 rfl rfl)
theorem dX2_watch_53 : decode cX2_watch 53 = .ok (.ishl, 1) := dk_120 (dk_at dksX2_watch_2 7 rfl rfl)
theorem dX2_watch_54 : decode cX2_watch 54 = .ok (.if_icmp .ge 63, 3) := dk_162 0 63 (dk_at dksX2_watch_2 8 rfl rfl)
theorem dX2_watch_57 : decode cX2_watch 57 = .ok (.iload 4, 2) := dk_21 4 (dk_at dksX2_watch_2 11 rfl rfl)
theorem dX2_watch_59 : decode cX2_watch 59 = .ok (.iload_n 1, 1) := dk_27 (dk_at dksX2_watch_2 13 rfl rfl)
theorem dX2_watch_60 : decode cX2_watch 60 = .ok (.invokestatic 78, 3) := dk_184 0 78 (dk_at dksX2_watch_2 14 rfl rfl)
theorem dX2_watch_63 : decode cX2_watch 63 = .ok (.ifCond .ne 48, 3) := dk_154 0 48 (dk_at dksX2_watch_2 17 rfl rfl)
theorem dX2_watch_66 : decode cX2_watch 66 = .ok (.iload 4, 2) := dk_21 4 (dk_at dksX2_watch_2 20 rfl rfl)
theorem dX2_watch_68 : decode cX2_watch 68 = .ok (.iload_n 2, 1) := dk_28 (dk_at dksX2_watch_2 22 rfl rfl)
theorem dX2_watch_69 : decode cX2_watch 69 = .ok (.invokestatic 78, 3) := dk_184 0 78 (dk_at dksX2_watch_3 0 rfl rfl)
theorem dX2_watch_72 : decode cX2_watch 72 = .ok (.ifCond .ne 39, 3) := dk_154 0 39 (dk_at dksX2_watch_3 3 rfl rfl)
theorem dX2_watch_75 : decode cX2_watch 75 = .ok (.iload_n 3, 1) := dk_29 (dk_at dksX2_watch_3 6 rfl rfl)
theorem dX2_watch_76 : decode cX2_watch 76 = .ok (.iconst (-1), 1) := dk_2 (dk_at dksX2_watch_3 7 rfl rfl)
theorem dX2_watch_77 : decode cX2_watch 77 = .ok (.if_icmp .eq 20, 3) := dk_159 0 20 (dk_at dksX2_watch_3 8 rfl rfl)
theorem dX2_watch_80 : decode cX2_watch 80 = .ok (.iload 4, 2) := dk_21 4 (dk_at dksX2_watch_3 11 rfl rfl)
theorem dX2_watch_82 : decode cX2_watch 82 = .ok (.i2l, 1) := dk_133 (dk_at dksX2_watch_3 13 rfl rfl)
theorem dX2_watch_83 : decode cX2_watch 83 = .ok (.invokestatic 268, 3) := dk_184 1 12 (dk_at dksX2_watch_3 14 rfl rfl)
theorem dX2_watch_86 : decode cX2_watch 86 = .ok (.iload_n 3, 1) := dk_29 (dk_at dksX2_watch_3 17 rfl rfl)
theorem dX2_watch_87 : decode cX2_watch 87 = .ok (.i2l, 1) := dk_133 (dk_at dksX2_watch_3 18 rfl rfl)
theorem dX2_watch_88 : decode cX2_watch 88 = .ok (.invokestatic 268, 3) := dk_184 1 12 (dk_at dksX2_watch_3 19 rfl rfl)
theorem dX2_watch_91 : decode cX2_watch 91 = .ok (.if_icmp .lt 6, 3) := dk_161 0 6 (dk_at dksX2_watch_4 0 rfl rfl)
theorem dX2_watch_94 : decode cX2_watch 94 = .ok (.goto 17, 3) := dk_167 0 17 (dk_at dksX2_watch_4 3 rfl rfl)
theorem dX2_watch_97 : decode cX2_watch 97 = .ok (.aload_n 0, 1) := dk_42 (dk_at dksX2_watch_4 6 rfl rfl)
theorem dX2_watch_98 : decode cX2_watch 98 = .ok (.iload_n 1, 1) := dk_27 (dk_at dksX2_watch_4 7 rfl rfl)
theorem dX2_watch_99 : decode cX2_watch 99 = .ok (.iload_n 2, 1) := dk_28 (dk_at dksX2_watch_4 8 rfl rfl)
theorem dX2_watch_100 : decode cX2_watch 100 = .ok (.iload 4, 2) := dk_21 4 (dk_at dksX2_watch_4 9 rfl rfl)
theorem dX2_watch_102 : decode cX2_watch 102 = .ok (.invokevirtual 454, 3) := dk_182 1 198 (dk_at dksX2_watch_4 11 rfl rfl)
theorem dX2_watch_105 : decode cX2_watch 105 = .ok (.ifCond .ne 6, 3) := dk_154 0 6 (dk_at dksX2_watch_4 14 rfl rfl)
theorem dX2_watch_108 : decode cX2_watch 108 = .ok (.iload 4, 2) := dk_21 4 (dk_at dksX2_watch_4 17 rfl rfl)
theorem dX2_watch_110 : decode cX2_watch 110 = .ok (.istore_n 3, 1) := dk_62 (dk_at dksX2_watch_4 19 rfl rfl)
theorem dX2_watch_111 : decode cX2_watch 111 = .ok (.iinc 4 1, 3) := dk_132 4 1 (dk_at dksX2_watch_4 20 rfl rfl)
theorem dX2_watch_114 : decode cX2_watch 114 = .ok (.goto (-70), 3) := dk_167 255 186 (dk_at dksX2_watch_5 0 rfl rfl)
theorem dX2_watch_117 : decode cX2_watch 117 = .ok (.iload_n 3, 1) := dk_29 (dk_at dksX2_watch_5 3 rfl rfl)
theorem dX2_watch_118 : decode cX2_watch 118 = .ok (.ireturn, 1) := dk_172 (dk_at dksX2_watch_5 4 rfl rfl)
abbrev cX2_isJoined : ByteArray := prog_20_method_130_code
def yX2_isJoined : MethodName := ⟨RX2, "isJoined", "(III)Z"⟩
def dkwX2_isJoined_1 : List UInt8 := [132, 5, 1, 167, 255, 237, 21, 4, 28, 184, 0, 78, 172]
abbrev dktX2_isJoined_1 : List UInt8 := dkwX2_isJoined_1 ++ []
def dkwX2_isJoined_0 : List UInt8 := [4, 27, 120, 54, 4, 3, 54, 5, 21, 5, 16, 8, 162, 0, 18, 42, 21, 4, 29, 182, 1, 195, 54, 4]
abbrev dktX2_isJoined_0 : List UInt8 := dkwX2_isJoined_0 ++ dktX2_isJoined_1
theorem dksX2_isJoined_0 : cX2_isJoined.data.toList.drop 0 = dktX2_isJoined_0 := by decide +kernel
theorem dksX2_isJoined_1 : cX2_isJoined.data.toList.drop 24 = dktX2_isJoined_1 := dk_seg dksX2_isJoined_0 24 rfl rfl
theorem dX2_isJoined_0 : decode cX2_isJoined 0 = .ok (.iconst 1, 1) := dk_4 (dk_at dksX2_isJoined_0 0 rfl rfl)
theorem dX2_isJoined_1 : decode cX2_isJoined 1 = .ok (.iload_n 1, 1) := dk_27 (dk_at dksX2_isJoined_0 1 rfl rfl)
theorem dX2_isJoined_2 : decode cX2_isJoined 2 = .ok (.ishl, 1) := dk_120 (dk_at dksX2_isJoined_0 2 rfl rfl)
theorem dX2_isJoined_3 : decode cX2_isJoined 3 = .ok (.istore 4, 2) := dk_54 4 (dk_at dksX2_isJoined_0 3 rfl rfl)
theorem dX2_isJoined_5 : decode cX2_isJoined 5 = .ok (.iconst 0, 1) := dk_3 (dk_at dksX2_isJoined_0 5 rfl rfl)
theorem dX2_isJoined_6 : decode cX2_isJoined 6 = .ok (.istore 5, 2) := dk_54 5 (dk_at dksX2_isJoined_0 6 rfl rfl)
theorem dX2_isJoined_8 : decode cX2_isJoined 8 = .ok (.iload 5, 2) := dk_21 5 (dk_at dksX2_isJoined_0 8 rfl rfl)
theorem dX2_isJoined_10 : decode cX2_isJoined 10 = .ok (.bipush 8, 2) := dk_16 8 (dk_at dksX2_isJoined_0 10 rfl rfl)
theorem dX2_isJoined_12 : decode cX2_isJoined 12 = .ok (.if_icmp .ge 18, 3) := dk_162 0 18 (dk_at dksX2_isJoined_0 12 rfl rfl)
theorem dX2_isJoined_15 : decode cX2_isJoined 15 = .ok (.aload_n 0, 1) := dk_42 (dk_at dksX2_isJoined_0 15 rfl rfl)
theorem dX2_isJoined_16 : decode cX2_isJoined 16 = .ok (.iload 4, 2) := dk_21 4 (dk_at dksX2_isJoined_0 16 rfl rfl)
theorem dX2_isJoined_18 : decode cX2_isJoined 18 = .ok (.iload_n 3, 1) := dk_29 (dk_at dksX2_isJoined_0 18 rfl rfl)
theorem dX2_isJoined_19 : decode cX2_isJoined 19 = .ok (.invokevirtual 451, 3) := dk_182 1 195 (dk_at dksX2_isJoined_0 19 rfl rfl)
theorem dX2_isJoined_22 : decode cX2_isJoined 22 = .ok (.istore 4, 2) := dk_54 4 (dk_at dksX2_isJoined_0 22 rfl rfl)
theorem dX2_isJoined_24 : decode cX2_isJoined 24 = .ok (.iinc 5 1, 3) := dk_132 5 1 (dk_at dksX2_isJoined_1 0 rfl rfl)
theorem dX2_isJoined_27 : decode cX2_isJoined 27 = .ok (.goto (-19), 3) := dk_167 255 237 (dk_at dksX2_isJoined_1 3 rfl rfl)
theorem dX2_isJoined_30 : decode cX2_isJoined 30 = .ok (.iload 4, 2) := dk_21 4 (dk_at dksX2_isJoined_1 6 rfl rfl)
theorem dX2_isJoined_32 : decode cX2_isJoined 32 = .ok (.iload_n 2, 1) := dk_28 (dk_at dksX2_isJoined_1 8 rfl rfl)
theorem dX2_isJoined_33 : decode cX2_isJoined 33 = .ok (.invokestatic 78, 3) := dk_184 0 78 (dk_at dksX2_isJoined_1 9 rfl rfl)
theorem dX2_isJoined_36 : decode cX2_isJoined 36 = .ok (.ireturn, 1) := dk_172 (dk_at dksX2_isJoined_1 12 rfl rfl)
abbrev cX2_crowd : ByteArray := prog_20_method_132_code
def yX2_crowd : MethodName := ⟨RX2, "crowd", "(I)I"⟩
def dkwX2_crowd_2 : List UInt8 := [96, 27, 79, 42, 180, 0, 7, 8, 92, 46, 4, 96, 79, 42, 180, 0, 7, 8, 46, 172]
abbrev dktX2_crowd_2 : List UInt8 := dkwX2_crowd_2 ++ []
def dkwX2_crowd_1 : List UInt8 := [180, 0, 7, 8, 46, 8, 160, 0, 6, 16, 254, 172, 42, 180, 0, 7, 16, 96, 42, 180, 0, 7, 8, 46]
abbrev dktX2_crowd_1 : List UInt8 := dkwX2_crowd_1 ++ dktX2_crowd_2
def dkwX2_crowd_0 : List UInt8 := [27, 2, 160, 0, 12, 42, 180, 0, 7, 8, 3, 79, 3, 172, 42, 27, 182, 0, 75, 153, 0, 13, 42]
abbrev dktX2_crowd_0 : List UInt8 := dkwX2_crowd_0 ++ dktX2_crowd_1
theorem dksX2_crowd_0 : cX2_crowd.data.toList.drop 0 = dktX2_crowd_0 := by decide +kernel
theorem dksX2_crowd_1 : cX2_crowd.data.toList.drop 23 = dktX2_crowd_1 := dk_seg dksX2_crowd_0 23 rfl rfl
theorem dksX2_crowd_2 : cX2_crowd.data.toList.drop 47 = dktX2_crowd_2 := dk_seg dksX2_crowd_1 24 rfl rfl
theorem dX2_crowd_0 : decode cX2_crowd 0 = .ok (.iload_n 1, 1) := dk_27 (dk_at dksX2_crowd_0 0 rfl rfl)
theorem dX2_crowd_1 : decode cX2_crowd 1 = .ok (.iconst (-1), 1) := dk_2 (dk_at dksX2_crowd_0 1 rfl rfl)
theorem dX2_crowd_2 : decode cX2_crowd 2 = .ok (.if_icmp .ne 12, 3) := dk_160 0 12 (dk_at dksX2_crowd_0 2 rfl rfl)
theorem dX2_crowd_5 : decode cX2_crowd 5 = .ok (.aload_n 0, 1) := dk_42 (dk_at dksX2_crowd_0 5 rfl rfl)
theorem dX2_crowd_6 : decode cX2_crowd 6 = .ok (.getfield 7, 3) := dk_180 0 7 (dk_at dksX2_crowd_0 6 rfl rfl)
theorem dX2_crowd_9 : decode cX2_crowd 9 = .ok (.iconst 5, 1) := dk_8 (dk_at dksX2_crowd_0 9 rfl rfl)
theorem dX2_crowd_10 : decode cX2_crowd 10 = .ok (.iconst 0, 1) := dk_3 (dk_at dksX2_crowd_0 10 rfl rfl)
theorem dX2_crowd_11 : decode cX2_crowd 11 = .ok (.iastore, 1) := dk_79 (dk_at dksX2_crowd_0 11 rfl rfl)
theorem dX2_crowd_12 : decode cX2_crowd 12 = .ok (.iconst 0, 1) := dk_3 (dk_at dksX2_crowd_0 12 rfl rfl)
theorem dX2_crowd_13 : decode cX2_crowd 13 = .ok (.ireturn, 1) := dk_172 (dk_at dksX2_crowd_0 13 rfl rfl)
theorem dX2_crowd_14 : decode cX2_crowd 14 = .ok (.aload_n 0, 1) := dk_42 (dk_at dksX2_crowd_0 14 rfl rfl)
theorem dX2_crowd_15 : decode cX2_crowd 15 = .ok (.iload_n 1, 1) := dk_27 (dk_at dksX2_crowd_0 15 rfl rfl)
theorem dX2_crowd_16 : decode cX2_crowd 16 = .ok (.invokevirtual 75, 3) := dk_182 0 75 (dk_at dksX2_crowd_0 16 rfl rfl)
theorem dX2_crowd_19 : decode cX2_crowd 19 = .ok (.ifCond .eq 13, 3) := dk_153 0 13 (dk_at dksX2_crowd_0 19 rfl rfl)
theorem dX2_crowd_22 : decode cX2_crowd 22 = .ok (.aload_n 0, 1) := dk_42 (dk_at dksX2_crowd_0 22 rfl rfl)
theorem dX2_crowd_23 : decode cX2_crowd 23 = .ok (.getfield 7, 3) := dk_180 0 7 (dk_at dksX2_crowd_1 0 rfl rfl)
theorem dX2_crowd_26 : decode cX2_crowd 26 = .ok (.iconst 5, 1) := dk_8 (dk_at dksX2_crowd_1 3 rfl rfl)
theorem dX2_crowd_27 : decode cX2_crowd 27 = .ok (.iaload, 1) := dk_46 (dk_at dksX2_crowd_1 4 rfl rfl)
theorem dX2_crowd_28 : decode cX2_crowd 28 = .ok (.iconst 5, 1) := dk_8 (dk_at dksX2_crowd_1 5 rfl rfl)
theorem dX2_crowd_29 : decode cX2_crowd 29 = .ok (.if_icmp .ne 6, 3) := dk_160 0 6 (dk_at dksX2_crowd_1 6 rfl rfl)
theorem dX2_crowd_32 : decode cX2_crowd 32 = .ok (.bipush (-2), 2) := dk_16 254 (dk_at dksX2_crowd_1 9 rfl rfl)
theorem dX2_crowd_34 : decode cX2_crowd 34 = .ok (.ireturn, 1) := dk_172 (dk_at dksX2_crowd_1 11 rfl rfl)
theorem dX2_crowd_35 : decode cX2_crowd 35 = .ok (.aload_n 0, 1) := dk_42 (dk_at dksX2_crowd_1 12 rfl rfl)
theorem dX2_crowd_36 : decode cX2_crowd 36 = .ok (.getfield 7, 3) := dk_180 0 7 (dk_at dksX2_crowd_1 13 rfl rfl)
theorem dX2_crowd_39 : decode cX2_crowd 39 = .ok (.bipush 96, 2) := dk_16 96 (dk_at dksX2_crowd_1 16 rfl rfl)
theorem dX2_crowd_41 : decode cX2_crowd 41 = .ok (.aload_n 0, 1) := dk_42 (dk_at dksX2_crowd_1 18 rfl rfl)
theorem dX2_crowd_42 : decode cX2_crowd 42 = .ok (.getfield 7, 3) := dk_180 0 7 (dk_at dksX2_crowd_1 19 rfl rfl)
theorem dX2_crowd_45 : decode cX2_crowd 45 = .ok (.iconst 5, 1) := dk_8 (dk_at dksX2_crowd_1 22 rfl rfl)
theorem dX2_crowd_46 : decode cX2_crowd 46 = .ok (.iaload, 1) := dk_46 (dk_at dksX2_crowd_1 23 rfl rfl)
theorem dX2_crowd_47 : decode cX2_crowd 47 = .ok (.iadd, 1) := dk_96 (dk_at dksX2_crowd_2 0 rfl rfl)
theorem dX2_crowd_48 : decode cX2_crowd 48 = .ok (.iload_n 1, 1) := dk_27 (dk_at dksX2_crowd_2 1 rfl rfl)
theorem dX2_crowd_49 : decode cX2_crowd 49 = .ok (.iastore, 1) := dk_79 (dk_at dksX2_crowd_2 2 rfl rfl)
theorem dX2_crowd_50 : decode cX2_crowd 50 = .ok (.aload_n 0, 1) := dk_42 (dk_at dksX2_crowd_2 3 rfl rfl)
theorem dX2_crowd_51 : decode cX2_crowd 51 = .ok (.getfield 7, 3) := dk_180 0 7 (dk_at dksX2_crowd_2 4 rfl rfl)
theorem dX2_crowd_54 : decode cX2_crowd 54 = .ok (.iconst 5, 1) := dk_8 (dk_at dksX2_crowd_2 7 rfl rfl)
theorem dX2_crowd_55 : decode cX2_crowd 55 = .ok (.dup2, 1) := dk_92 (dk_at dksX2_crowd_2 8 rfl rfl)
theorem dX2_crowd_56 : decode cX2_crowd 56 = .ok (.iaload, 1) := dk_46 (dk_at dksX2_crowd_2 9 rfl rfl)
theorem dX2_crowd_57 : decode cX2_crowd 57 = .ok (.iconst 1, 1) := dk_4 (dk_at dksX2_crowd_2 10 rfl rfl)
theorem dX2_crowd_58 : decode cX2_crowd 58 = .ok (.iadd, 1) := dk_96 (dk_at dksX2_crowd_2 11 rfl rfl)
theorem dX2_crowd_59 : decode cX2_crowd 59 = .ok (.iastore, 1) := dk_79 (dk_at dksX2_crowd_2 12 rfl rfl)
theorem dX2_crowd_60 : decode cX2_crowd 60 = .ok (.aload_n 0, 1) := dk_42 (dk_at dksX2_crowd_2 13 rfl rfl)
theorem dX2_crowd_61 : decode cX2_crowd 61 = .ok (.getfield 7, 3) := dk_180 0 7 (dk_at dksX2_crowd_2 14 rfl rfl)
theorem dX2_crowd_64 : decode cX2_crowd 64 = .ok (.iconst 5, 1) := dk_8 (dk_at dksX2_crowd_2 17 rfl rfl)
theorem dX2_crowd_65 : decode cX2_crowd 65 = .ok (.iaload, 1) := dk_46 (dk_at dksX2_crowd_2 18 rfl rfl)
theorem dX2_crowd_66 : decode cX2_crowd 66 = .ok (.ireturn, 1) := dk_172 (dk_at dksX2_crowd_2 19 rfl rfl)
abbrev cX2_inCrowd : ByteArray := prog_20_method_134_code
def yX2_inCrowd : MethodName := ⟨RX2, "inCrowd", "(III)I"⟩
def dkwX2_inCrowd_7 : List UInt8 := [21, 7, 172]
abbrev dktX2_inCrowd_7 : List UInt8 := dkwX2_inCrowd_7 ++ []
def dkwX2_inCrowd_6 : List UInt8 := [21, 5, 167, 0, 24, 29, 4, 160, 0, 8, 21, 6, 167, 0, 14, 21, 5, 154, 0, 7, 3, 167, 0, 5]
abbrev dktX2_inCrowd_6 : List UInt8 := dkwX2_inCrowd_6 ++ dktX2_inCrowd_7
def dkwX2_inCrowd_5 : List UInt8 := [21, 6, 21, 9, 128, 54, 6, 21, 7, 21, 9, 126, 54, 7, 132, 8, 1, 167, 255, 201, 29, 154, 0, 8]
abbrev dktX2_inCrowd_5 : List UInt8 := dkwX2_inCrowd_5 ++ dktX2_inCrowd_6
def dkwX2_inCrowd_4 : List UInt8 := [54, 9, 21, 9, 2, 159, 0, 33, 21, 9, 133, 184, 1, 12, 28, 159, 0, 6, 167, 0, 20, 132, 5, 1]
abbrev dktX2_inCrowd_4 : List UInt8 := dkwX2_inCrowd_4 ++ dktX2_inCrowd_5
def dkwX2_inCrowd_3 : List UInt8 := [3, 54, 6, 16, 31, 54, 7, 3, 54, 8, 21, 8, 21, 4, 162, 0, 54, 42, 21, 8, 27, 182, 1, 201]
abbrev dktX2_inCrowd_3 : List UInt8 := dkwX2_inCrowd_3 ++ dktX2_inCrowd_4
def dkwX2_inCrowd_2 : List UInt8 := [180, 0, 7, 8, 46, 162, 0, 16, 21, 4, 16, 8, 104, 54, 4, 132, 5, 1, 167, 255, 235, 3, 54, 5]
abbrev dktX2_inCrowd_2 : List UInt8 := dkwX2_inCrowd_2 ++ dktX2_inCrowd_3
def dkwX2_inCrowd_1 : List UInt8 := [153, 0, 12, 42, 180, 0, 7, 8, 46, 154, 0, 5, 2, 172, 4, 54, 4, 4, 54, 5, 21, 5, 42]
abbrev dktX2_inCrowd_1 : List UInt8 := dkwX2_inCrowd_1 ++ dktX2_inCrowd_2
def dkwX2_inCrowd_0 : List UInt8 := [42, 27, 182, 0, 75, 153, 0, 30, 28, 3, 8, 184, 0, 63, 153, 0, 21, 29, 3, 5, 184, 0, 63]
abbrev dktX2_inCrowd_0 : List UInt8 := dkwX2_inCrowd_0 ++ dktX2_inCrowd_1
theorem dksX2_inCrowd_0 : cX2_inCrowd.data.toList.drop 0 = dktX2_inCrowd_0 := by decide +kernel
theorem dksX2_inCrowd_1 : cX2_inCrowd.data.toList.drop 23 = dktX2_inCrowd_1 := dk_seg dksX2_inCrowd_0 23 rfl rfl
theorem dksX2_inCrowd_2 : cX2_inCrowd.data.toList.drop 46 = dktX2_inCrowd_2 := dk_seg dksX2_inCrowd_1 23 rfl rfl
theorem dksX2_inCrowd_3 : cX2_inCrowd.data.toList.drop 70 = dktX2_inCrowd_3 := dk_seg dksX2_inCrowd_2 24 rfl rfl
theorem dksX2_inCrowd_4 : cX2_inCrowd.data.toList.drop 94 = dktX2_inCrowd_4 := dk_seg dksX2_inCrowd_3 24 rfl rfl
theorem dksX2_inCrowd_5 : cX2_inCrowd.data.toList.drop 118 = dktX2_inCrowd_5 := dk_seg dksX2_inCrowd_4 24 rfl rfl
theorem dksX2_inCrowd_6 : cX2_inCrowd.data.toList.drop 142 = dktX2_inCrowd_6 := dk_seg dksX2_inCrowd_5 24 rfl rfl
theorem dksX2_inCrowd_7 : cX2_inCrowd.data.toList.drop 166 = dktX2_inCrowd_7 := dk_seg dksX2_inCrowd_6 24 rfl rfl
theorem dX2_inCrowd_0 : decode cX2_inCrowd 0 = .ok (.aload_n 0, 1) := dk_42 (dk_at dksX2_inCrowd_0 0 rfl rfl)
theorem dX2_inCrowd_1 : decode cX2_inCrowd 1 = .ok (.iload_n 1, 1) := dk_27 (dk_at dksX2_inCrowd_0 1 rfl rfl)
theorem dX2_inCrowd_2 : decode cX2_inCrowd 2 = .ok (.invokevirtual 75, 3) := dk_182 0 75 (dk_at dksX2_inCrowd_0 2 rfl rfl)
theorem dX2_inCrowd_5 : decode cX2_inCrowd 5 = .ok (.ifCond .eq 30, 3) := dk_153 0 30 (dk_at dksX2_inCrowd_0 5 rfl rfl)
theorem dX2_inCrowd_8 : decode cX2_inCrowd 8 = .ok (.iload_n 2, 1) := dk_28 (dk_at dksX2_inCrowd_0 8 rfl rfl)
theorem dX2_inCrowd_9 : decode cX2_inCrowd 9 = .ok (.iconst 0, 1) := dk_3 (dk_at dksX2_inCrowd_0 9 rfl rfl)
theorem dX2_inCrowd_10 : decode cX2_inCrowd 10 = .ok (.iconst 5, 1) := dk_8 (dk_at dksX2_inCrowd_0 10 rfl rfl)
theorem dX2_inCrowd_11 : decode cX2_inCrowd 11 = .ok (.invokestatic 63, 3) := dk_184 0 63 (dk_at dksX2_inCrowd_0 11 rfl rfl)
theorem dX2_inCrowd_14 : decode cX2_inCrowd 14 = .ok (.ifCond .eq 21, 3) := dk_153 0 21 (dk_at dksX2_inCrowd_0 14 rfl rfl)
theorem dX2_inCrowd_17 : decode cX2_inCrowd 17 = .ok (.iload_n 3, 1) := dk_29 (dk_at dksX2_inCrowd_0 17 rfl rfl)
theorem dX2_inCrowd_18 : decode cX2_inCrowd 18 = .ok (.iconst 0, 1) := dk_3 (dk_at dksX2_inCrowd_0 18 rfl rfl)
theorem dX2_inCrowd_19 : decode cX2_inCrowd 19 = .ok (.iconst 2, 1) := dk_5 (dk_at dksX2_inCrowd_0 19 rfl rfl)
theorem dX2_inCrowd_20 : decode cX2_inCrowd 20 = .ok (.invokestatic 63, 3) := dk_184 0 63 (dk_at dksX2_inCrowd_0 20 rfl rfl)
theorem dX2_inCrowd_23 : decode cX2_inCrowd 23 = .ok (.ifCond .eq 12, 3) := dk_153 0 12 (dk_at dksX2_inCrowd_1 0 rfl rfl)
theorem dX2_inCrowd_26 : decode cX2_inCrowd 26 = .ok (.aload_n 0, 1) := dk_42 (dk_at dksX2_inCrowd_1 3 rfl rfl)
theorem dX2_inCrowd_27 : decode cX2_inCrowd 27 = .ok (.getfield 7, 3) := dk_180 0 7 (dk_at dksX2_inCrowd_1 4 rfl rfl)
theorem dX2_inCrowd_30 : decode cX2_inCrowd 30 = .ok (.iconst 5, 1) := dk_8 (dk_at dksX2_inCrowd_1 7 rfl rfl)
theorem dX2_inCrowd_31 : decode cX2_inCrowd 31 = .ok (.iaload, 1) := dk_46 (dk_at dksX2_inCrowd_1 8 rfl rfl)
theorem dX2_inCrowd_32 : decode cX2_inCrowd 32 = .ok (.ifCond .ne 5, 3) := dk_154 0 5 (dk_at dksX2_inCrowd_1 9 rfl rfl)
theorem dX2_inCrowd_35 : decode cX2_inCrowd 35 = .ok (.iconst (-1), 1) := dk_2 (dk_at dksX2_inCrowd_1 12 rfl rfl)
theorem dX2_inCrowd_36 : decode cX2_inCrowd 36 = .ok (.ireturn, 1) := dk_172 (dk_at dksX2_inCrowd_1 13 rfl rfl)
theorem dX2_inCrowd_37 : decode cX2_inCrowd 37 = .ok (.iconst 1, 1) := dk_4 (dk_at dksX2_inCrowd_1 14 rfl rfl)
theorem dX2_inCrowd_38 : decode cX2_inCrowd 38 = .ok (.istore 4, 2) := dk_54 4 (dk_at dksX2_inCrowd_1 15 rfl rfl)
theorem dX2_inCrowd_40 : decode cX2_inCrowd 40 = .ok (.iconst 1, 1) := dk_4 (dk_at dksX2_inCrowd_1 17 rfl rfl)
theorem dX2_inCrowd_41 : decode cX2_inCrowd 41 = .ok (.istore 5, 2) := dk_54 5 (dk_at dksX2_inCrowd_1 18 rfl rfl)
theorem dX2_inCrowd_43 : decode cX2_inCrowd 43 = .ok (.iload 5, 2) := dk_21 5 (dk_at dksX2_inCrowd_1 20 rfl rfl)
theorem dX2_inCrowd_45 : decode cX2_inCrowd 45 = .ok (.aload_n 0, 1) := dk_42 (dk_at dksX2_inCrowd_1 22 rfl rfl)
theorem dX2_inCrowd_46 : decode cX2_inCrowd 46 = .ok (.getfield 7, 3) := dk_180 0 7 (dk_at dksX2_inCrowd_2 0 rfl rfl)
theorem dX2_inCrowd_49 : decode cX2_inCrowd 49 = .ok (.iconst 5, 1) := dk_8 (dk_at dksX2_inCrowd_2 3 rfl rfl)
theorem dX2_inCrowd_50 : decode cX2_inCrowd 50 = .ok (.iaload, 1) := dk_46 (dk_at dksX2_inCrowd_2 4 rfl rfl)
theorem dX2_inCrowd_51 : decode cX2_inCrowd 51 = .ok (.if_icmp .ge 16, 3) := dk_162 0 16 (dk_at dksX2_inCrowd_2 5 rfl rfl)
theorem dX2_inCrowd_54 : decode cX2_inCrowd 54 = .ok (.iload 4, 2) := dk_21 4 (dk_at dksX2_inCrowd_2 8 rfl rfl)
theorem dX2_inCrowd_56 : decode cX2_inCrowd 56 = .ok (.bipush 8, 2) := dk_16 8 (dk_at dksX2_inCrowd_2 10 rfl rfl)
theorem dX2_inCrowd_58 : decode cX2_inCrowd 58 = .ok (.imul, 1) := dk_104 (dk_at dksX2_inCrowd_2 12 rfl rfl)
theorem dX2_inCrowd_59 : decode cX2_inCrowd 59 = .ok (.istore 4, 2) := dk_54 4 (dk_at dksX2_inCrowd_2 13 rfl rfl)
theorem dX2_inCrowd_61 : decode cX2_inCrowd 61 = .ok (.iinc 5 1, 3) := dk_132 5 1 (dk_at dksX2_inCrowd_2 15 rfl rfl)
theorem dX2_inCrowd_64 : decode cX2_inCrowd 64 = .ok (.goto (-21), 3) := dk_167 255 235 (dk_at dksX2_inCrowd_2 18 rfl rfl)
theorem dX2_inCrowd_67 : decode cX2_inCrowd 67 = .ok (.iconst 0, 1) := dk_3 (dk_at dksX2_inCrowd_2 21 rfl rfl)
theorem dX2_inCrowd_68 : decode cX2_inCrowd 68 = .ok (.istore 5, 2) := dk_54 5 (dk_at dksX2_inCrowd_2 22 rfl rfl)
theorem dX2_inCrowd_70 : decode cX2_inCrowd 70 = .ok (.iconst 0, 1) := dk_3 (dk_at dksX2_inCrowd_3 0 rfl rfl)
theorem dX2_inCrowd_71 : decode cX2_inCrowd 71 = .ok (.istore 6, 2) := dk_54 6 (dk_at dksX2_inCrowd_3 1 rfl rfl)
theorem dX2_inCrowd_73 : decode cX2_inCrowd 73 = .ok (.bipush 31, 2) := dk_16 31 (dk_at dksX2_inCrowd_3 3 rfl rfl)
theorem dX2_inCrowd_75 : decode cX2_inCrowd 75 = .ok (.istore 7, 2) := dk_54 7 (dk_at dksX2_inCrowd_3 5 rfl rfl)
theorem dX2_inCrowd_77 : decode cX2_inCrowd 77 = .ok (.iconst 0, 1) := dk_3 (dk_at dksX2_inCrowd_3 7 rfl rfl)
theorem dX2_inCrowd_78 : decode cX2_inCrowd 78 = .ok (.istore 8, 2) := dk_54 8 (dk_at dksX2_inCrowd_3 8 rfl rfl)
theorem dX2_inCrowd_80 : decode cX2_inCrowd 80 = .ok (.iload 8, 2) := dk_21 8 (dk_at dksX2_inCrowd_3 10 rfl rfl)
theorem dX2_inCrowd_82 : decode cX2_inCrowd 82 = .ok (.iload 4, 2) := dk_21 4 (dk_at dksX2_inCrowd_3 12 rfl rfl)
theorem dX2_inCrowd_84 : decode cX2_inCrowd 84 = .ok (.if_icmp .ge 54, 3) := dk_162 0 54 (dk_at dksX2_inCrowd_3 14 rfl rfl)
theorem dX2_inCrowd_87 : decode cX2_inCrowd 87 = .ok (.aload_n 0, 1) := dk_42 (dk_at dksX2_inCrowd_3 17 rfl rfl)
theorem dX2_inCrowd_88 : decode cX2_inCrowd 88 = .ok (.iload 8, 2) := dk_21 8 (dk_at dksX2_inCrowd_3 18 rfl rfl)
theorem dX2_inCrowd_90 : decode cX2_inCrowd 90 = .ok (.iload_n 1, 1) := dk_27 (dk_at dksX2_inCrowd_3 20 rfl rfl)
theorem dX2_inCrowd_91 : decode cX2_inCrowd 91 = .ok (.invokevirtual 457, 3) := dk_182 1 201 (dk_at dksX2_inCrowd_3 21 rfl rfl)
theorem dX2_inCrowd_94 : decode cX2_inCrowd 94 = .ok (.istore 9, 2) := dk_54 9 (dk_at dksX2_inCrowd_4 0 rfl rfl)
theorem dX2_inCrowd_96 : decode cX2_inCrowd 96 = .ok (.iload 9, 2) := dk_21 9 (dk_at dksX2_inCrowd_4 2 rfl rfl)
theorem dX2_inCrowd_98 : decode cX2_inCrowd 98 = .ok (.iconst (-1), 1) := dk_2 (dk_at dksX2_inCrowd_4 4 rfl rfl)
theorem dX2_inCrowd_99 : decode cX2_inCrowd 99 = .ok (.if_icmp .eq 33, 3) := dk_159 0 33 (dk_at dksX2_inCrowd_4 5 rfl rfl)
theorem dX2_inCrowd_102 : decode cX2_inCrowd 102 = .ok (.iload 9, 2) := dk_21 9 (dk_at dksX2_inCrowd_4 8 rfl rfl)
theorem dX2_inCrowd_104 : decode cX2_inCrowd 104 = .ok (.i2l, 1) := dk_133 (dk_at dksX2_inCrowd_4 10 rfl rfl)
theorem dX2_inCrowd_105 : decode cX2_inCrowd 105 = .ok (.invokestatic 268, 3) := dk_184 1 12 (dk_at dksX2_inCrowd_4 11 rfl rfl)
theorem dX2_inCrowd_108 : decode cX2_inCrowd 108 = .ok (.iload_n 2, 1) := dk_28 (dk_at dksX2_inCrowd_4 14 rfl rfl)
theorem dX2_inCrowd_109 : decode cX2_inCrowd 109 = .ok (.if_icmp .eq 6, 3) := dk_159 0 6 (dk_at dksX2_inCrowd_4 15 rfl rfl)
theorem dX2_inCrowd_112 : decode cX2_inCrowd 112 = .ok (.goto 20, 3) := dk_167 0 20 (dk_at dksX2_inCrowd_4 18 rfl rfl)
theorem dX2_inCrowd_115 : decode cX2_inCrowd 115 = .ok (.iinc 5 1, 3) := dk_132 5 1 (dk_at dksX2_inCrowd_4 21 rfl rfl)
theorem dX2_inCrowd_118 : decode cX2_inCrowd 118 = .ok (.iload 6, 2) := dk_21 6 (dk_at dksX2_inCrowd_5 0 rfl rfl)
theorem dX2_inCrowd_120 : decode cX2_inCrowd 120 = .ok (.iload 9, 2) := dk_21 9 (dk_at dksX2_inCrowd_5 2 rfl rfl)
theorem dX2_inCrowd_122 : decode cX2_inCrowd 122 = .ok (.ior, 1) := dk_128 (dk_at dksX2_inCrowd_5 4 rfl rfl)
theorem dX2_inCrowd_123 : decode cX2_inCrowd 123 = .ok (.istore 6, 2) := dk_54 6 (dk_at dksX2_inCrowd_5 5 rfl rfl)
theorem dX2_inCrowd_125 : decode cX2_inCrowd 125 = .ok (.iload 7, 2) := dk_21 7 (dk_at dksX2_inCrowd_5 7 rfl rfl)
theorem dX2_inCrowd_127 : decode cX2_inCrowd 127 = .ok (.iload 9, 2) := dk_21 9 (dk_at dksX2_inCrowd_5 9 rfl rfl)
theorem dX2_inCrowd_129 : decode cX2_inCrowd 129 = .ok (.iand, 1) := dk_126 (dk_at dksX2_inCrowd_5 11 rfl rfl)
theorem dX2_inCrowd_130 : decode cX2_inCrowd 130 = .ok (.istore 7, 2) := dk_54 7 (dk_at dksX2_inCrowd_5 12 rfl rfl)
theorem dX2_inCrowd_132 : decode cX2_inCrowd 132 = .ok (.iinc 8 1, 3) := dk_132 8 1 (dk_at dksX2_inCrowd_5 14 rfl rfl)
theorem dX2_inCrowd_135 : decode cX2_inCrowd 135 = .ok (.goto (-55), 3) := dk_167 255 201 (dk_at dksX2_inCrowd_5 17 rfl rfl)
theorem dX2_inCrowd_138 : decode cX2_inCrowd 138 = .ok (.iload_n 3, 1) := dk_29 (dk_at dksX2_inCrowd_5 20 rfl rfl)
theorem dX2_inCrowd_139 : decode cX2_inCrowd 139 = .ok (.ifCond .ne 8, 3) := dk_154 0 8 (dk_at dksX2_inCrowd_5 21 rfl rfl)
theorem dX2_inCrowd_142 : decode cX2_inCrowd 142 = .ok (.iload 5, 2) := dk_21 5 (dk_at dksX2_inCrowd_6 0 rfl rfl)
theorem dX2_inCrowd_144 : decode cX2_inCrowd 144 = .ok (.goto 24, 3) := dk_167 0 24 (dk_at dksX2_inCrowd_6 2 rfl rfl)
theorem dX2_inCrowd_147 : decode cX2_inCrowd 147 = .ok (.iload_n 3, 1) := dk_29 (dk_at dksX2_inCrowd_6 5 rfl rfl)
theorem dX2_inCrowd_148 : decode cX2_inCrowd 148 = .ok (.iconst 1, 1) := dk_4 (dk_at dksX2_inCrowd_6 6 rfl rfl)
theorem dX2_inCrowd_149 : decode cX2_inCrowd 149 = .ok (.if_icmp .ne 8, 3) := dk_160 0 8 (dk_at dksX2_inCrowd_6 7 rfl rfl)
theorem dX2_inCrowd_152 : decode cX2_inCrowd 152 = .ok (.iload 6, 2) := dk_21 6 (dk_at dksX2_inCrowd_6 10 rfl rfl)
theorem dX2_inCrowd_154 : decode cX2_inCrowd 154 = .ok (.goto 14, 3) := dk_167 0 14 (dk_at dksX2_inCrowd_6 12 rfl rfl)
theorem dX2_inCrowd_157 : decode cX2_inCrowd 157 = .ok (.iload 5, 2) := dk_21 5 (dk_at dksX2_inCrowd_6 15 rfl rfl)
theorem dX2_inCrowd_159 : decode cX2_inCrowd 159 = .ok (.ifCond .ne 7, 3) := dk_154 0 7 (dk_at dksX2_inCrowd_6 17 rfl rfl)
theorem dX2_inCrowd_162 : decode cX2_inCrowd 162 = .ok (.iconst 0, 1) := dk_3 (dk_at dksX2_inCrowd_6 20 rfl rfl)
theorem dX2_inCrowd_163 : decode cX2_inCrowd 163 = .ok (.goto 5, 3) := dk_167 0 5 (dk_at dksX2_inCrowd_6 21 rfl rfl)
theorem dX2_inCrowd_166 : decode cX2_inCrowd 166 = .ok (.iload 7, 2) := dk_21 7 (dk_at dksX2_inCrowd_7 0 rfl rfl)
theorem dX2_inCrowd_168 : decode cX2_inCrowd 168 = .ok (.ireturn, 1) := dk_172 (dk_at dksX2_inCrowd_7 2 rfl rfl)
abbrev cX2_wasAt : ByteArray := prog_20_method_133_code
def yX2_wasAt : MethodName := ⟨RX2, "wasAt", "(II)I"⟩
def dkwX2_wasAt_4 : List UInt8 := [4, 21, 6, 120, 167, 0, 4, 3, 128, 54, 4, 132, 6, 1, 167, 255, 174, 21, 4, 172]
abbrev dktX2_wasAt_4 : List UInt8 := dkwX2_wasAt_4 ++ []
def dkwX2_wasAt_3 : List UInt8 := [154, 0, 5, 2, 172, 21, 7, 62, 21, 4, 42, 180, 0, 7, 16, 96, 21, 6, 96, 46, 29, 160, 0, 10]
abbrev dktX2_wasAt_3 : List UInt8 := dkwX2_wasAt_3 ++ dktX2_wasAt_4
def dkwX2_wasAt_2 : List UInt8 := [108, 54, 5, 42, 21, 7, 182, 0, 75, 153, 0, 16, 42, 29, 182, 1, 180, 21, 7, 184, 0, 78]
abbrev dktX2_wasAt_2 : List UInt8 := dkwX2_wasAt_2 ++ dktX2_wasAt_3
def dkwX2_wasAt_1 : List UInt8 := [54, 6, 21, 6, 42, 180, 0, 7, 8, 46, 162, 0, 77, 21, 5, 16, 8, 112, 54, 7, 21, 5, 16, 8]
abbrev dktX2_wasAt_1 : List UInt8 := dkwX2_wasAt_1 ++ dktX2_wasAt_2
def dkwX2_wasAt_0 : List UInt8 := [28, 62, 42, 180, 0, 7, 16, 96, 46, 28, 160, 0, 7, 4, 167, 0, 4, 3, 54, 4, 27, 54, 5, 4]
abbrev dktX2_wasAt_0 : List UInt8 := dkwX2_wasAt_0 ++ dktX2_wasAt_1
theorem dksX2_wasAt_0 : cX2_wasAt.data.toList.drop 0 = dktX2_wasAt_0 := by decide +kernel
theorem dksX2_wasAt_1 : cX2_wasAt.data.toList.drop 24 = dktX2_wasAt_1 := dk_seg dksX2_wasAt_0 24 rfl rfl
theorem dksX2_wasAt_2 : cX2_wasAt.data.toList.drop 48 = dktX2_wasAt_2 := dk_seg dksX2_wasAt_1 24 rfl rfl
theorem dksX2_wasAt_3 : cX2_wasAt.data.toList.drop 70 = dktX2_wasAt_3 := dk_seg dksX2_wasAt_2 22 rfl rfl
theorem dksX2_wasAt_4 : cX2_wasAt.data.toList.drop 94 = dktX2_wasAt_4 := dk_seg dksX2_wasAt_3 24 rfl rfl
theorem dX2_wasAt_0 : decode cX2_wasAt 0 = .ok (.iload_n 2, 1) := dk_28 (dk_at dksX2_wasAt_0 0 rfl rfl)
theorem dX2_wasAt_1 : decode cX2_wasAt 1 = .ok (.istore_n 3, 1) := dk_62 (dk_at dksX2_wasAt_0 1 rfl rfl)
theorem dX2_wasAt_2 : decode cX2_wasAt 2 = .ok (.aload_n 0, 1) := dk_42 (dk_at dksX2_wasAt_0 2 rfl rfl)
theorem dX2_wasAt_3 : decode cX2_wasAt 3 = .ok (.getfield 7, 3) := dk_180 0 7 (dk_at dksX2_wasAt_0 3 rfl rfl)
theorem dX2_wasAt_6 : decode cX2_wasAt 6 = .ok (.bipush 96, 2) := dk_16 96 (dk_at dksX2_wasAt_0 6 rfl rfl)
theorem dX2_wasAt_8 : decode cX2_wasAt 8 = .ok (.iaload, 1) := dk_46 (dk_at dksX2_wasAt_0 8 rfl rfl)
theorem dX2_wasAt_9 : decode cX2_wasAt 9 = .ok (.iload_n 2, 1) := dk_28 (dk_at dksX2_wasAt_0 9 rfl rfl)
theorem dX2_wasAt_10 : decode cX2_wasAt 10 = .ok (.if_icmp .ne 7, 3) := dk_160 0 7 (dk_at dksX2_wasAt_0 10 rfl rfl)
theorem dX2_wasAt_13 : decode cX2_wasAt 13 = .ok (.iconst 1, 1) := dk_4 (dk_at dksX2_wasAt_0 13 rfl rfl)
theorem dX2_wasAt_14 : decode cX2_wasAt 14 = .ok (.goto 4, 3) := dk_167 0 4 (dk_at dksX2_wasAt_0 14 rfl rfl)
theorem dX2_wasAt_17 : decode cX2_wasAt 17 = .ok (.iconst 0, 1) := dk_3 (dk_at dksX2_wasAt_0 17 rfl rfl)
theorem dX2_wasAt_18 : decode cX2_wasAt 18 = .ok (.istore 4, 2) := dk_54 4 (dk_at dksX2_wasAt_0 18 rfl rfl)
theorem dX2_wasAt_20 : decode cX2_wasAt 20 = .ok (.iload_n 1, 1) := dk_27 (dk_at dksX2_wasAt_0 20 rfl rfl)
theorem dX2_wasAt_21 : decode cX2_wasAt 21 = .ok (.istore 5, 2) := dk_54 5 (dk_at dksX2_wasAt_0 21 rfl rfl)
theorem dX2_wasAt_23 : decode cX2_wasAt 23 = .ok (.iconst 1, 1) := dk_4 (dk_at dksX2_wasAt_0 23 rfl rfl)
theorem dX2_wasAt_24 : decode cX2_wasAt 24 = .ok (.istore 6, 2) := dk_54 6 (dk_at dksX2_wasAt_1 0 rfl rfl)
theorem dX2_wasAt_26 : decode cX2_wasAt 26 = .ok (.iload 6, 2) := dk_21 6 (dk_at dksX2_wasAt_1 2 rfl rfl)
theorem dX2_wasAt_28 : decode cX2_wasAt 28 = .ok (.aload_n 0, 1) := dk_42 (dk_at dksX2_wasAt_1 4 rfl rfl)
theorem dX2_wasAt_29 : decode cX2_wasAt 29 = .ok (.getfield 7, 3) := dk_180 0 7 (dk_at dksX2_wasAt_1 5 rfl rfl)
theorem dX2_wasAt_32 : decode cX2_wasAt 32 = .ok (.iconst 5, 1) := dk_8 (dk_at dksX2_wasAt_1 8 rfl rfl)
theorem dX2_wasAt_33 : decode cX2_wasAt 33 = .ok (.iaload, 1) := dk_46 (dk_at dksX2_wasAt_1 9 rfl rfl)
theorem dX2_wasAt_34 : decode cX2_wasAt 34 = .ok (.if_icmp .ge 77, 3) := dk_162 0 77 (dk_at dksX2_wasAt_1 10 rfl rfl)
theorem dX2_wasAt_37 : decode cX2_wasAt 37 = .ok (.iload 5, 2) := dk_21 5 (dk_at dksX2_wasAt_1 13 rfl rfl)
theorem dX2_wasAt_39 : decode cX2_wasAt 39 = .ok (.bipush 8, 2) := dk_16 8 (dk_at dksX2_wasAt_1 15 rfl rfl)
theorem dX2_wasAt_41 : decode cX2_wasAt 41 = .ok (.irem, 1) := dk_112 (dk_at dksX2_wasAt_1 17 rfl rfl)
theorem dX2_wasAt_42 : decode cX2_wasAt 42 = .ok (.istore 7, 2) := dk_54 7 (dk_at dksX2_wasAt_1 18 rfl rfl)
theorem dX2_wasAt_44 : decode cX2_wasAt 44 = .ok (.iload 5, 2) := dk_21 5 (dk_at dksX2_wasAt_1 20 rfl rfl)
theorem dX2_wasAt_46 : decode cX2_wasAt 46 = .ok (.bipush 8, 2) := dk_16 8 (dk_at dksX2_wasAt_1 22 rfl rfl)
theorem dX2_wasAt_48 : decode cX2_wasAt 48 = .ok (.idiv, 1) := dk_108 (dk_at dksX2_wasAt_2 0 rfl rfl)
theorem dX2_wasAt_49 : decode cX2_wasAt 49 = .ok (.istore 5, 2) := dk_54 5 (dk_at dksX2_wasAt_2 1 rfl rfl)
theorem dX2_wasAt_51 : decode cX2_wasAt 51 = .ok (.aload_n 0, 1) := dk_42 (dk_at dksX2_wasAt_2 3 rfl rfl)
theorem dX2_wasAt_52 : decode cX2_wasAt 52 = .ok (.iload 7, 2) := dk_21 7 (dk_at dksX2_wasAt_2 4 rfl rfl)
theorem dX2_wasAt_54 : decode cX2_wasAt 54 = .ok (.invokevirtual 75, 3) := dk_182 0 75 (dk_at dksX2_wasAt_2 6 rfl rfl)
theorem dX2_wasAt_57 : decode cX2_wasAt 57 = .ok (.ifCond .eq 16, 3) := dk_153 0 16 (dk_at dksX2_wasAt_2 9 rfl rfl)
theorem dX2_wasAt_60 : decode cX2_wasAt 60 = .ok (.aload_n 0, 1) := dk_42 (dk_at dksX2_wasAt_2 12 rfl rfl)
theorem dX2_wasAt_61 : decode cX2_wasAt 61 = .ok (.iload_n 3, 1) := dk_29 (dk_at dksX2_wasAt_2 13 rfl rfl)
theorem dX2_wasAt_62 : decode cX2_wasAt 62 = .ok (.invokevirtual 436, 3) := dk_182 1 180 (dk_at dksX2_wasAt_2 14 rfl rfl)
theorem dX2_wasAt_65 : decode cX2_wasAt 65 = .ok (.iload 7, 2) := dk_21 7 (dk_at dksX2_wasAt_2 17 rfl rfl)
theorem dX2_wasAt_67 : decode cX2_wasAt 67 = .ok (.invokestatic 78, 3) := dk_184 0 78 (dk_at dksX2_wasAt_2 19 rfl rfl)
theorem dX2_wasAt_70 : decode cX2_wasAt 70 = .ok (.ifCond .ne 5, 3) := dk_154 0 5 (dk_at dksX2_wasAt_3 0 rfl rfl)
theorem dX2_wasAt_73 : decode cX2_wasAt 73 = .ok (.iconst (-1), 1) := dk_2 (dk_at dksX2_wasAt_3 3 rfl rfl)
theorem dX2_wasAt_74 : decode cX2_wasAt 74 = .ok (.ireturn, 1) := dk_172 (dk_at dksX2_wasAt_3 4 rfl rfl)
theorem dX2_wasAt_75 : decode cX2_wasAt 75 = .ok (.iload 7, 2) := dk_21 7 (dk_at dksX2_wasAt_3 5 rfl rfl)
theorem dX2_wasAt_77 : decode cX2_wasAt 77 = .ok (.istore_n 3, 1) := dk_62 (dk_at dksX2_wasAt_3 7 rfl rfl)
theorem dX2_wasAt_78 : decode cX2_wasAt 78 = .ok (.iload 4, 2) := dk_21 4 (dk_at dksX2_wasAt_3 8 rfl rfl)
theorem dX2_wasAt_80 : decode cX2_wasAt 80 = .ok (.aload_n 0, 1) := dk_42 (dk_at dksX2_wasAt_3 10 rfl rfl)
theorem dX2_wasAt_81 : decode cX2_wasAt 81 = .ok (.getfield 7, 3) := dk_180 0 7 (dk_at dksX2_wasAt_3 11 rfl rfl)
theorem dX2_wasAt_84 : decode cX2_wasAt 84 = .ok (.bipush 96, 2) := dk_16 96 (dk_at dksX2_wasAt_3 14 rfl rfl)
theorem dX2_wasAt_86 : decode cX2_wasAt 86 = .ok (.iload 6, 2) := dk_21 6 (dk_at dksX2_wasAt_3 16 rfl rfl)
theorem dX2_wasAt_88 : decode cX2_wasAt 88 = .ok (.iadd, 1) := dk_96 (dk_at dksX2_wasAt_3 18 rfl rfl)
theorem dX2_wasAt_89 : decode cX2_wasAt 89 = .ok (.iaload, 1) := dk_46 (dk_at dksX2_wasAt_3 19 rfl rfl)
theorem dX2_wasAt_90 : decode cX2_wasAt 90 = .ok (.iload_n 3, 1) := dk_29 (dk_at dksX2_wasAt_3 20 rfl rfl)
theorem dX2_wasAt_91 : decode cX2_wasAt 91 = .ok (.if_icmp .ne 10, 3) := dk_160 0 10 (dk_at dksX2_wasAt_3 21 rfl rfl)
theorem dX2_wasAt_94 : decode cX2_wasAt 94 = .ok (.iconst 1, 1) := dk_4 (dk_at dksX2_wasAt_4 0 rfl rfl)
theorem dX2_wasAt_95 : decode cX2_wasAt 95 = .ok (.iload 6, 2) := dk_21 6 (dk_at dksX2_wasAt_4 1 rfl rfl)
theorem dX2_wasAt_97 : decode cX2_wasAt 97 = .ok (.ishl, 1) := dk_120 (dk_at dksX2_wasAt_4 3 rfl rfl)
theorem dX2_wasAt_98 : decode cX2_wasAt 98 = .ok (.goto 4, 3) := dk_167 0 4 (dk_at dksX2_wasAt_4 4 rfl rfl)
theorem dX2_wasAt_101 : decode cX2_wasAt 101 = .ok (.iconst 0, 1) := dk_3 (dk_at dksX2_wasAt_4 7 rfl rfl)
theorem dX2_wasAt_102 : decode cX2_wasAt 102 = .ok (.ior, 1) := dk_128 (dk_at dksX2_wasAt_4 8 rfl rfl)
theorem dX2_wasAt_103 : decode cX2_wasAt 103 = .ok (.istore 4, 2) := dk_54 4 (dk_at dksX2_wasAt_4 9 rfl rfl)
theorem dX2_wasAt_105 : decode cX2_wasAt 105 = .ok (.iinc 6 1, 3) := dk_132 6 1 (dk_at dksX2_wasAt_4 11 rfl rfl)
theorem dX2_wasAt_108 : decode cX2_wasAt 108 = .ok (.goto (-82), 3) := dk_167 255 174 (dk_at dksX2_wasAt_4 14 rfl rfl)
theorem dX2_wasAt_111 : decode cX2_wasAt 111 = .ok (.iload 4, 2) := dk_21 4 (dk_at dksX2_wasAt_4 17 rfl rfl)
theorem dX2_wasAt_113 : decode cX2_wasAt 113 = .ok (.ireturn, 1) := dk_172 (dk_at dksX2_wasAt_4 19 rfl rfl)
abbrev cX2_reports : ByteArray := prog_20_method_135_code
def yX2_reports : MethodName := ⟨RX2, "reports", "(I)Z"⟩
def dkwX2_reports_1 : List UInt8 := [16, 7, 3, 79, 4, 172]
abbrev dktX2_reports_1 : List UInt8 := dkwX2_reports_1 ++ []
def dkwX2_reports_0 : List UInt8 := [27, 3, 16, 8, 184, 0, 63, 154, 0, 5, 3, 172, 42, 180, 0, 7, 16, 6, 27, 79, 42, 180, 0, 7]
abbrev dktX2_reports_0 : List UInt8 := dkwX2_reports_0 ++ dktX2_reports_1
theorem dksX2_reports_0 : cX2_reports.data.toList.drop 0 = dktX2_reports_0 := by decide +kernel
theorem dksX2_reports_1 : cX2_reports.data.toList.drop 24 = dktX2_reports_1 := dk_seg dksX2_reports_0 24 rfl rfl
theorem dX2_reports_0 : decode cX2_reports 0 = .ok (.iload_n 1, 1) := dk_27 (dk_at dksX2_reports_0 0 rfl rfl)
theorem dX2_reports_1 : decode cX2_reports 1 = .ok (.iconst 0, 1) := dk_3 (dk_at dksX2_reports_0 1 rfl rfl)
theorem dX2_reports_2 : decode cX2_reports 2 = .ok (.bipush 8, 2) := dk_16 8 (dk_at dksX2_reports_0 2 rfl rfl)
theorem dX2_reports_4 : decode cX2_reports 4 = .ok (.invokestatic 63, 3) := dk_184 0 63 (dk_at dksX2_reports_0 4 rfl rfl)
theorem dX2_reports_7 : decode cX2_reports 7 = .ok (.ifCond .ne 5, 3) := dk_154 0 5 (dk_at dksX2_reports_0 7 rfl rfl)
theorem dX2_reports_10 : decode cX2_reports 10 = .ok (.iconst 0, 1) := dk_3 (dk_at dksX2_reports_0 10 rfl rfl)
theorem dX2_reports_11 : decode cX2_reports 11 = .ok (.ireturn, 1) := dk_172 (dk_at dksX2_reports_0 11 rfl rfl)
theorem dX2_reports_12 : decode cX2_reports 12 = .ok (.aload_n 0, 1) := dk_42 (dk_at dksX2_reports_0 12 rfl rfl)
theorem dX2_reports_13 : decode cX2_reports 13 = .ok (.getfield 7, 3) := dk_180 0 7 (dk_at dksX2_reports_0 13 rfl rfl)
theorem dX2_reports_16 : decode cX2_reports 16 = .ok (.bipush 6, 2) := dk_16 6 (dk_at dksX2_reports_0 16 rfl rfl)
theorem dX2_reports_18 : decode cX2_reports 18 = .ok (.iload_n 1, 1) := dk_27 (dk_at dksX2_reports_0 18 rfl rfl)
theorem dX2_reports_19 : decode cX2_reports 19 = .ok (.iastore, 1) := dk_79 (dk_at dksX2_reports_0 19 rfl rfl)
theorem dX2_reports_20 : decode cX2_reports 20 = .ok (.aload_n 0, 1) := dk_42 (dk_at dksX2_reports_0 20 rfl rfl)
theorem dX2_reports_21 : decode cX2_reports 21 = .ok (.getfield 7, 3) := dk_180 0 7 (dk_at dksX2_reports_0 21 rfl rfl)
theorem dX2_reports_24 : decode cX2_reports 24 = .ok (.bipush 7, 2) := dk_16 7 (dk_at dksX2_reports_1 0 rfl rfl)
theorem dX2_reports_26 : decode cX2_reports 26 = .ok (.iconst 0, 1) := dk_3 (dk_at dksX2_reports_1 2 rfl rfl)
theorem dX2_reports_27 : decode cX2_reports 27 = .ok (.iastore, 1) := dk_79 (dk_at dksX2_reports_1 3 rfl rfl)
theorem dX2_reports_28 : decode cX2_reports 28 = .ok (.iconst 1, 1) := dk_4 (dk_at dksX2_reports_1 4 rfl rfl)
theorem dX2_reports_29 : decode cX2_reports 29 = .ok (.ireturn, 1) := dk_172 (dk_at dksX2_reports_1 5 rfl rfl)
abbrev cX2_unlike : ByteArray := prog_20_method_136_code
def yX2_unlike : MethodName := ⟨RX2, "unlike", "(II)I"⟩
def dkwX2_unlike_4 : List UInt8 := [180, 0, 7, 16, 7, 92, 46, 4, 96, 79, 42, 180, 0, 7, 16, 7, 46, 172]
abbrev dktX2_unlike_4 : List UInt8 := dkwX2_unlike_4 ++ []
def dkwX2_unlike_3 : List UInt8 := [27, 79, 42, 180, 0, 7, 16, 101, 5, 42, 180, 0, 7, 16, 7, 46, 104, 96, 4, 96, 28, 79, 42]
abbrev dktX2_unlike_3 : List UInt8 := dkwX2_unlike_3 ++ dktX2_unlike_4
def dkwX2_unlike_2 : List UInt8 := [16, 8, 160, 0, 6, 16, 254, 172, 42, 180, 0, 7, 16, 101, 5, 42, 180, 0, 7, 16, 7, 46, 104, 96]
abbrev dktX2_unlike_2 : List UInt8 := dkwX2_unlike_2 ++ dktX2_unlike_3
def dkwX2_unlike_1 : List UInt8 := [16, 6, 46, 4, 100, 184, 0, 63, 153, 0, 20, 27, 28, 159, 0, 15, 42, 180, 0, 7, 16, 7, 46]
abbrev dktX2_unlike_1 : List UInt8 := dkwX2_unlike_1 ++ dktX2_unlike_2
def dkwX2_unlike_0 : List UInt8 := [27, 3, 42, 180, 0, 7, 16, 6, 46, 4, 100, 184, 0, 63, 153, 0, 37, 28, 3, 42, 180, 0, 7]
abbrev dktX2_unlike_0 : List UInt8 := dkwX2_unlike_0 ++ dktX2_unlike_1
theorem dksX2_unlike_0 : cX2_unlike.data.toList.drop 0 = dktX2_unlike_0 := by decide +kernel
theorem dksX2_unlike_1 : cX2_unlike.data.toList.drop 23 = dktX2_unlike_1 := dk_seg dksX2_unlike_0 23 rfl rfl
theorem dksX2_unlike_2 : cX2_unlike.data.toList.drop 46 = dktX2_unlike_2 := dk_seg dksX2_unlike_1 23 rfl rfl
theorem dksX2_unlike_3 : cX2_unlike.data.toList.drop 70 = dktX2_unlike_3 := dk_seg dksX2_unlike_2 24 rfl rfl
theorem dksX2_unlike_4 : cX2_unlike.data.toList.drop 93 = dktX2_unlike_4 := dk_seg dksX2_unlike_3 23 rfl rfl
theorem dX2_unlike_0 : decode cX2_unlike 0 = .ok (.iload_n 1, 1) := dk_27 (dk_at dksX2_unlike_0 0 rfl rfl)
theorem dX2_unlike_1 : decode cX2_unlike 1 = .ok (.iconst 0, 1) := dk_3 (dk_at dksX2_unlike_0 1 rfl rfl)
theorem dX2_unlike_2 : decode cX2_unlike 2 = .ok (.aload_n 0, 1) := dk_42 (dk_at dksX2_unlike_0 2 rfl rfl)
theorem dX2_unlike_3 : decode cX2_unlike 3 = .ok (.getfield 7, 3) := dk_180 0 7 (dk_at dksX2_unlike_0 3 rfl rfl)
theorem dX2_unlike_6 : decode cX2_unlike 6 = .ok (.bipush 6, 2) := dk_16 6 (dk_at dksX2_unlike_0 6 rfl rfl)
theorem dX2_unlike_8 : decode cX2_unlike 8 = .ok (.iaload, 1) := dk_46 (dk_at dksX2_unlike_0 8 rfl rfl)
theorem dX2_unlike_9 : decode cX2_unlike 9 = .ok (.iconst 1, 1) := dk_4 (dk_at dksX2_unlike_0 9 rfl rfl)
theorem dX2_unlike_10 : decode cX2_unlike 10 = .ok (.isub, 1) := dk_100 (dk_at dksX2_unlike_0 10 rfl rfl)
theorem dX2_unlike_11 : decode cX2_unlike 11 = .ok (.invokestatic 63, 3) := dk_184 0 63 (dk_at dksX2_unlike_0 11 rfl rfl)
theorem dX2_unlike_14 : decode cX2_unlike 14 = .ok (.ifCond .eq 37, 3) := dk_153 0 37 (dk_at dksX2_unlike_0 14 rfl rfl)
theorem dX2_unlike_17 : decode cX2_unlike 17 = .ok (.iload_n 2, 1) := dk_28 (dk_at dksX2_unlike_0 17 rfl rfl)
theorem dX2_unlike_18 : decode cX2_unlike 18 = .ok (.iconst 0, 1) := dk_3 (dk_at dksX2_unlike_0 18 rfl rfl)
theorem dX2_unlike_19 : decode cX2_unlike 19 = .ok (.aload_n 0, 1) := dk_42 (dk_at dksX2_unlike_0 19 rfl rfl)
theorem dX2_unlike_20 : decode cX2_unlike 20 = .ok (.getfield 7, 3) := dk_180 0 7 (dk_at dksX2_unlike_0 20 rfl rfl)
theorem dX2_unlike_23 : decode cX2_unlike 23 = .ok (.bipush 6, 2) := dk_16 6 (dk_at dksX2_unlike_1 0 rfl rfl)
theorem dX2_unlike_25 : decode cX2_unlike 25 = .ok (.iaload, 1) := dk_46 (dk_at dksX2_unlike_1 2 rfl rfl)
theorem dX2_unlike_26 : decode cX2_unlike 26 = .ok (.iconst 1, 1) := dk_4 (dk_at dksX2_unlike_1 3 rfl rfl)
theorem dX2_unlike_27 : decode cX2_unlike 27 = .ok (.isub, 1) := dk_100 (dk_at dksX2_unlike_1 4 rfl rfl)
theorem dX2_unlike_28 : decode cX2_unlike 28 = .ok (.invokestatic 63, 3) := dk_184 0 63 (dk_at dksX2_unlike_1 5 rfl rfl)
theorem dX2_unlike_31 : decode cX2_unlike 31 = .ok (.ifCond .eq 20, 3) := dk_153 0 20 (dk_at dksX2_unlike_1 8 rfl rfl)
theorem dX2_unlike_34 : decode cX2_unlike 34 = .ok (.iload_n 1, 1) := dk_27 (dk_at dksX2_unlike_1 11 rfl rfl)
theorem dX2_unlike_35 : decode cX2_unlike 35 = .ok (.iload_n 2, 1) := dk_28 (dk_at dksX2_unlike_1 12 rfl rfl)
theorem dX2_unlike_36 : decode cX2_unlike 36 = .ok (.if_icmp .eq 15, 3) := dk_159 0 15 (dk_at dksX2_unlike_1 13 rfl rfl)
theorem dX2_unlike_39 : decode cX2_unlike 39 = .ok (.aload_n 0, 1) := dk_42 (dk_at dksX2_unlike_1 16 rfl rfl)
theorem dX2_unlike_40 : decode cX2_unlike 40 = .ok (.getfield 7, 3) := dk_180 0 7 (dk_at dksX2_unlike_1 17 rfl rfl)
theorem dX2_unlike_43 : decode cX2_unlike 43 = .ok (.bipush 7, 2) := dk_16 7 (dk_at dksX2_unlike_1 20 rfl rfl)
theorem dX2_unlike_45 : decode cX2_unlike 45 = .ok (.iaload, 1) := dk_46 (dk_at dksX2_unlike_1 22 rfl rfl)
theorem dX2_unlike_46 : decode cX2_unlike 46 = .ok (.bipush 8, 2) := dk_16 8 (dk_at dksX2_unlike_2 0 rfl rfl)
theorem dX2_unlike_48 : decode cX2_unlike 48 = .ok (.if_icmp .ne 6, 3) := dk_160 0 6 (dk_at dksX2_unlike_2 2 rfl rfl)
theorem dX2_unlike_51 : decode cX2_unlike 51 = .ok (.bipush (-2), 2) := dk_16 254 (dk_at dksX2_unlike_2 5 rfl rfl)
theorem dX2_unlike_53 : decode cX2_unlike 53 = .ok (.ireturn, 1) := dk_172 (dk_at dksX2_unlike_2 7 rfl rfl)
theorem dX2_unlike_54 : decode cX2_unlike 54 = .ok (.aload_n 0, 1) := dk_42 (dk_at dksX2_unlike_2 8 rfl rfl)
theorem dX2_unlike_55 : decode cX2_unlike 55 = .ok (.getfield 7, 3) := dk_180 0 7 (dk_at dksX2_unlike_2 9 rfl rfl)
theorem dX2_unlike_58 : decode cX2_unlike 58 = .ok (.bipush 101, 2) := dk_16 101 (dk_at dksX2_unlike_2 12 rfl rfl)
theorem dX2_unlike_60 : decode cX2_unlike 60 = .ok (.iconst 2, 1) := dk_5 (dk_at dksX2_unlike_2 14 rfl rfl)
theorem dX2_unlike_61 : decode cX2_unlike 61 = .ok (.aload_n 0, 1) := dk_42 (dk_at dksX2_unlike_2 15 rfl rfl)
theorem dX2_unlike_62 : decode cX2_unlike 62 = .ok (.getfield 7, 3) := dk_180 0 7 (dk_at dksX2_unlike_2 16 rfl rfl)
theorem dX2_unlike_65 : decode cX2_unlike 65 = .ok (.bipush 7, 2) := dk_16 7 (dk_at dksX2_unlike_2 19 rfl rfl)
theorem dX2_unlike_67 : decode cX2_unlike 67 = .ok (.iaload, 1) := dk_46 (dk_at dksX2_unlike_2 21 rfl rfl)
theorem dX2_unlike_68 : decode cX2_unlike 68 = .ok (.imul, 1) := dk_104 (dk_at dksX2_unlike_2 22 rfl rfl)
theorem dX2_unlike_69 : decode cX2_unlike 69 = .ok (.iadd, 1) := dk_96 (dk_at dksX2_unlike_2 23 rfl rfl)
theorem dX2_unlike_70 : decode cX2_unlike 70 = .ok (.iload_n 1, 1) := dk_27 (dk_at dksX2_unlike_3 0 rfl rfl)
theorem dX2_unlike_71 : decode cX2_unlike 71 = .ok (.iastore, 1) := dk_79 (dk_at dksX2_unlike_3 1 rfl rfl)
theorem dX2_unlike_72 : decode cX2_unlike 72 = .ok (.aload_n 0, 1) := dk_42 (dk_at dksX2_unlike_3 2 rfl rfl)
theorem dX2_unlike_73 : decode cX2_unlike 73 = .ok (.getfield 7, 3) := dk_180 0 7 (dk_at dksX2_unlike_3 3 rfl rfl)
theorem dX2_unlike_76 : decode cX2_unlike 76 = .ok (.bipush 101, 2) := dk_16 101 (dk_at dksX2_unlike_3 6 rfl rfl)
theorem dX2_unlike_78 : decode cX2_unlike 78 = .ok (.iconst 2, 1) := dk_5 (dk_at dksX2_unlike_3 8 rfl rfl)
theorem dX2_unlike_79 : decode cX2_unlike 79 = .ok (.aload_n 0, 1) := dk_42 (dk_at dksX2_unlike_3 9 rfl rfl)
theorem dX2_unlike_80 : decode cX2_unlike 80 = .ok (.getfield 7, 3) := dk_180 0 7 (dk_at dksX2_unlike_3 10 rfl rfl)
theorem dX2_unlike_83 : decode cX2_unlike 83 = .ok (.bipush 7, 2) := dk_16 7 (dk_at dksX2_unlike_3 13 rfl rfl)
theorem dX2_unlike_85 : decode cX2_unlike 85 = .ok (.iaload, 1) := dk_46 (dk_at dksX2_unlike_3 15 rfl rfl)
theorem dX2_unlike_86 : decode cX2_unlike 86 = .ok (.imul, 1) := dk_104 (dk_at dksX2_unlike_3 16 rfl rfl)
theorem dX2_unlike_87 : decode cX2_unlike 87 = .ok (.iadd, 1) := dk_96 (dk_at dksX2_unlike_3 17 rfl rfl)
theorem dX2_unlike_88 : decode cX2_unlike 88 = .ok (.iconst 1, 1) := dk_4 (dk_at dksX2_unlike_3 18 rfl rfl)
theorem dX2_unlike_89 : decode cX2_unlike 89 = .ok (.iadd, 1) := dk_96 (dk_at dksX2_unlike_3 19 rfl rfl)
theorem dX2_unlike_90 : decode cX2_unlike 90 = .ok (.iload_n 2, 1) := dk_28 (dk_at dksX2_unlike_3 20 rfl rfl)
theorem dX2_unlike_91 : decode cX2_unlike 91 = .ok (.iastore, 1) := dk_79 (dk_at dksX2_unlike_3 21 rfl rfl)
theorem dX2_unlike_92 : decode cX2_unlike 92 = .ok (.aload_n 0, 1) := dk_42 (dk_at dksX2_unlike_3 22 rfl rfl)
theorem dX2_unlike_93 : decode cX2_unlike 93 = .ok (.getfield 7, 3) := dk_180 0 7 (dk_at dksX2_unlike_4 0 rfl rfl)
theorem dX2_unlike_96 : decode cX2_unlike 96 = .ok (.bipush 7, 2) := dk_16 7 (dk_at dksX2_unlike_4 3 rfl rfl)
theorem dX2_unlike_98 : decode cX2_unlike 98 = .ok (.dup2, 1) := dk_92 (dk_at dksX2_unlike_4 5 rfl rfl)
theorem dX2_unlike_99 : decode cX2_unlike 99 = .ok (.iaload, 1) := dk_46 (dk_at dksX2_unlike_4 6 rfl rfl)
theorem dX2_unlike_100 : decode cX2_unlike 100 = .ok (.iconst 1, 1) := dk_4 (dk_at dksX2_unlike_4 7 rfl rfl)
theorem dX2_unlike_101 : decode cX2_unlike 101 = .ok (.iadd, 1) := dk_96 (dk_at dksX2_unlike_4 8 rfl rfl)
theorem dX2_unlike_102 : decode cX2_unlike 102 = .ok (.iastore, 1) := dk_79 (dk_at dksX2_unlike_4 9 rfl rfl)
theorem dX2_unlike_103 : decode cX2_unlike 103 = .ok (.aload_n 0, 1) := dk_42 (dk_at dksX2_unlike_4 10 rfl rfl)
theorem dX2_unlike_104 : decode cX2_unlike 104 = .ok (.getfield 7, 3) := dk_180 0 7 (dk_at dksX2_unlike_4 11 rfl rfl)
theorem dX2_unlike_107 : decode cX2_unlike 107 = .ok (.bipush 7, 2) := dk_16 7 (dk_at dksX2_unlike_4 14 rfl rfl)
theorem dX2_unlike_109 : decode cX2_unlike 109 = .ok (.iaload, 1) := dk_46 (dk_at dksX2_unlike_4 16 rfl rfl)
theorem dX2_unlike_110 : decode cX2_unlike 110 = .ok (.ireturn, 1) := dk_172 (dk_at dksX2_unlike_4 17 rfl rfl)
abbrev cX2_heads : ByteArray := prog_20_method_139_code
def yX2_heads : MethodName := ⟨RX2, "heads", "(I)I"⟩
def dkwX2_heads_2 : List UInt8 := [132, 2, 1, 167, 255, 241, 27, 2, 160, 0, 7, 28, 167, 0, 9, 42, 180, 0, 56, 27, 46, 172]
abbrev dktX2_heads_2 : List UInt8 := dkwX2_heads_2 ++ []
def dkwX2_heads_1 : List UInt8 := [16, 6, 46, 154, 0, 7, 3, 167, 0, 4, 4, 61, 28, 158, 0, 17, 42, 28, 182, 1, 207, 154, 0, 9]
abbrev dktX2_heads_1 : List UInt8 := dkwX2_heads_1 ++ dktX2_heads_2
def dkwX2_heads_0 : List UInt8 := [27, 2, 42, 180, 0, 7, 16, 6, 46, 4, 100, 184, 0, 63, 154, 0, 6, 16, 254, 172, 42, 180, 0, 7]
abbrev dktX2_heads_0 : List UInt8 := dkwX2_heads_0 ++ dktX2_heads_1
theorem dksX2_heads_0 : cX2_heads.data.toList.drop 0 = dktX2_heads_0 := by decide +kernel
theorem dksX2_heads_1 : cX2_heads.data.toList.drop 24 = dktX2_heads_1 := dk_seg dksX2_heads_0 24 rfl rfl
theorem dksX2_heads_2 : cX2_heads.data.toList.drop 48 = dktX2_heads_2 := dk_seg dksX2_heads_1 24 rfl rfl
theorem dX2_heads_0 : decode cX2_heads 0 = .ok (.iload_n 1, 1) := dk_27 (dk_at dksX2_heads_0 0 rfl rfl)
theorem dX2_heads_1 : decode cX2_heads 1 = .ok (.iconst (-1), 1) := dk_2 (dk_at dksX2_heads_0 1 rfl rfl)
theorem dX2_heads_2 : decode cX2_heads 2 = .ok (.aload_n 0, 1) := dk_42 (dk_at dksX2_heads_0 2 rfl rfl)
theorem dX2_heads_3 : decode cX2_heads 3 = .ok (.getfield 7, 3) := dk_180 0 7 (dk_at dksX2_heads_0 3 rfl rfl)
theorem dX2_heads_6 : decode cX2_heads 6 = .ok (.bipush 6, 2) := dk_16 6 (dk_at dksX2_heads_0 6 rfl rfl)
theorem dX2_heads_8 : decode cX2_heads 8 = .ok (.iaload, 1) := dk_46 (dk_at dksX2_heads_0 8 rfl rfl)
theorem dX2_heads_9 : decode cX2_heads 9 = .ok (.iconst 1, 1) := dk_4 (dk_at dksX2_heads_0 9 rfl rfl)
theorem dX2_heads_10 : decode cX2_heads 10 = .ok (.isub, 1) := dk_100 (dk_at dksX2_heads_0 10 rfl rfl)
theorem dX2_heads_11 : decode cX2_heads 11 = .ok (.invokestatic 63, 3) := dk_184 0 63 (dk_at dksX2_heads_0 11 rfl rfl)
theorem dX2_heads_14 : decode cX2_heads 14 = .ok (.ifCond .ne 6, 3) := dk_154 0 6 (dk_at dksX2_heads_0 14 rfl rfl)
theorem dX2_heads_17 : decode cX2_heads 17 = .ok (.bipush (-2), 2) := dk_16 254 (dk_at dksX2_heads_0 17 rfl rfl)
theorem dX2_heads_19 : decode cX2_heads 19 = .ok (.ireturn, 1) := dk_172 (dk_at dksX2_heads_0 19 rfl rfl)
theorem dX2_heads_20 : decode cX2_heads 20 = .ok (.aload_n 0, 1) := dk_42 (dk_at dksX2_heads_0 20 rfl rfl)
theorem dX2_heads_21 : decode cX2_heads 21 = .ok (.getfield 7, 3) := dk_180 0 7 (dk_at dksX2_heads_0 21 rfl rfl)
theorem dX2_heads_24 : decode cX2_heads 24 = .ok (.bipush 6, 2) := dk_16 6 (dk_at dksX2_heads_1 0 rfl rfl)
theorem dX2_heads_26 : decode cX2_heads 26 = .ok (.iaload, 1) := dk_46 (dk_at dksX2_heads_1 2 rfl rfl)
theorem dX2_heads_27 : decode cX2_heads 27 = .ok (.ifCond .ne 7, 3) := dk_154 0 7 (dk_at dksX2_heads_1 3 rfl rfl)
theorem dX2_heads_30 : decode cX2_heads 30 = .ok (.iconst 0, 1) := dk_3 (dk_at dksX2_heads_1 6 rfl rfl)
theorem dX2_heads_31 : decode cX2_heads 31 = .ok (.goto 4, 3) := dk_167 0 4 (dk_at dksX2_heads_1 7 rfl rfl)
theorem dX2_heads_34 : decode cX2_heads 34 = .ok (.iconst 1, 1) := dk_4 (dk_at dksX2_heads_1 10 rfl rfl)
theorem dX2_heads_35 : decode cX2_heads 35 = .ok (.istore_n 2, 1) := dk_61 (dk_at dksX2_heads_1 11 rfl rfl)
theorem dX2_heads_36 : decode cX2_heads 36 = .ok (.iload_n 2, 1) := dk_28 (dk_at dksX2_heads_1 12 rfl rfl)
theorem dX2_heads_37 : decode cX2_heads 37 = .ok (.ifCond .le 17, 3) := dk_158 0 17 (dk_at dksX2_heads_1 13 rfl rfl)
theorem dX2_heads_40 : decode cX2_heads 40 = .ok (.aload_n 0, 1) := dk_42 (dk_at dksX2_heads_1 16 rfl rfl)
theorem dX2_heads_41 : decode cX2_heads 41 = .ok (.iload_n 2, 1) := dk_28 (dk_at dksX2_heads_1 17 rfl rfl)
theorem dX2_heads_42 : decode cX2_heads 42 = .ok (.invokevirtual 463, 3) := dk_182 1 207 (dk_at dksX2_heads_1 18 rfl rfl)
theorem dX2_heads_45 : decode cX2_heads 45 = .ok (.ifCond .ne 9, 3) := dk_154 0 9 (dk_at dksX2_heads_1 21 rfl rfl)
theorem dX2_heads_48 : decode cX2_heads 48 = .ok (.iinc 2 1, 3) := dk_132 2 1 (dk_at dksX2_heads_2 0 rfl rfl)
theorem dX2_heads_51 : decode cX2_heads 51 = .ok (.goto (-15), 3) := dk_167 255 241 (dk_at dksX2_heads_2 3 rfl rfl)
theorem dX2_heads_54 : decode cX2_heads 54 = .ok (.iload_n 1, 1) := dk_27 (dk_at dksX2_heads_2 6 rfl rfl)
theorem dX2_heads_55 : decode cX2_heads 55 = .ok (.iconst (-1), 1) := dk_2 (dk_at dksX2_heads_2 7 rfl rfl)
theorem dX2_heads_56 : decode cX2_heads 56 = .ok (.if_icmp .ne 7, 3) := dk_160 0 7 (dk_at dksX2_heads_2 8 rfl rfl)
theorem dX2_heads_59 : decode cX2_heads 59 = .ok (.iload_n 2, 1) := dk_28 (dk_at dksX2_heads_2 11 rfl rfl)
theorem dX2_heads_60 : decode cX2_heads 60 = .ok (.goto 9, 3) := dk_167 0 9 (dk_at dksX2_heads_2 12 rfl rfl)
theorem dX2_heads_63 : decode cX2_heads 63 = .ok (.aload_n 0, 1) := dk_42 (dk_at dksX2_heads_2 15 rfl rfl)
theorem dX2_heads_64 : decode cX2_heads 64 = .ok (.getfield 56, 3) := dk_180 0 56 (dk_at dksX2_heads_2 16 rfl rfl)
theorem dX2_heads_67 : decode cX2_heads 67 = .ok (.iload_n 1, 1) := dk_27 (dk_at dksX2_heads_2 19 rfl rfl)
theorem dX2_heads_68 : decode cX2_heads 68 = .ok (.iaload, 1) := dk_46 (dk_at dksX2_heads_2 20 rfl rfl)
theorem dX2_heads_69 : decode cX2_heads 69 = .ok (.ireturn, 1) := dk_172 (dk_at dksX2_heads_2 21 rfl rfl)
abbrev cX2_isExplained : ByteArray := prog_20_method_138_code
def yX2_isExplained : MethodName := ⟨RX2, "isExplained", "(I)Z"⟩
def dkwX2_isExplained_3 : List UInt8 := [180, 0, 56, 28, 46, 4, 96, 62, 167, 255, 181, 28, 155, 0, 7, 4, 167, 0, 4, 3, 172]
abbrev dktX2_isExplained_3 : List UInt8 := dkwX2_isExplained_3 ++ []
def dkwX2_isExplained_2 : List UInt8 := [28, 29, 79, 132, 2, 1, 3, 62, 167, 255, 204, 132, 2, 255, 28, 156, 0, 7, 3, 167, 0, 11, 42]
abbrev dktX2_isExplained_2 : List UInt8 := dkwX2_isExplained_2 ++ dktX2_isExplained_3
def dkwX2_isExplained_1 : List UInt8 := [42, 28, 29, 182, 1, 204, 154, 0, 9, 132, 3, 1, 167, 255, 239, 29, 27, 162, 0, 18, 42, 180, 0, 56]
abbrev dktX2_isExplained_1 : List UInt8 := dkwX2_isExplained_1 ++ dktX2_isExplained_2
def dkwX2_isExplained_0 : List UInt8 := [3, 61, 3, 62, 28, 155, 0, 77, 28, 42, 180, 0, 7, 16, 6, 46, 162, 0, 66, 29, 27, 162, 0, 18]
abbrev dktX2_isExplained_0 : List UInt8 := dkwX2_isExplained_0 ++ dktX2_isExplained_1
theorem dksX2_isExplained_0 : cX2_isExplained.data.toList.drop 0 = dktX2_isExplained_0 := by decide +kernel
theorem dksX2_isExplained_1 : cX2_isExplained.data.toList.drop 24 = dktX2_isExplained_1 := dk_seg dksX2_isExplained_0 24 rfl rfl
theorem dksX2_isExplained_2 : cX2_isExplained.data.toList.drop 48 = dktX2_isExplained_2 := dk_seg dksX2_isExplained_1 24 rfl rfl
theorem dksX2_isExplained_3 : cX2_isExplained.data.toList.drop 71 = dktX2_isExplained_3 := dk_seg dksX2_isExplained_2 23 rfl rfl
theorem dX2_isExplained_0 : decode cX2_isExplained 0 = .ok (.iconst 0, 1) := dk_3 (dk_at dksX2_isExplained_0 0 rfl rfl)
theorem dX2_isExplained_1 : decode cX2_isExplained 1 = .ok (.istore_n 2, 1) := dk_61 (dk_at dksX2_isExplained_0 1 rfl rfl)
theorem dX2_isExplained_2 : decode cX2_isExplained 2 = .ok (.iconst 0, 1) := dk_3 (dk_at dksX2_isExplained_0 2 rfl rfl)
theorem dX2_isExplained_3 : decode cX2_isExplained 3 = .ok (.istore_n 3, 1) := dk_62 (dk_at dksX2_isExplained_0 3 rfl rfl)
theorem dX2_isExplained_4 : decode cX2_isExplained 4 = .ok (.iload_n 2, 1) := dk_28 (dk_at dksX2_isExplained_0 4 rfl rfl)
theorem dX2_isExplained_5 : decode cX2_isExplained 5 = .ok (.ifCond .lt 77, 3) := dk_155 0 77 (dk_at dksX2_isExplained_0 5 rfl rfl)
theorem dX2_isExplained_8 : decode cX2_isExplained 8 = .ok (.iload_n 2, 1) := dk_28 (dk_at dksX2_isExplained_0 8 rfl rfl)
theorem dX2_isExplained_9 : decode cX2_isExplained 9 = .ok (.aload_n 0, 1) := dk_42 (dk_at dksX2_isExplained_0 9 rfl rfl)
theorem dX2_isExplained_10 : decode cX2_isExplained 10 = .ok (.getfield 7, 3) := dk_180 0 7 (dk_at dksX2_isExplained_0 10 rfl rfl)
theorem dX2_isExplained_13 : decode cX2_isExplained 13 = .ok (.bipush 6, 2) := dk_16 6 (dk_at dksX2_isExplained_0 13 rfl rfl)
theorem dX2_isExplained_15 : decode cX2_isExplained 15 = .ok (.iaload, 1) := dk_46 (dk_at dksX2_isExplained_0 15 rfl rfl)
theorem dX2_isExplained_16 : decode cX2_isExplained 16 = .ok (.if_icmp .ge 66, 3) := dk_162 0 66 (dk_at dksX2_isExplained_0 16 rfl rfl)
theorem dX2_isExplained_19 : decode cX2_isExplained 19 = .ok (.iload_n 3, 1) := dk_29 (dk_at dksX2_isExplained_0 19 rfl rfl)
theorem dX2_isExplained_20 : decode cX2_isExplained 20 = .ok (.iload_n 1, 1) := dk_27 (dk_at dksX2_isExplained_0 20 rfl rfl)
theorem dX2_isExplained_21 : decode cX2_isExplained 21 = .ok (.if_icmp .ge 18, 3) := dk_162 0 18 (dk_at dksX2_isExplained_0 21 rfl rfl)
theorem dX2_isExplained_24 : decode cX2_isExplained 24 = .ok (.aload_n 0, 1) := dk_42 (dk_at dksX2_isExplained_1 0 rfl rfl)
theorem dX2_isExplained_25 : decode cX2_isExplained 25 = .ok (.iload_n 2, 1) := dk_28 (dk_at dksX2_isExplained_1 1 rfl rfl)
theorem dX2_isExplained_26 : decode cX2_isExplained 26 = .ok (.iload_n 3, 1) := dk_29 (dk_at dksX2_isExplained_1 2 rfl rfl)
theorem dX2_isExplained_27 : decode cX2_isExplained 27 = .ok (.invokevirtual 460, 3) := dk_182 1 204 (dk_at dksX2_isExplained_1 3 rfl rfl)
theorem dX2_isExplained_30 : decode cX2_isExplained 30 = .ok (.ifCond .ne 9, 3) := dk_154 0 9 (dk_at dksX2_isExplained_1 6 rfl rfl)
theorem dX2_isExplained_33 : decode cX2_isExplained 33 = .ok (.iinc 3 1, 3) := dk_132 3 1 (dk_at dksX2_isExplained_1 9 rfl rfl)
theorem dX2_isExplained_36 : decode cX2_isExplained 36 = .ok (.goto (-17), 3) := dk_167 255 239 (dk_at dksX2_isExplained_1 12 rfl rfl)
theorem dX2_isExplained_39 : decode cX2_isExplained 39 = .ok (.iload_n 3, 1) := dk_29 (dk_at dksX2_isExplained_1 15 rfl rfl)
theorem dX2_isExplained_40 : decode cX2_isExplained 40 = .ok (.iload_n 1, 1) := dk_27 (dk_at dksX2_isExplained_1 16 rfl rfl)
theorem dX2_isExplained_41 : decode cX2_isExplained 41 = .ok (.if_icmp .ge 18, 3) := dk_162 0 18 (dk_at dksX2_isExplained_1 17 rfl rfl)
theorem dX2_isExplained_44 : decode cX2_isExplained 44 = .ok (.aload_n 0, 1) := dk_42 (dk_at dksX2_isExplained_1 20 rfl rfl)
theorem dX2_isExplained_45 : decode cX2_isExplained 45 = .ok (.getfield 56, 3) := dk_180 0 56 (dk_at dksX2_isExplained_1 21 rfl rfl)
theorem dX2_isExplained_48 : decode cX2_isExplained 48 = .ok (.iload_n 2, 1) := dk_28 (dk_at dksX2_isExplained_2 0 rfl rfl)
theorem dX2_isExplained_49 : decode cX2_isExplained 49 = .ok (.iload_n 3, 1) := dk_29 (dk_at dksX2_isExplained_2 1 rfl rfl)
theorem dX2_isExplained_50 : decode cX2_isExplained 50 = .ok (.iastore, 1) := dk_79 (dk_at dksX2_isExplained_2 2 rfl rfl)
theorem dX2_isExplained_51 : decode cX2_isExplained 51 = .ok (.iinc 2 1, 3) := dk_132 2 1 (dk_at dksX2_isExplained_2 3 rfl rfl)
theorem dX2_isExplained_54 : decode cX2_isExplained 54 = .ok (.iconst 0, 1) := dk_3 (dk_at dksX2_isExplained_2 6 rfl rfl)
theorem dX2_isExplained_55 : decode cX2_isExplained 55 = .ok (.istore_n 3, 1) := dk_62 (dk_at dksX2_isExplained_2 7 rfl rfl)
theorem dX2_isExplained_56 : decode cX2_isExplained 56 = .ok (.goto (-52), 3) := dk_167 255 204 (dk_at dksX2_isExplained_2 8 rfl rfl)
theorem dX2_isExplained_59 : decode cX2_isExplained 59 = .ok (.iinc 2 (-1), 3) := dk_132 2 255 (dk_at dksX2_isExplained_2 11 rfl rfl)
theorem dX2_isExplained_62 : decode cX2_isExplained 62 = .ok (.iload_n 2, 1) := dk_28 (dk_at dksX2_isExplained_2 14 rfl rfl)
theorem dX2_isExplained_63 : decode cX2_isExplained 63 = .ok (.ifCond .ge 7, 3) := dk_156 0 7 (dk_at dksX2_isExplained_2 15 rfl rfl)
theorem dX2_isExplained_66 : decode cX2_isExplained 66 = .ok (.iconst 0, 1) := dk_3 (dk_at dksX2_isExplained_2 18 rfl rfl)
theorem dX2_isExplained_67 : decode cX2_isExplained 67 = .ok (.goto 11, 3) := dk_167 0 11 (dk_at dksX2_isExplained_2 19 rfl rfl)
theorem dX2_isExplained_70 : decode cX2_isExplained 70 = .ok (.aload_n 0, 1) := dk_42 (dk_at dksX2_isExplained_2 22 rfl rfl)
theorem dX2_isExplained_71 : decode cX2_isExplained 71 = .ok (.getfield 56, 3) := dk_180 0 56 (dk_at dksX2_isExplained_3 0 rfl rfl)
theorem dX2_isExplained_74 : decode cX2_isExplained 74 = .ok (.iload_n 2, 1) := dk_28 (dk_at dksX2_isExplained_3 3 rfl rfl)
theorem dX2_isExplained_75 : decode cX2_isExplained 75 = .ok (.iaload, 1) := dk_46 (dk_at dksX2_isExplained_3 4 rfl rfl)
theorem dX2_isExplained_76 : decode cX2_isExplained 76 = .ok (.iconst 1, 1) := dk_4 (dk_at dksX2_isExplained_3 5 rfl rfl)
theorem dX2_isExplained_77 : decode cX2_isExplained 77 = .ok (.iadd, 1) := dk_96 (dk_at dksX2_isExplained_3 6 rfl rfl)
theorem dX2_isExplained_78 : decode cX2_isExplained 78 = .ok (.istore_n 3, 1) := dk_62 (dk_at dksX2_isExplained_3 7 rfl rfl)
theorem dX2_isExplained_79 : decode cX2_isExplained 79 = .ok (.goto (-75), 3) := dk_167 255 181 (dk_at dksX2_isExplained_3 8 rfl rfl)
theorem dX2_isExplained_82 : decode cX2_isExplained 82 = .ok (.iload_n 2, 1) := dk_28 (dk_at dksX2_isExplained_3 11 rfl rfl)
theorem dX2_isExplained_83 : decode cX2_isExplained 83 = .ok (.ifCond .lt 7, 3) := dk_155 0 7 (dk_at dksX2_isExplained_3 12 rfl rfl)
theorem dX2_isExplained_86 : decode cX2_isExplained 86 = .ok (.iconst 1, 1) := dk_4 (dk_at dksX2_isExplained_3 15 rfl rfl)
theorem dX2_isExplained_87 : decode cX2_isExplained 87 = .ok (.goto 4, 3) := dk_167 0 4 (dk_at dksX2_isExplained_3 16 rfl rfl)
theorem dX2_isExplained_90 : decode cX2_isExplained 90 = .ok (.iconst 0, 1) := dk_3 (dk_at dksX2_isExplained_3 19 rfl rfl)
theorem dX2_isExplained_91 : decode cX2_isExplained 91 = .ok (.ireturn, 1) := dk_172 (dk_at dksX2_isExplained_3 20 rfl rfl)
abbrev cX2_canBe : ByteArray := prog_20_method_137_code
def yX2_canBe : MethodName := ⟨RX2, "canBe", "(II)Z"⟩
def dkwX2_canBe_4 : List UInt8 := [167, 255, 166, 4, 172]
abbrev dktX2_canBe_4 : List UInt8 := dkwX2_canBe_4 ++ []
def dkwX2_canBe_3 : List UInt8 := [21, 4, 27, 162, 0, 16, 42, 180, 0, 56, 21, 4, 46, 28, 160, 0, 5, 3, 172, 132, 3, 1]
abbrev dktX2_canBe_3 : List UInt8 := dkwX2_canBe_3 ++ dktX2_canBe_4
def dkwX2_canBe_2 : List UInt8 := [21, 5, 27, 162, 0, 14, 42, 180, 0, 56, 21, 5, 46, 28, 159, 0, 26, 21, 5, 27, 160, 0, 22]
abbrev dktX2_canBe_2 : List UInt8 := dkwX2_canBe_2 ++ dktX2_canBe_3
def dkwX2_canBe_1 : List UInt8 := [54, 4, 42, 180, 0, 7, 16, 101, 5, 29, 104, 96, 4, 96, 46, 54, 5, 21, 4, 27, 160, 0, 20]
abbrev dktX2_canBe_1 : List UInt8 := dkwX2_canBe_1 ++ dktX2_canBe_2
def dkwX2_canBe_0 : List UInt8 := [3, 62, 29, 42, 180, 0, 7, 16, 7, 46, 162, 0, 85, 42, 180, 0, 7, 16, 101, 5, 29, 104, 96, 46]
abbrev dktX2_canBe_0 : List UInt8 := dkwX2_canBe_0 ++ dktX2_canBe_1
theorem dksX2_canBe_0 : cX2_canBe.data.toList.drop 0 = dktX2_canBe_0 := by decide +kernel
theorem dksX2_canBe_1 : cX2_canBe.data.toList.drop 24 = dktX2_canBe_1 := dk_seg dksX2_canBe_0 24 rfl rfl
theorem dksX2_canBe_2 : cX2_canBe.data.toList.drop 47 = dktX2_canBe_2 := dk_seg dksX2_canBe_1 23 rfl rfl
theorem dksX2_canBe_3 : cX2_canBe.data.toList.drop 70 = dktX2_canBe_3 := dk_seg dksX2_canBe_2 23 rfl rfl
theorem dksX2_canBe_4 : cX2_canBe.data.toList.drop 92 = dktX2_canBe_4 := dk_seg dksX2_canBe_3 22 rfl rfl
theorem dX2_canBe_0 : decode cX2_canBe 0 = .ok (.iconst 0, 1) := dk_3 (dk_at dksX2_canBe_0 0 rfl rfl)
theorem dX2_canBe_1 : decode cX2_canBe 1 = .ok (.istore_n 3, 1) := dk_62 (dk_at dksX2_canBe_0 1 rfl rfl)
theorem dX2_canBe_2 : decode cX2_canBe 2 = .ok (.iload_n 3, 1) := dk_29 (dk_at dksX2_canBe_0 2 rfl rfl)
theorem dX2_canBe_3 : decode cX2_canBe 3 = .ok (.aload_n 0, 1) := dk_42 (dk_at dksX2_canBe_0 3 rfl rfl)
theorem dX2_canBe_4 : decode cX2_canBe 4 = .ok (.getfield 7, 3) := dk_180 0 7 (dk_at dksX2_canBe_0 4 rfl rfl)
theorem dX2_canBe_7 : decode cX2_canBe 7 = .ok (.bipush 7, 2) := dk_16 7 (dk_at dksX2_canBe_0 7 rfl rfl)
theorem dX2_canBe_9 : decode cX2_canBe 9 = .ok (.iaload, 1) := dk_46 (dk_at dksX2_canBe_0 9 rfl rfl)
theorem dX2_canBe_10 : decode cX2_canBe 10 = .ok (.if_icmp .ge 85, 3) := dk_162 0 85 (dk_at dksX2_canBe_0 10 rfl rfl)
theorem dX2_canBe_13 : decode cX2_canBe 13 = .ok (.aload_n 0, 1) := dk_42 (dk_at dksX2_canBe_0 13 rfl rfl)
theorem dX2_canBe_14 : decode cX2_canBe 14 = .ok (.getfield 7, 3) := dk_180 0 7 (dk_at dksX2_canBe_0 14 rfl rfl)
theorem dX2_canBe_17 : decode cX2_canBe 17 = .ok (.bipush 101, 2) := dk_16 101 (dk_at dksX2_canBe_0 17 rfl rfl)
theorem dX2_canBe_19 : decode cX2_canBe 19 = .ok (.iconst 2, 1) := dk_5 (dk_at dksX2_canBe_0 19 rfl rfl)
theorem dX2_canBe_20 : decode cX2_canBe 20 = .ok (.iload_n 3, 1) := dk_29 (dk_at dksX2_canBe_0 20 rfl rfl)
theorem dX2_canBe_21 : decode cX2_canBe 21 = .ok (.imul, 1) := dk_104 (dk_at dksX2_canBe_0 21 rfl rfl)
theorem dX2_canBe_22 : decode cX2_canBe 22 = .ok (.iadd, 1) := dk_96 (dk_at dksX2_canBe_0 22 rfl rfl)
theorem dX2_canBe_23 : decode cX2_canBe 23 = .ok (.iaload, 1) := dk_46 (dk_at dksX2_canBe_0 23 rfl rfl)
theorem dX2_canBe_24 : decode cX2_canBe 24 = .ok (.istore 4, 2) := dk_54 4 (dk_at dksX2_canBe_1 0 rfl rfl)
theorem dX2_canBe_26 : decode cX2_canBe 26 = .ok (.aload_n 0, 1) := dk_42 (dk_at dksX2_canBe_1 2 rfl rfl)
theorem dX2_canBe_27 : decode cX2_canBe 27 = .ok (.getfield 7, 3) := dk_180 0 7 (dk_at dksX2_canBe_1 3 rfl rfl)
theorem dX2_canBe_30 : decode cX2_canBe 30 = .ok (.bipush 101, 2) := dk_16 101 (dk_at dksX2_canBe_1 6 rfl rfl)
theorem dX2_canBe_32 : decode cX2_canBe 32 = .ok (.iconst 2, 1) := dk_5 (dk_at dksX2_canBe_1 8 rfl rfl)
theorem dX2_canBe_33 : decode cX2_canBe 33 = .ok (.iload_n 3, 1) := dk_29 (dk_at dksX2_canBe_1 9 rfl rfl)
theorem dX2_canBe_34 : decode cX2_canBe 34 = .ok (.imul, 1) := dk_104 (dk_at dksX2_canBe_1 10 rfl rfl)
theorem dX2_canBe_35 : decode cX2_canBe 35 = .ok (.iadd, 1) := dk_96 (dk_at dksX2_canBe_1 11 rfl rfl)
theorem dX2_canBe_36 : decode cX2_canBe 36 = .ok (.iconst 1, 1) := dk_4 (dk_at dksX2_canBe_1 12 rfl rfl)
theorem dX2_canBe_37 : decode cX2_canBe 37 = .ok (.iadd, 1) := dk_96 (dk_at dksX2_canBe_1 13 rfl rfl)
theorem dX2_canBe_38 : decode cX2_canBe 38 = .ok (.iaload, 1) := dk_46 (dk_at dksX2_canBe_1 14 rfl rfl)
theorem dX2_canBe_39 : decode cX2_canBe 39 = .ok (.istore 5, 2) := dk_54 5 (dk_at dksX2_canBe_1 15 rfl rfl)
theorem dX2_canBe_41 : decode cX2_canBe 41 = .ok (.iload 4, 2) := dk_21 4 (dk_at dksX2_canBe_1 17 rfl rfl)
theorem dX2_canBe_43 : decode cX2_canBe 43 = .ok (.iload_n 1, 1) := dk_27 (dk_at dksX2_canBe_1 19 rfl rfl)
theorem dX2_canBe_44 : decode cX2_canBe 44 = .ok (.if_icmp .ne 20, 3) := dk_160 0 20 (dk_at dksX2_canBe_1 20 rfl rfl)
theorem dX2_canBe_47 : decode cX2_canBe 47 = .ok (.iload 5, 2) := dk_21 5 (dk_at dksX2_canBe_2 0 rfl rfl)
theorem dX2_canBe_49 : decode cX2_canBe 49 = .ok (.iload_n 1, 1) := dk_27 (dk_at dksX2_canBe_2 2 rfl rfl)
theorem dX2_canBe_50 : decode cX2_canBe 50 = .ok (.if_icmp .ge 14, 3) := dk_162 0 14 (dk_at dksX2_canBe_2 3 rfl rfl)
theorem dX2_canBe_53 : decode cX2_canBe 53 = .ok (.aload_n 0, 1) := dk_42 (dk_at dksX2_canBe_2 6 rfl rfl)
theorem dX2_canBe_54 : decode cX2_canBe 54 = .ok (.getfield 56, 3) := dk_180 0 56 (dk_at dksX2_canBe_2 7 rfl rfl)
theorem dX2_canBe_57 : decode cX2_canBe 57 = .ok (.iload 5, 2) := dk_21 5 (dk_at dksX2_canBe_2 10 rfl rfl)
theorem dX2_canBe_59 : decode cX2_canBe 59 = .ok (.iaload, 1) := dk_46 (dk_at dksX2_canBe_2 12 rfl rfl)
theorem dX2_canBe_60 : decode cX2_canBe 60 = .ok (.iload_n 2, 1) := dk_28 (dk_at dksX2_canBe_2 13 rfl rfl)
theorem dX2_canBe_61 : decode cX2_canBe 61 = .ok (.if_icmp .eq 26, 3) := dk_159 0 26 (dk_at dksX2_canBe_2 14 rfl rfl)
theorem dX2_canBe_64 : decode cX2_canBe 64 = .ok (.iload 5, 2) := dk_21 5 (dk_at dksX2_canBe_2 17 rfl rfl)
theorem dX2_canBe_66 : decode cX2_canBe 66 = .ok (.iload_n 1, 1) := dk_27 (dk_at dksX2_canBe_2 19 rfl rfl)
theorem dX2_canBe_67 : decode cX2_canBe 67 = .ok (.if_icmp .ne 22, 3) := dk_160 0 22 (dk_at dksX2_canBe_2 20 rfl rfl)
theorem dX2_canBe_70 : decode cX2_canBe 70 = .ok (.iload 4, 2) := dk_21 4 (dk_at dksX2_canBe_3 0 rfl rfl)
theorem dX2_canBe_72 : decode cX2_canBe 72 = .ok (.iload_n 1, 1) := dk_27 (dk_at dksX2_canBe_3 2 rfl rfl)
theorem dX2_canBe_73 : decode cX2_canBe 73 = .ok (.if_icmp .ge 16, 3) := dk_162 0 16 (dk_at dksX2_canBe_3 3 rfl rfl)
theorem dX2_canBe_76 : decode cX2_canBe 76 = .ok (.aload_n 0, 1) := dk_42 (dk_at dksX2_canBe_3 6 rfl rfl)
theorem dX2_canBe_77 : decode cX2_canBe 77 = .ok (.getfield 56, 3) := dk_180 0 56 (dk_at dksX2_canBe_3 7 rfl rfl)
theorem dX2_canBe_80 : decode cX2_canBe 80 = .ok (.iload 4, 2) := dk_21 4 (dk_at dksX2_canBe_3 10 rfl rfl)
theorem dX2_canBe_82 : decode cX2_canBe 82 = .ok (.iaload, 1) := dk_46 (dk_at dksX2_canBe_3 12 rfl rfl)
theorem dX2_canBe_83 : decode cX2_canBe 83 = .ok (.iload_n 2, 1) := dk_28 (dk_at dksX2_canBe_3 13 rfl rfl)
theorem dX2_canBe_84 : decode cX2_canBe 84 = .ok (.if_icmp .ne 5, 3) := dk_160 0 5 (dk_at dksX2_canBe_3 14 rfl rfl)
theorem dX2_canBe_87 : decode cX2_canBe 87 = .ok (.iconst 0, 1) := dk_3 (dk_at dksX2_canBe_3 17 rfl rfl)
theorem dX2_canBe_88 : decode cX2_canBe 88 = .ok (.ireturn, 1) := dk_172 (dk_at dksX2_canBe_3 18 rfl rfl)
theorem dX2_canBe_89 : decode cX2_canBe 89 = .ok (.iinc 3 1, 3) := dk_132 3 1 (dk_at dksX2_canBe_3 19 rfl rfl)
theorem dX2_canBe_92 : decode cX2_canBe 92 = .ok (.goto (-90), 3) := dk_167 255 166 (dk_at dksX2_canBe_4 0 rfl rfl)
theorem dX2_canBe_95 : decode cX2_canBe 95 = .ok (.iconst 1, 1) := dk_4 (dk_at dksX2_canBe_4 3 rfl rfl)
theorem dX2_canBe_96 : decode cX2_canBe 96 = .ok (.ireturn, 1) := dk_172 (dk_at dksX2_canBe_4 4 rfl rfl)
abbrev cX2_has : ByteArray := prog_20_method_140_code
def yX2_has : MethodName := ⟨RX2, "has", "(ZIII)Z"⟩
def dkwX2_has_2 : List UInt8 := [5, 28, 104, 96, 29, 96, 21, 4, 79, 4, 172]
abbrev dktX2_has_2 : List UInt8 := dkwX2_has_2 ++ []
def dkwX2_has_1 : List UInt8 := [184, 0, 63, 154, 0, 5, 3, 172, 42, 180, 0, 7, 16, 117, 27, 153, 0, 7, 7, 167, 0, 4, 3, 96]
abbrev dktX2_has_1 : List UInt8 := dkwX2_has_1 ++ dktX2_has_2
def dkwX2_has_0 : List UInt8 := [28, 3, 4, 184, 0, 63, 153, 0, 23, 29, 3, 4, 184, 0, 63, 153, 0, 14, 21, 4, 3, 16, 99]
abbrev dktX2_has_0 : List UInt8 := dkwX2_has_0 ++ dktX2_has_1
theorem dksX2_has_0 : cX2_has.data.toList.drop 0 = dktX2_has_0 := by decide +kernel
theorem dksX2_has_1 : cX2_has.data.toList.drop 23 = dktX2_has_1 := dk_seg dksX2_has_0 23 rfl rfl
theorem dksX2_has_2 : cX2_has.data.toList.drop 47 = dktX2_has_2 := dk_seg dksX2_has_1 24 rfl rfl
theorem dX2_has_0 : decode cX2_has 0 = .ok (.iload_n 2, 1) := dk_28 (dk_at dksX2_has_0 0 rfl rfl)
theorem dX2_has_1 : decode cX2_has 1 = .ok (.iconst 0, 1) := dk_3 (dk_at dksX2_has_0 1 rfl rfl)
theorem dX2_has_2 : decode cX2_has 2 = .ok (.iconst 1, 1) := dk_4 (dk_at dksX2_has_0 2 rfl rfl)
theorem dX2_has_3 : decode cX2_has 3 = .ok (.invokestatic 63, 3) := dk_184 0 63 (dk_at dksX2_has_0 3 rfl rfl)
theorem dX2_has_6 : decode cX2_has 6 = .ok (.ifCond .eq 23, 3) := dk_153 0 23 (dk_at dksX2_has_0 6 rfl rfl)
theorem dX2_has_9 : decode cX2_has 9 = .ok (.iload_n 3, 1) := dk_29 (dk_at dksX2_has_0 9 rfl rfl)
theorem dX2_has_10 : decode cX2_has 10 = .ok (.iconst 0, 1) := dk_3 (dk_at dksX2_has_0 10 rfl rfl)
theorem dX2_has_11 : decode cX2_has 11 = .ok (.iconst 1, 1) := dk_4 (dk_at dksX2_has_0 11 rfl rfl)
theorem dX2_has_12 : decode cX2_has 12 = .ok (.invokestatic 63, 3) := dk_184 0 63 (dk_at dksX2_has_0 12 rfl rfl)
theorem dX2_has_15 : decode cX2_has 15 = .ok (.ifCond .eq 14, 3) := dk_153 0 14 (dk_at dksX2_has_0 15 rfl rfl)
theorem dX2_has_18 : decode cX2_has 18 = .ok (.iload 4, 2) := dk_21 4 (dk_at dksX2_has_0 18 rfl rfl)
theorem dX2_has_20 : decode cX2_has 20 = .ok (.iconst 0, 1) := dk_3 (dk_at dksX2_has_0 20 rfl rfl)
theorem dX2_has_21 : decode cX2_has 21 = .ok (.bipush 99, 2) := dk_16 99 (dk_at dksX2_has_0 21 rfl rfl)
theorem dX2_has_23 : decode cX2_has 23 = .ok (.invokestatic 63, 3) := dk_184 0 63 (dk_at dksX2_has_1 0 rfl rfl)
theorem dX2_has_26 : decode cX2_has 26 = .ok (.ifCond .ne 5, 3) := dk_154 0 5 (dk_at dksX2_has_1 3 rfl rfl)
theorem dX2_has_29 : decode cX2_has 29 = .ok (.iconst 0, 1) := dk_3 (dk_at dksX2_has_1 6 rfl rfl)
theorem dX2_has_30 : decode cX2_has 30 = .ok (.ireturn, 1) := dk_172 (dk_at dksX2_has_1 7 rfl rfl)
theorem dX2_has_31 : decode cX2_has 31 = .ok (.aload_n 0, 1) := dk_42 (dk_at dksX2_has_1 8 rfl rfl)
theorem dX2_has_32 : decode cX2_has 32 = .ok (.getfield 7, 3) := dk_180 0 7 (dk_at dksX2_has_1 9 rfl rfl)
theorem dX2_has_35 : decode cX2_has 35 = .ok (.bipush 117, 2) := dk_16 117 (dk_at dksX2_has_1 12 rfl rfl)
theorem dX2_has_37 : decode cX2_has 37 = .ok (.iload_n 1, 1) := dk_27 (dk_at dksX2_has_1 14 rfl rfl)
theorem dX2_has_38 : decode cX2_has 38 = .ok (.ifCond .eq 7, 3) := dk_153 0 7 (dk_at dksX2_has_1 15 rfl rfl)
theorem dX2_has_41 : decode cX2_has 41 = .ok (.iconst 4, 1) := dk_7 (dk_at dksX2_has_1 18 rfl rfl)
theorem dX2_has_42 : decode cX2_has 42 = .ok (.goto 4, 3) := dk_167 0 4 (dk_at dksX2_has_1 19 rfl rfl)
theorem dX2_has_45 : decode cX2_has 45 = .ok (.iconst 0, 1) := dk_3 (dk_at dksX2_has_1 22 rfl rfl)
theorem dX2_has_46 : decode cX2_has 46 = .ok (.iadd, 1) := dk_96 (dk_at dksX2_has_1 23 rfl rfl)
theorem dX2_has_47 : decode cX2_has 47 = .ok (.iconst 2, 1) := dk_5 (dk_at dksX2_has_2 0 rfl rfl)
theorem dX2_has_48 : decode cX2_has 48 = .ok (.iload_n 2, 1) := dk_28 (dk_at dksX2_has_2 1 rfl rfl)
theorem dX2_has_49 : decode cX2_has 49 = .ok (.imul, 1) := dk_104 (dk_at dksX2_has_2 2 rfl rfl)
theorem dX2_has_50 : decode cX2_has 50 = .ok (.iadd, 1) := dk_96 (dk_at dksX2_has_2 3 rfl rfl)
theorem dX2_has_51 : decode cX2_has 51 = .ok (.iload_n 3, 1) := dk_29 (dk_at dksX2_has_2 4 rfl rfl)
theorem dX2_has_52 : decode cX2_has 52 = .ok (.iadd, 1) := dk_96 (dk_at dksX2_has_2 5 rfl rfl)
theorem dX2_has_53 : decode cX2_has 53 = .ok (.iload 4, 2) := dk_21 4 (dk_at dksX2_has_2 6 rfl rfl)
theorem dX2_has_55 : decode cX2_has 55 = .ok (.iastore, 1) := dk_79 (dk_at dksX2_has_2 8 rfl rfl)
theorem dX2_has_56 : decode cX2_has 56 = .ok (.iconst 1, 1) := dk_4 (dk_at dksX2_has_2 9 rfl rfl)
theorem dX2_has_57 : decode cX2_has 57 = .ok (.ireturn, 1) := dk_172 (dk_at dksX2_has_2 10 rfl rfl)
abbrev cX2_rests : ByteArray := prog_20_method_141_code
def yX2_rests : MethodName := ⟨RX2, "rests", "()I"⟩
def dkwX2_rests_4 : List UInt8 := [96, 120, 167, 0, 4, 3, 128, 60, 132, 3, 1, 167, 255, 160, 132, 2, 1, 167, 255, 147, 27, 172]
abbrev dktX2_rests_4 : List UInt8 := dkwX2_rests_4 ++ []
def dkwX2_rests_3 : List UInt8 := [29, 100, 46, 161, 0, 7, 4, 167, 0, 4, 3, 54, 4, 27, 21, 4, 153, 0, 13, 4, 28, 5, 29, 104]
abbrev dktX2_rests_3 : List UInt8 := dkwX2_rests_3 ++ dktX2_rests_4
def dkwX2_rests_2 : List UInt8 := [180, 0, 7, 16, 121, 5, 28, 104, 96, 29, 96, 46, 42, 180, 0, 7, 16, 121, 5, 28, 104, 96, 4, 96]
abbrev dktX2_rests_2 : List UInt8 := dkwX2_rests_2 ++ dktX2_rests_3
def dkwX2_rests_1 : List UInt8 := [104, 96, 29, 96, 46, 42, 180, 0, 7, 16, 117, 5, 4, 28, 100, 104, 96, 29, 96, 46, 161, 0, 38, 42]
abbrev dktX2_rests_1 : List UInt8 := dkwX2_rests_1 ++ dktX2_rests_2
def dkwX2_rests_0 : List UInt8 := [3, 60, 3, 61, 28, 5, 162, 0, 110, 3, 62, 29, 5, 162, 0, 97, 42, 180, 0, 7, 16, 117, 5, 28]
abbrev dktX2_rests_0 : List UInt8 := dkwX2_rests_0 ++ dktX2_rests_1
theorem dksX2_rests_0 : cX2_rests.data.toList.drop 0 = dktX2_rests_0 := by decide +kernel
theorem dksX2_rests_1 : cX2_rests.data.toList.drop 24 = dktX2_rests_1 := dk_seg dksX2_rests_0 24 rfl rfl
theorem dksX2_rests_2 : cX2_rests.data.toList.drop 48 = dktX2_rests_2 := dk_seg dksX2_rests_1 24 rfl rfl
theorem dksX2_rests_3 : cX2_rests.data.toList.drop 72 = dktX2_rests_3 := dk_seg dksX2_rests_2 24 rfl rfl
theorem dksX2_rests_4 : cX2_rests.data.toList.drop 96 = dktX2_rests_4 := dk_seg dksX2_rests_3 24 rfl rfl
theorem dX2_rests_0 : decode cX2_rests 0 = .ok (.iconst 0, 1) := dk_3 (dk_at dksX2_rests_0 0 rfl rfl)
theorem dX2_rests_1 : decode cX2_rests 1 = .ok (.istore_n 1, 1) := dk_60 (dk_at dksX2_rests_0 1 rfl rfl)
theorem dX2_rests_2 : decode cX2_rests 2 = .ok (.iconst 0, 1) := dk_3 (dk_at dksX2_rests_0 2 rfl rfl)
theorem dX2_rests_3 : decode cX2_rests 3 = .ok (.istore_n 2, 1) := dk_61 (dk_at dksX2_rests_0 3 rfl rfl)
theorem dX2_rests_4 : decode cX2_rests 4 = .ok (.iload_n 2, 1) := dk_28 (dk_at dksX2_rests_0 4 rfl rfl)
theorem dX2_rests_5 : decode cX2_rests 5 = .ok (.iconst 2, 1) := dk_5 (dk_at dksX2_rests_0 5 rfl rfl)
theorem dX2_rests_6 : decode cX2_rests 6 = .ok (.if_icmp .ge 110, 3) := dk_162 0 110 (dk_at dksX2_rests_0 6 rfl rfl)
theorem dX2_rests_9 : decode cX2_rests 9 = .ok (.iconst 0, 1) := dk_3 (dk_at dksX2_rests_0 9 rfl rfl)
theorem dX2_rests_10 : decode cX2_rests 10 = .ok (.istore_n 3, 1) := dk_62 (dk_at dksX2_rests_0 10 rfl rfl)
theorem dX2_rests_11 : decode cX2_rests 11 = .ok (.iload_n 3, 1) := dk_29 (dk_at dksX2_rests_0 11 rfl rfl)
theorem dX2_rests_12 : decode cX2_rests 12 = .ok (.iconst 2, 1) := dk_5 (dk_at dksX2_rests_0 12 rfl rfl)
theorem dX2_rests_13 : decode cX2_rests 13 = .ok (.if_icmp .ge 97, 3) := dk_162 0 97 (dk_at dksX2_rests_0 13 rfl rfl)
theorem dX2_rests_16 : decode cX2_rests 16 = .ok (.aload_n 0, 1) := dk_42 (dk_at dksX2_rests_0 16 rfl rfl)
theorem dX2_rests_17 : decode cX2_rests 17 = .ok (.getfield 7, 3) := dk_180 0 7 (dk_at dksX2_rests_0 17 rfl rfl)
theorem dX2_rests_20 : decode cX2_rests 20 = .ok (.bipush 117, 2) := dk_16 117 (dk_at dksX2_rests_0 20 rfl rfl)
theorem dX2_rests_22 : decode cX2_rests 22 = .ok (.iconst 2, 1) := dk_5 (dk_at dksX2_rests_0 22 rfl rfl)
theorem dX2_rests_23 : decode cX2_rests 23 = .ok (.iload_n 2, 1) := dk_28 (dk_at dksX2_rests_0 23 rfl rfl)
theorem dX2_rests_24 : decode cX2_rests 24 = .ok (.imul, 1) := dk_104 (dk_at dksX2_rests_1 0 rfl rfl)
theorem dX2_rests_25 : decode cX2_rests 25 = .ok (.iadd, 1) := dk_96 (dk_at dksX2_rests_1 1 rfl rfl)
theorem dX2_rests_26 : decode cX2_rests 26 = .ok (.iload_n 3, 1) := dk_29 (dk_at dksX2_rests_1 2 rfl rfl)
theorem dX2_rests_27 : decode cX2_rests 27 = .ok (.iadd, 1) := dk_96 (dk_at dksX2_rests_1 3 rfl rfl)
theorem dX2_rests_28 : decode cX2_rests 28 = .ok (.iaload, 1) := dk_46 (dk_at dksX2_rests_1 4 rfl rfl)
theorem dX2_rests_29 : decode cX2_rests 29 = .ok (.aload_n 0, 1) := dk_42 (dk_at dksX2_rests_1 5 rfl rfl)
theorem dX2_rests_30 : decode cX2_rests 30 = .ok (.getfield 7, 3) := dk_180 0 7 (dk_at dksX2_rests_1 6 rfl rfl)
theorem dX2_rests_33 : decode cX2_rests 33 = .ok (.bipush 117, 2) := dk_16 117 (dk_at dksX2_rests_1 9 rfl rfl)
theorem dX2_rests_35 : decode cX2_rests 35 = .ok (.iconst 2, 1) := dk_5 (dk_at dksX2_rests_1 11 rfl rfl)
theorem dX2_rests_36 : decode cX2_rests 36 = .ok (.iconst 1, 1) := dk_4 (dk_at dksX2_rests_1 12 rfl rfl)
theorem dX2_rests_37 : decode cX2_rests 37 = .ok (.iload_n 2, 1) := dk_28 (dk_at dksX2_rests_1 13 rfl rfl)
theorem dX2_rests_38 : decode cX2_rests 38 = .ok (.isub, 1) := dk_100 (dk_at dksX2_rests_1 14 rfl rfl)
theorem dX2_rests_39 : decode cX2_rests 39 = .ok (.imul, 1) := dk_104 (dk_at dksX2_rests_1 15 rfl rfl)
theorem dX2_rests_40 : decode cX2_rests 40 = .ok (.iadd, 1) := dk_96 (dk_at dksX2_rests_1 16 rfl rfl)
theorem dX2_rests_41 : decode cX2_rests 41 = .ok (.iload_n 3, 1) := dk_29 (dk_at dksX2_rests_1 17 rfl rfl)
theorem dX2_rests_42 : decode cX2_rests 42 = .ok (.iadd, 1) := dk_96 (dk_at dksX2_rests_1 18 rfl rfl)
theorem dX2_rests_43 : decode cX2_rests 43 = .ok (.iaload, 1) := dk_46 (dk_at dksX2_rests_1 19 rfl rfl)
theorem dX2_rests_44 : decode cX2_rests 44 = .ok (.if_icmp .lt 38, 3) := dk_161 0 38 (dk_at dksX2_rests_1 20 rfl rfl)
theorem dX2_rests_47 : decode cX2_rests 47 = .ok (.aload_n 0, 1) := dk_42 (dk_at dksX2_rests_1 23 rfl rfl)
theorem dX2_rests_48 : decode cX2_rests 48 = .ok (.getfield 7, 3) := dk_180 0 7 (dk_at dksX2_rests_2 0 rfl rfl)
theorem dX2_rests_51 : decode cX2_rests 51 = .ok (.bipush 121, 2) := dk_16 121 (dk_at dksX2_rests_2 3 rfl rfl)
theorem dX2_rests_53 : decode cX2_rests 53 = .ok (.iconst 2, 1) := dk_5 (dk_at dksX2_rests_2 5 rfl rfl)
theorem dX2_rests_54 : decode cX2_rests 54 = .ok (.iload_n 2, 1) := dk_28 (dk_at dksX2_rests_2 6 rfl rfl)
theorem dX2_rests_55 : decode cX2_rests 55 = .ok (.imul, 1) := dk_104 (dk_at dksX2_rests_2 7 rfl rfl)
theorem dX2_rests_56 : decode cX2_rests 56 = .ok (.iadd, 1) := dk_96 (dk_at dksX2_rests_2 8 rfl rfl)
theorem dX2_rests_57 : decode cX2_rests 57 = .ok (.iload_n 3, 1) := dk_29 (dk_at dksX2_rests_2 9 rfl rfl)
theorem dX2_rests_58 : decode cX2_rests 58 = .ok (.iadd, 1) := dk_96 (dk_at dksX2_rests_2 10 rfl rfl)
theorem dX2_rests_59 : decode cX2_rests 59 = .ok (.iaload, 1) := dk_46 (dk_at dksX2_rests_2 11 rfl rfl)
theorem dX2_rests_60 : decode cX2_rests 60 = .ok (.aload_n 0, 1) := dk_42 (dk_at dksX2_rests_2 12 rfl rfl)
theorem dX2_rests_61 : decode cX2_rests 61 = .ok (.getfield 7, 3) := dk_180 0 7 (dk_at dksX2_rests_2 13 rfl rfl)
theorem dX2_rests_64 : decode cX2_rests 64 = .ok (.bipush 121, 2) := dk_16 121 (dk_at dksX2_rests_2 16 rfl rfl)
theorem dX2_rests_66 : decode cX2_rests 66 = .ok (.iconst 2, 1) := dk_5 (dk_at dksX2_rests_2 18 rfl rfl)
theorem dX2_rests_67 : decode cX2_rests 67 = .ok (.iload_n 2, 1) := dk_28 (dk_at dksX2_rests_2 19 rfl rfl)
theorem dX2_rests_68 : decode cX2_rests 68 = .ok (.imul, 1) := dk_104 (dk_at dksX2_rests_2 20 rfl rfl)
theorem dX2_rests_69 : decode cX2_rests 69 = .ok (.iadd, 1) := dk_96 (dk_at dksX2_rests_2 21 rfl rfl)
theorem dX2_rests_70 : decode cX2_rests 70 = .ok (.iconst 1, 1) := dk_4 (dk_at dksX2_rests_2 22 rfl rfl)
theorem dX2_rests_71 : decode cX2_rests 71 = .ok (.iadd, 1) := dk_96 (dk_at dksX2_rests_2 23 rfl rfl)
theorem dX2_rests_72 : decode cX2_rests 72 = .ok (.iload_n 3, 1) := dk_29 (dk_at dksX2_rests_3 0 rfl rfl)
theorem dX2_rests_73 : decode cX2_rests 73 = .ok (.isub, 1) := dk_100 (dk_at dksX2_rests_3 1 rfl rfl)
theorem dX2_rests_74 : decode cX2_rests 74 = .ok (.iaload, 1) := dk_46 (dk_at dksX2_rests_3 2 rfl rfl)
theorem dX2_rests_75 : decode cX2_rests 75 = .ok (.if_icmp .lt 7, 3) := dk_161 0 7 (dk_at dksX2_rests_3 3 rfl rfl)
theorem dX2_rests_78 : decode cX2_rests 78 = .ok (.iconst 1, 1) := dk_4 (dk_at dksX2_rests_3 6 rfl rfl)
theorem dX2_rests_79 : decode cX2_rests 79 = .ok (.goto 4, 3) := dk_167 0 4 (dk_at dksX2_rests_3 7 rfl rfl)
theorem dX2_rests_82 : decode cX2_rests 82 = .ok (.iconst 0, 1) := dk_3 (dk_at dksX2_rests_3 10 rfl rfl)
theorem dX2_rests_83 : decode cX2_rests 83 = .ok (.istore 4, 2) := dk_54 4 (dk_at dksX2_rests_3 11 rfl rfl)
theorem dX2_rests_85 : decode cX2_rests 85 = .ok (.iload_n 1, 1) := dk_27 (dk_at dksX2_rests_3 13 rfl rfl)
theorem dX2_rests_86 : decode cX2_rests 86 = .ok (.iload 4, 2) := dk_21 4 (dk_at dksX2_rests_3 14 rfl rfl)
theorem dX2_rests_88 : decode cX2_rests 88 = .ok (.ifCond .eq 13, 3) := dk_153 0 13 (dk_at dksX2_rests_3 16 rfl rfl)
theorem dX2_rests_91 : decode cX2_rests 91 = .ok (.iconst 1, 1) := dk_4 (dk_at dksX2_rests_3 19 rfl rfl)
theorem dX2_rests_92 : decode cX2_rests 92 = .ok (.iload_n 2, 1) := dk_28 (dk_at dksX2_rests_3 20 rfl rfl)
theorem dX2_rests_93 : decode cX2_rests 93 = .ok (.iconst 2, 1) := dk_5 (dk_at dksX2_rests_3 21 rfl rfl)
theorem dX2_rests_94 : decode cX2_rests 94 = .ok (.iload_n 3, 1) := dk_29 (dk_at dksX2_rests_3 22 rfl rfl)
theorem dX2_rests_95 : decode cX2_rests 95 = .ok (.imul, 1) := dk_104 (dk_at dksX2_rests_3 23 rfl rfl)
theorem dX2_rests_96 : decode cX2_rests 96 = .ok (.iadd, 1) := dk_96 (dk_at dksX2_rests_4 0 rfl rfl)
theorem dX2_rests_97 : decode cX2_rests 97 = .ok (.ishl, 1) := dk_120 (dk_at dksX2_rests_4 1 rfl rfl)
theorem dX2_rests_98 : decode cX2_rests 98 = .ok (.goto 4, 3) := dk_167 0 4 (dk_at dksX2_rests_4 2 rfl rfl)
theorem dX2_rests_101 : decode cX2_rests 101 = .ok (.iconst 0, 1) := dk_3 (dk_at dksX2_rests_4 5 rfl rfl)
theorem dX2_rests_102 : decode cX2_rests 102 = .ok (.ior, 1) := dk_128 (dk_at dksX2_rests_4 6 rfl rfl)
theorem dX2_rests_103 : decode cX2_rests 103 = .ok (.istore_n 1, 1) := dk_60 (dk_at dksX2_rests_4 7 rfl rfl)
theorem dX2_rests_104 : decode cX2_rests 104 = .ok (.iinc 3 1, 3) := dk_132 3 1 (dk_at dksX2_rests_4 8 rfl rfl)
theorem dX2_rests_107 : decode cX2_rests 107 = .ok (.goto (-96), 3) := dk_167 255 160 (dk_at dksX2_rests_4 11 rfl rfl)
theorem dX2_rests_110 : decode cX2_rests 110 = .ok (.iinc 2 1, 3) := dk_132 2 1 (dk_at dksX2_rests_4 14 rfl rfl)
theorem dX2_rests_113 : decode cX2_rests 113 = .ok (.goto (-109), 3) := dk_167 255 147 (dk_at dksX2_rests_4 17 rfl rfl)
theorem dX2_rests_116 : decode cX2_rests 116 = .ok (.iload_n 1, 1) := dk_27 (dk_at dksX2_rests_4 20 rfl rfl)
theorem dX2_rests_117 : decode cX2_rests 117 = .ok (.ireturn, 1) := dk_172 (dk_at dksX2_rests_4 21 rfl rfl)
abbrev cX2_mixed : ByteArray := prog_20_method_142_code
def yX2_mixed : MethodName := ⟨RX2, "mixed", "(Z)I"⟩
def dkwX2_mixed_3 : List UInt8 := [153, 0, 7, 29, 167, 0, 4, 28, 28, 29, 184, 1, 189, 108, 172]
abbrev dktX2_mixed_3 : List UInt8 := dkwX2_mixed_3 ++ []
def dkwX2_mixed_2 : List UInt8 := [29, 156, 0, 9, 28, 116, 61, 29, 116, 62, 28, 158, 0, 8, 28, 29, 161, 0, 5, 2, 172, 27]
abbrev dktX2_mixed_2 : List UInt8 := dkwX2_mixed_2 ++ dktX2_mixed_3
def dkwX2_mixed_1 : List UInt8 := [180, 0, 7, 16, 123, 46, 100, 42, 180, 0, 7, 16, 122, 46, 100, 42, 180, 0, 7, 16, 124, 46, 96, 62]
abbrev dktX2_mixed_1 : List UInt8 := dkwX2_mixed_1 ++ dktX2_mixed_2
def dkwX2_mixed_0 : List UInt8 := [42, 180, 0, 7, 16, 124, 46, 42, 180, 0, 7, 16, 123, 46, 100, 61, 42, 180, 0, 7, 16, 121, 46, 42]
abbrev dktX2_mixed_0 : List UInt8 := dkwX2_mixed_0 ++ dktX2_mixed_1
theorem dksX2_mixed_0 : cX2_mixed.data.toList.drop 0 = dktX2_mixed_0 := by decide +kernel
theorem dksX2_mixed_1 : cX2_mixed.data.toList.drop 24 = dktX2_mixed_1 := dk_seg dksX2_mixed_0 24 rfl rfl
theorem dksX2_mixed_2 : cX2_mixed.data.toList.drop 48 = dktX2_mixed_2 := dk_seg dksX2_mixed_1 24 rfl rfl
theorem dksX2_mixed_3 : cX2_mixed.data.toList.drop 70 = dktX2_mixed_3 := dk_seg dksX2_mixed_2 22 rfl rfl
theorem dX2_mixed_0 : decode cX2_mixed 0 = .ok (.aload_n 0, 1) := dk_42 (dk_at dksX2_mixed_0 0 rfl rfl)
theorem dX2_mixed_1 : decode cX2_mixed 1 = .ok (.getfield 7, 3) := dk_180 0 7 (dk_at dksX2_mixed_0 1 rfl rfl)
theorem dX2_mixed_4 : decode cX2_mixed 4 = .ok (.bipush 124, 2) := dk_16 124 (dk_at dksX2_mixed_0 4 rfl rfl)
theorem dX2_mixed_6 : decode cX2_mixed 6 = .ok (.iaload, 1) := dk_46 (dk_at dksX2_mixed_0 6 rfl rfl)
theorem dX2_mixed_7 : decode cX2_mixed 7 = .ok (.aload_n 0, 1) := dk_42 (dk_at dksX2_mixed_0 7 rfl rfl)
theorem dX2_mixed_8 : decode cX2_mixed 8 = .ok (.getfield 7, 3) := dk_180 0 7 (dk_at dksX2_mixed_0 8 rfl rfl)
theorem dX2_mixed_11 : decode cX2_mixed 11 = .ok (.bipush 123, 2) := dk_16 123 (dk_at dksX2_mixed_0 11 rfl rfl)
theorem dX2_mixed_13 : decode cX2_mixed 13 = .ok (.iaload, 1) := dk_46 (dk_at dksX2_mixed_0 13 rfl rfl)
theorem dX2_mixed_14 : decode cX2_mixed 14 = .ok (.isub, 1) := dk_100 (dk_at dksX2_mixed_0 14 rfl rfl)
theorem dX2_mixed_15 : decode cX2_mixed 15 = .ok (.istore_n 2, 1) := dk_61 (dk_at dksX2_mixed_0 15 rfl rfl)
theorem dX2_mixed_16 : decode cX2_mixed 16 = .ok (.aload_n 0, 1) := dk_42 (dk_at dksX2_mixed_0 16 rfl rfl)
theorem dX2_mixed_17 : decode cX2_mixed 17 = .ok (.getfield 7, 3) := dk_180 0 7 (dk_at dksX2_mixed_0 17 rfl rfl)
theorem dX2_mixed_20 : decode cX2_mixed 20 = .ok (.bipush 121, 2) := dk_16 121 (dk_at dksX2_mixed_0 20 rfl rfl)
theorem dX2_mixed_22 : decode cX2_mixed 22 = .ok (.iaload, 1) := dk_46 (dk_at dksX2_mixed_0 22 rfl rfl)
theorem dX2_mixed_23 : decode cX2_mixed 23 = .ok (.aload_n 0, 1) := dk_42 (dk_at dksX2_mixed_0 23 rfl rfl)
theorem dX2_mixed_24 : decode cX2_mixed 24 = .ok (.getfield 7, 3) := dk_180 0 7 (dk_at dksX2_mixed_1 0 rfl rfl)
theorem dX2_mixed_27 : decode cX2_mixed 27 = .ok (.bipush 123, 2) := dk_16 123 (dk_at dksX2_mixed_1 3 rfl rfl)
theorem dX2_mixed_29 : decode cX2_mixed 29 = .ok (.iaload, 1) := dk_46 (dk_at dksX2_mixed_1 5 rfl rfl)
theorem dX2_mixed_30 : decode cX2_mixed 30 = .ok (.isub, 1) := dk_100 (dk_at dksX2_mixed_1 6 rfl rfl)
theorem dX2_mixed_31 : decode cX2_mixed 31 = .ok (.aload_n 0, 1) := dk_42 (dk_at dksX2_mixed_1 7 rfl rfl)
theorem dX2_mixed_32 : decode cX2_mixed 32 = .ok (.getfield 7, 3) := dk_180 0 7 (dk_at dksX2_mixed_1 8 rfl rfl)
theorem dX2_mixed_35 : decode cX2_mixed 35 = .ok (.bipush 122, 2) := dk_16 122 (dk_at dksX2_mixed_1 11 rfl rfl)
theorem dX2_mixed_37 : decode cX2_mixed 37 = .ok (.iaload, 1) := dk_46 (dk_at dksX2_mixed_1 13 rfl rfl)
theorem dX2_mixed_38 : decode cX2_mixed 38 = .ok (.isub, 1) := dk_100 (dk_at dksX2_mixed_1 14 rfl rfl)
theorem dX2_mixed_39 : decode cX2_mixed 39 = .ok (.aload_n 0, 1) := dk_42 (dk_at dksX2_mixed_1 15 rfl rfl)
theorem dX2_mixed_40 : decode cX2_mixed 40 = .ok (.getfield 7, 3) := dk_180 0 7 (dk_at dksX2_mixed_1 16 rfl rfl)
theorem dX2_mixed_43 : decode cX2_mixed 43 = .ok (.bipush 124, 2) := dk_16 124 (dk_at dksX2_mixed_1 19 rfl rfl)
theorem dX2_mixed_45 : decode cX2_mixed 45 = .ok (.iaload, 1) := dk_46 (dk_at dksX2_mixed_1 21 rfl rfl)
theorem dX2_mixed_46 : decode cX2_mixed 46 = .ok (.iadd, 1) := dk_96 (dk_at dksX2_mixed_1 22 rfl rfl)
theorem dX2_mixed_47 : decode cX2_mixed 47 = .ok (.istore_n 3, 1) := dk_62 (dk_at dksX2_mixed_1 23 rfl rfl)
theorem dX2_mixed_48 : decode cX2_mixed 48 = .ok (.iload_n 3, 1) := dk_29 (dk_at dksX2_mixed_2 0 rfl rfl)
theorem dX2_mixed_49 : decode cX2_mixed 49 = .ok (.ifCond .ge 9, 3) := dk_156 0 9 (dk_at dksX2_mixed_2 1 rfl rfl)
theorem dX2_mixed_52 : decode cX2_mixed 52 = .ok (.iload_n 2, 1) := dk_28 (dk_at dksX2_mixed_2 4 rfl rfl)
theorem dX2_mixed_53 : decode cX2_mixed 53 = .ok (.ineg, 1) := dk_116 (dk_at dksX2_mixed_2 5 rfl rfl)
theorem dX2_mixed_54 : decode cX2_mixed 54 = .ok (.istore_n 2, 1) := dk_61 (dk_at dksX2_mixed_2 6 rfl rfl)
theorem dX2_mixed_55 : decode cX2_mixed 55 = .ok (.iload_n 3, 1) := dk_29 (dk_at dksX2_mixed_2 7 rfl rfl)
theorem dX2_mixed_56 : decode cX2_mixed 56 = .ok (.ineg, 1) := dk_116 (dk_at dksX2_mixed_2 8 rfl rfl)
theorem dX2_mixed_57 : decode cX2_mixed 57 = .ok (.istore_n 3, 1) := dk_62 (dk_at dksX2_mixed_2 9 rfl rfl)
theorem dX2_mixed_58 : decode cX2_mixed 58 = .ok (.iload_n 2, 1) := dk_28 (dk_at dksX2_mixed_2 10 rfl rfl)
theorem dX2_mixed_59 : decode cX2_mixed 59 = .ok (.ifCond .le 8, 3) := dk_158 0 8 (dk_at dksX2_mixed_2 11 rfl rfl)
theorem dX2_mixed_62 : decode cX2_mixed 62 = .ok (.iload_n 2, 1) := dk_28 (dk_at dksX2_mixed_2 14 rfl rfl)
theorem dX2_mixed_63 : decode cX2_mixed 63 = .ok (.iload_n 3, 1) := dk_29 (dk_at dksX2_mixed_2 15 rfl rfl)
theorem dX2_mixed_64 : decode cX2_mixed 64 = .ok (.if_icmp .lt 5, 3) := dk_161 0 5 (dk_at dksX2_mixed_2 16 rfl rfl)
theorem dX2_mixed_67 : decode cX2_mixed 67 = .ok (.iconst (-1), 1) := dk_2 (dk_at dksX2_mixed_2 19 rfl rfl)
theorem dX2_mixed_68 : decode cX2_mixed 68 = .ok (.ireturn, 1) := dk_172 (dk_at dksX2_mixed_2 20 rfl rfl)
theorem dX2_mixed_69 : decode cX2_mixed 69 = .ok (.iload_n 1, 1) := dk_27 (dk_at dksX2_mixed_2 21 rfl rfl)
theorem dX2_mixed_70 : decode cX2_mixed 70 = .ok (.ifCond .eq 7, 3) := dk_153 0 7 (dk_at dksX2_mixed_3 0 rfl rfl)
theorem dX2_mixed_73 : decode cX2_mixed 73 = .ok (.iload_n 3, 1) := dk_29 (dk_at dksX2_mixed_3 3 rfl rfl)
theorem dX2_mixed_74 : decode cX2_mixed 74 = .ok (.goto 4, 3) := dk_167 0 4 (dk_at dksX2_mixed_3 4 rfl rfl)
theorem dX2_mixed_77 : decode cX2_mixed 77 = .ok (.iload_n 2, 1) := dk_28 (dk_at dksX2_mixed_3 7 rfl rfl)
theorem dX2_mixed_78 : decode cX2_mixed 78 = .ok (.iload_n 2, 1) := dk_28 (dk_at dksX2_mixed_3 8 rfl rfl)
theorem dX2_mixed_79 : decode cX2_mixed 79 = .ok (.iload_n 3, 1) := dk_29 (dk_at dksX2_mixed_3 9 rfl rfl)
theorem dX2_mixed_80 : decode cX2_mixed 80 = .ok (.invokestatic 445, 3) := dk_184 1 189 (dk_at dksX2_mixed_3 10 rfl rfl)
theorem dX2_mixed_83 : decode cX2_mixed 83 = .ok (.idiv, 1) := dk_108 (dk_at dksX2_mixed_3 13 rfl rfl)
theorem dX2_mixed_84 : decode cX2_mixed 84 = .ok (.ireturn, 1) := dk_172 (dk_at dksX2_mixed_3 14 rfl rfl)
abbrev cX2_paid : ByteArray := prog_20_method_143_code
def yX2_paid : MethodName := ⟨RX2, "paid", "(II)I"⟩
def dkwX2_paid_4 : List UInt8 := [4, 96, 79, 42, 180, 0, 7, 16, 8, 46, 172]
abbrev dktX2_paid_4 : List UInt8 := dkwX2_paid_4 ++ []
def dkwX2_paid_3 : List UInt8 := [16, 125, 5, 42, 180, 0, 7, 16, 8, 46, 104, 96, 4, 96, 28, 79, 42, 180, 0, 7, 16, 8, 92, 46]
abbrev dktX2_paid_3 : List UInt8 := dkwX2_paid_3 ++ dktX2_paid_4
def dkwX2_paid_2 : List UInt8 := [172, 42, 180, 0, 7, 16, 125, 5, 42, 180, 0, 7, 16, 8, 46, 104, 96, 27, 79, 42, 180, 0, 7]
abbrev dktX2_paid_2 : List UInt8 := dkwX2_paid_2 ++ dktX2_paid_3
def dkwX2_paid_1 : List UInt8 := [3, 17, 39, 15, 184, 0, 63, 153, 0, 15, 42, 180, 0, 7, 16, 8, 46, 16, 8, 160, 0, 6, 16, 254]
abbrev dktX2_paid_1 : List UInt8 := dkwX2_paid_1 ++ dktX2_paid_2
def dkwX2_paid_0 : List UInt8 := [27, 2, 160, 0, 13, 42, 180, 0, 7, 16, 8, 3, 79, 3, 172, 42, 27, 182, 0, 67, 153, 0, 26, 28]
abbrev dktX2_paid_0 : List UInt8 := dkwX2_paid_0 ++ dktX2_paid_1
theorem dksX2_paid_0 : cX2_paid.data.toList.drop 0 = dktX2_paid_0 := by decide +kernel
theorem dksX2_paid_1 : cX2_paid.data.toList.drop 24 = dktX2_paid_1 := dk_seg dksX2_paid_0 24 rfl rfl
theorem dksX2_paid_2 : cX2_paid.data.toList.drop 48 = dktX2_paid_2 := dk_seg dksX2_paid_1 24 rfl rfl
theorem dksX2_paid_3 : cX2_paid.data.toList.drop 71 = dktX2_paid_3 := dk_seg dksX2_paid_2 23 rfl rfl
theorem dksX2_paid_4 : cX2_paid.data.toList.drop 95 = dktX2_paid_4 := dk_seg dksX2_paid_3 24 rfl rfl
theorem dX2_paid_0 : decode cX2_paid 0 = .ok (.iload_n 1, 1) := dk_27 (dk_at dksX2_paid_0 0 rfl rfl)
theorem dX2_paid_1 : decode cX2_paid 1 = .ok (.iconst (-1), 1) := dk_2 (dk_at dksX2_paid_0 1 rfl rfl)
theorem dX2_paid_2 : decode cX2_paid 2 = .ok (.if_icmp .ne 13, 3) := dk_160 0 13 (dk_at dksX2_paid_0 2 rfl rfl)
theorem dX2_paid_5 : decode cX2_paid 5 = .ok (.aload_n 0, 1) := dk_42 (dk_at dksX2_paid_0 5 rfl rfl)
theorem dX2_paid_6 : decode cX2_paid 6 = .ok (.getfield 7, 3) := dk_180 0 7 (dk_at dksX2_paid_0 6 rfl rfl)
theorem dX2_paid_9 : decode cX2_paid 9 = .ok (.bipush 8, 2) := dk_16 8 (dk_at dksX2_paid_0 9 rfl rfl)
theorem dX2_paid_11 : decode cX2_paid 11 = .ok (.iconst 0, 1) := dk_3 (dk_at dksX2_paid_0 11 rfl rfl)
theorem dX2_paid_12 : decode cX2_paid 12 = .ok (.iastore, 1) := dk_79 (dk_at dksX2_paid_0 12 rfl rfl)
theorem dX2_paid_13 : decode cX2_paid 13 = .ok (.iconst 0, 1) := dk_3 (dk_at dksX2_paid_0 13 rfl rfl)
theorem dX2_paid_14 : decode cX2_paid 14 = .ok (.ireturn, 1) := dk_172 (dk_at dksX2_paid_0 14 rfl rfl)
theorem dX2_paid_15 : decode cX2_paid 15 = .ok (.aload_n 0, 1) := dk_42 (dk_at dksX2_paid_0 15 rfl rfl)
theorem dX2_paid_16 : decode cX2_paid 16 = .ok (.iload_n 1, 1) := dk_27 (dk_at dksX2_paid_0 16 rfl rfl)
theorem dX2_paid_17 : decode cX2_paid 17 = .ok (.invokevirtual 67, 3) := dk_182 0 67 (dk_at dksX2_paid_0 17 rfl rfl)
theorem dX2_paid_20 : decode cX2_paid 20 = .ok (.ifCond .eq 26, 3) := dk_153 0 26 (dk_at dksX2_paid_0 20 rfl rfl)
theorem dX2_paid_23 : decode cX2_paid 23 = .ok (.iload_n 2, 1) := dk_28 (dk_at dksX2_paid_0 23 rfl rfl)
theorem dX2_paid_24 : decode cX2_paid 24 = .ok (.iconst 0, 1) := dk_3 (dk_at dksX2_paid_1 0 rfl rfl)
theorem dX2_paid_25 : decode cX2_paid 25 = .ok (.sipush 9999, 3) := dk_17 39 15 (dk_at dksX2_paid_1 1 rfl rfl)
theorem dX2_paid_28 : decode cX2_paid 28 = .ok (.invokestatic 63, 3) := dk_184 0 63 (dk_at dksX2_paid_1 4 rfl rfl)
theorem dX2_paid_31 : decode cX2_paid 31 = .ok (.ifCond .eq 15, 3) := dk_153 0 15 (dk_at dksX2_paid_1 7 rfl rfl)
theorem dX2_paid_34 : decode cX2_paid 34 = .ok (.aload_n 0, 1) := dk_42 (dk_at dksX2_paid_1 10 rfl rfl)
theorem dX2_paid_35 : decode cX2_paid 35 = .ok (.getfield 7, 3) := dk_180 0 7 (dk_at dksX2_paid_1 11 rfl rfl)
theorem dX2_paid_38 : decode cX2_paid 38 = .ok (.bipush 8, 2) := dk_16 8 (dk_at dksX2_paid_1 14 rfl rfl)
theorem dX2_paid_40 : decode cX2_paid 40 = .ok (.iaload, 1) := dk_46 (dk_at dksX2_paid_1 16 rfl rfl)
theorem dX2_paid_41 : decode cX2_paid 41 = .ok (.bipush 8, 2) := dk_16 8 (dk_at dksX2_paid_1 17 rfl rfl)
theorem dX2_paid_43 : decode cX2_paid 43 = .ok (.if_icmp .ne 6, 3) := dk_160 0 6 (dk_at dksX2_paid_1 19 rfl rfl)
theorem dX2_paid_46 : decode cX2_paid 46 = .ok (.bipush (-2), 2) := dk_16 254 (dk_at dksX2_paid_1 22 rfl rfl)
theorem dX2_paid_48 : decode cX2_paid 48 = .ok (.ireturn, 1) := dk_172 (dk_at dksX2_paid_2 0 rfl rfl)
theorem dX2_paid_49 : decode cX2_paid 49 = .ok (.aload_n 0, 1) := dk_42 (dk_at dksX2_paid_2 1 rfl rfl)
theorem dX2_paid_50 : decode cX2_paid 50 = .ok (.getfield 7, 3) := dk_180 0 7 (dk_at dksX2_paid_2 2 rfl rfl)
theorem dX2_paid_53 : decode cX2_paid 53 = .ok (.bipush 125, 2) := dk_16 125 (dk_at dksX2_paid_2 5 rfl rfl)
theorem dX2_paid_55 : decode cX2_paid 55 = .ok (.iconst 2, 1) := dk_5 (dk_at dksX2_paid_2 7 rfl rfl)
theorem dX2_paid_56 : decode cX2_paid 56 = .ok (.aload_n 0, 1) := dk_42 (dk_at dksX2_paid_2 8 rfl rfl)
theorem dX2_paid_57 : decode cX2_paid 57 = .ok (.getfield 7, 3) := dk_180 0 7 (dk_at dksX2_paid_2 9 rfl rfl)
theorem dX2_paid_60 : decode cX2_paid 60 = .ok (.bipush 8, 2) := dk_16 8 (dk_at dksX2_paid_2 12 rfl rfl)
theorem dX2_paid_62 : decode cX2_paid 62 = .ok (.iaload, 1) := dk_46 (dk_at dksX2_paid_2 14 rfl rfl)
theorem dX2_paid_63 : decode cX2_paid 63 = .ok (.imul, 1) := dk_104 (dk_at dksX2_paid_2 15 rfl rfl)
theorem dX2_paid_64 : decode cX2_paid 64 = .ok (.iadd, 1) := dk_96 (dk_at dksX2_paid_2 16 rfl rfl)
theorem dX2_paid_65 : decode cX2_paid 65 = .ok (.iload_n 1, 1) := dk_27 (dk_at dksX2_paid_2 17 rfl rfl)
theorem dX2_paid_66 : decode cX2_paid 66 = .ok (.iastore, 1) := dk_79 (dk_at dksX2_paid_2 18 rfl rfl)
theorem dX2_paid_67 : decode cX2_paid 67 = .ok (.aload_n 0, 1) := dk_42 (dk_at dksX2_paid_2 19 rfl rfl)
theorem dX2_paid_68 : decode cX2_paid 68 = .ok (.getfield 7, 3) := dk_180 0 7 (dk_at dksX2_paid_2 20 rfl rfl)
theorem dX2_paid_71 : decode cX2_paid 71 = .ok (.bipush 125, 2) := dk_16 125 (dk_at dksX2_paid_3 0 rfl rfl)
theorem dX2_paid_73 : decode cX2_paid 73 = .ok (.iconst 2, 1) := dk_5 (dk_at dksX2_paid_3 2 rfl rfl)
theorem dX2_paid_74 : decode cX2_paid 74 = .ok (.aload_n 0, 1) := dk_42 (dk_at dksX2_paid_3 3 rfl rfl)
theorem dX2_paid_75 : decode cX2_paid 75 = .ok (.getfield 7, 3) := dk_180 0 7 (dk_at dksX2_paid_3 4 rfl rfl)
theorem dX2_paid_78 : decode cX2_paid 78 = .ok (.bipush 8, 2) := dk_16 8 (dk_at dksX2_paid_3 7 rfl rfl)
theorem dX2_paid_80 : decode cX2_paid 80 = .ok (.iaload, 1) := dk_46 (dk_at dksX2_paid_3 9 rfl rfl)
theorem dX2_paid_81 : decode cX2_paid 81 = .ok (.imul, 1) := dk_104 (dk_at dksX2_paid_3 10 rfl rfl)
theorem dX2_paid_82 : decode cX2_paid 82 = .ok (.iadd, 1) := dk_96 (dk_at dksX2_paid_3 11 rfl rfl)
theorem dX2_paid_83 : decode cX2_paid 83 = .ok (.iconst 1, 1) := dk_4 (dk_at dksX2_paid_3 12 rfl rfl)
theorem dX2_paid_84 : decode cX2_paid 84 = .ok (.iadd, 1) := dk_96 (dk_at dksX2_paid_3 13 rfl rfl)
theorem dX2_paid_85 : decode cX2_paid 85 = .ok (.iload_n 2, 1) := dk_28 (dk_at dksX2_paid_3 14 rfl rfl)
theorem dX2_paid_86 : decode cX2_paid 86 = .ok (.iastore, 1) := dk_79 (dk_at dksX2_paid_3 15 rfl rfl)
theorem dX2_paid_87 : decode cX2_paid 87 = .ok (.aload_n 0, 1) := dk_42 (dk_at dksX2_paid_3 16 rfl rfl)
theorem dX2_paid_88 : decode cX2_paid 88 = .ok (.getfield 7, 3) := dk_180 0 7 (dk_at dksX2_paid_3 17 rfl rfl)
theorem dX2_paid_91 : decode cX2_paid 91 = .ok (.bipush 8, 2) := dk_16 8 (dk_at dksX2_paid_3 20 rfl rfl)
theorem dX2_paid_93 : decode cX2_paid 93 = .ok (.dup2, 1) := dk_92 (dk_at dksX2_paid_3 22 rfl rfl)
theorem dX2_paid_94 : decode cX2_paid 94 = .ok (.iaload, 1) := dk_46 (dk_at dksX2_paid_3 23 rfl rfl)
theorem dX2_paid_95 : decode cX2_paid 95 = .ok (.iconst 1, 1) := dk_4 (dk_at dksX2_paid_4 0 rfl rfl)
theorem dX2_paid_96 : decode cX2_paid 96 = .ok (.iadd, 1) := dk_96 (dk_at dksX2_paid_4 1 rfl rfl)
theorem dX2_paid_97 : decode cX2_paid 97 = .ok (.iastore, 1) := dk_79 (dk_at dksX2_paid_4 2 rfl rfl)
theorem dX2_paid_98 : decode cX2_paid 98 = .ok (.aload_n 0, 1) := dk_42 (dk_at dksX2_paid_4 3 rfl rfl)
theorem dX2_paid_99 : decode cX2_paid 99 = .ok (.getfield 7, 3) := dk_180 0 7 (dk_at dksX2_paid_4 4 rfl rfl)
theorem dX2_paid_102 : decode cX2_paid 102 = .ok (.bipush 8, 2) := dk_16 8 (dk_at dksX2_paid_4 7 rfl rfl)
theorem dX2_paid_104 : decode cX2_paid 104 = .ok (.iaload, 1) := dk_46 (dk_at dksX2_paid_4 9 rfl rfl)
theorem dX2_paid_105 : decode cX2_paid 105 = .ok (.ireturn, 1) := dk_172 (dk_at dksX2_paid_4 10 rfl rfl)
abbrev cX2_whose : ByteArray := prog_20_method_144_code
def yX2_whose : MethodName := ⟨RX2, "whose", "()I"⟩
def dkwX2_whose_4 : List UInt8 := [60, 132, 2, 1, 167, 255, 162, 27, 172]
abbrev dktX2_whose_4 : List UInt8 := dkwX2_whose_4 ++ []
def dkwX2_whose_3 : List UInt8 := [167, 0, 4, 3, 62, 132, 4, 1, 167, 255, 197, 27, 29, 153, 0, 9, 4, 28, 120, 167, 0, 4, 3, 128]
abbrev dktX2_whose_3 : List UInt8 := dkwX2_whose_3 ++ dktX2_whose_4
def dkwX2_whose_2 : List UInt8 := [104, 96, 46, 182, 1, 117, 42, 180, 0, 7, 16, 125, 5, 21, 4, 104, 96, 4, 96, 46, 160, 0, 7, 4]
abbrev dktX2_whose_2 : List UInt8 := dkwX2_whose_2 ++ dktX2_whose_3
def dkwX2_whose_1 : List UInt8 := [180, 0, 7, 16, 8, 46, 162, 0, 53, 29, 153, 0, 41, 42, 28, 42, 180, 0, 7, 16, 125, 5, 21, 4]
abbrev dktX2_whose_1 : List UInt8 := dkwX2_whose_1 ++ dktX2_whose_2
def dkwX2_whose_0 : List UInt8 := [3, 60, 3, 61, 28, 42, 180, 0, 7, 5, 46, 162, 0, 90, 4, 62, 3, 54, 4, 21, 4, 42]
abbrev dktX2_whose_0 : List UInt8 := dkwX2_whose_0 ++ dktX2_whose_1
theorem dksX2_whose_0 : cX2_whose.data.toList.drop 0 = dktX2_whose_0 := by decide +kernel
theorem dksX2_whose_1 : cX2_whose.data.toList.drop 22 = dktX2_whose_1 := dk_seg dksX2_whose_0 22 rfl rfl
theorem dksX2_whose_2 : cX2_whose.data.toList.drop 46 = dktX2_whose_2 := dk_seg dksX2_whose_1 24 rfl rfl
theorem dksX2_whose_3 : cX2_whose.data.toList.drop 70 = dktX2_whose_3 := dk_seg dksX2_whose_2 24 rfl rfl
theorem dksX2_whose_4 : cX2_whose.data.toList.drop 94 = dktX2_whose_4 := dk_seg dksX2_whose_3 24 rfl rfl
theorem dX2_whose_0 : decode cX2_whose 0 = .ok (.iconst 0, 1) := dk_3 (dk_at dksX2_whose_0 0 rfl rfl)
theorem dX2_whose_1 : decode cX2_whose 1 = .ok (.istore_n 1, 1) := dk_60 (dk_at dksX2_whose_0 1 rfl rfl)
theorem dX2_whose_2 : decode cX2_whose 2 = .ok (.iconst 0, 1) := dk_3 (dk_at dksX2_whose_0 2 rfl rfl)
theorem dX2_whose_3 : decode cX2_whose 3 = .ok (.istore_n 2, 1) := dk_61 (dk_at dksX2_whose_0 3 rfl rfl)
theorem dX2_whose_4 : decode cX2_whose 4 = .ok (.iload_n 2, 1) := dk_28 (dk_at dksX2_whose_0 4 rfl rfl)
theorem dX2_whose_5 : decode cX2_whose 5 = .ok (.aload_n 0, 1) := dk_42 (dk_at dksX2_whose_0 5 rfl rfl)
theorem dX2_whose_6 : decode cX2_whose 6 = .ok (.getfield 7, 3) := dk_180 0 7 (dk_at dksX2_whose_0 6 rfl rfl)
theorem dX2_whose_9 : decode cX2_whose 9 = .ok (.iconst 2, 1) := dk_5 (dk_at dksX2_whose_0 9 rfl rfl)
theorem dX2_whose_10 : decode cX2_whose 10 = .ok (.iaload, 1) := dk_46 (dk_at dksX2_whose_0 10 rfl rfl)
theorem dX2_whose_11 : decode cX2_whose 11 = .ok (.if_icmp .ge 90, 3) := dk_162 0 90 (dk_at dksX2_whose_0 11 rfl rfl)
theorem dX2_whose_14 : decode cX2_whose 14 = .ok (.iconst 1, 1) := dk_4 (dk_at dksX2_whose_0 14 rfl rfl)
theorem dX2_whose_15 : decode cX2_whose 15 = .ok (.istore_n 3, 1) := dk_62 (dk_at dksX2_whose_0 15 rfl rfl)
theorem dX2_whose_16 : decode cX2_whose 16 = .ok (.iconst 0, 1) := dk_3 (dk_at dksX2_whose_0 16 rfl rfl)
theorem dX2_whose_17 : decode cX2_whose 17 = .ok (.istore 4, 2) := dk_54 4 (dk_at dksX2_whose_0 17 rfl rfl)
theorem dX2_whose_19 : decode cX2_whose 19 = .ok (.iload 4, 2) := dk_21 4 (dk_at dksX2_whose_0 19 rfl rfl)
theorem dX2_whose_21 : decode cX2_whose 21 = .ok (.aload_n 0, 1) := dk_42 (dk_at dksX2_whose_0 21 rfl rfl)
theorem dX2_whose_22 : decode cX2_whose 22 = .ok (.getfield 7, 3) := dk_180 0 7 (dk_at dksX2_whose_1 0 rfl rfl)
theorem dX2_whose_25 : decode cX2_whose 25 = .ok (.bipush 8, 2) := dk_16 8 (dk_at dksX2_whose_1 3 rfl rfl)
theorem dX2_whose_27 : decode cX2_whose 27 = .ok (.iaload, 1) := dk_46 (dk_at dksX2_whose_1 5 rfl rfl)
theorem dX2_whose_28 : decode cX2_whose 28 = .ok (.if_icmp .ge 53, 3) := dk_162 0 53 (dk_at dksX2_whose_1 6 rfl rfl)
theorem dX2_whose_31 : decode cX2_whose 31 = .ok (.iload_n 3, 1) := dk_29 (dk_at dksX2_whose_1 9 rfl rfl)
theorem dX2_whose_32 : decode cX2_whose 32 = .ok (.ifCond .eq 41, 3) := dk_153 0 41 (dk_at dksX2_whose_1 10 rfl rfl)
theorem dX2_whose_35 : decode cX2_whose 35 = .ok (.aload_n 0, 1) := dk_42 (dk_at dksX2_whose_1 13 rfl rfl)
theorem dX2_whose_36 : decode cX2_whose 36 = .ok (.iload_n 2, 1) := dk_28 (dk_at dksX2_whose_1 14 rfl rfl)
theorem dX2_whose_37 : decode cX2_whose 37 = .ok (.aload_n 0, 1) := dk_42 (dk_at dksX2_whose_1 15 rfl rfl)
theorem dX2_whose_38 : decode cX2_whose 38 = .ok (.getfield 7, 3) := dk_180 0 7 (dk_at dksX2_whose_1 16 rfl rfl)
theorem dX2_whose_41 : decode cX2_whose 41 = .ok (.bipush 125, 2) := dk_16 125 (dk_at dksX2_whose_1 19 rfl rfl)
theorem dX2_whose_43 : decode cX2_whose 43 = .ok (.iconst 2, 1) := dk_5 (dk_at dksX2_whose_1 21 rfl rfl)
theorem dX2_whose_44 : decode cX2_whose 44 = .ok (.iload 4, 2) := dk_21 4 (dk_at dksX2_whose_1 22 rfl rfl)
theorem dX2_whose_46 : decode cX2_whose 46 = .ok (.imul, 1) := dk_104 (dk_at dksX2_whose_2 0 rfl rfl)
theorem dX2_whose_47 : decode cX2_whose 47 = .ok (.iadd, 1) := dk_96 (dk_at dksX2_whose_2 1 rfl rfl)
theorem dX2_whose_48 : decode cX2_whose 48 = .ok (.iaload, 1) := dk_46 (dk_at dksX2_whose_2 2 rfl rfl)
theorem dX2_whose_49 : decode cX2_whose 49 = .ok (.invokevirtual 373, 3) := dk_182 1 117 (dk_at dksX2_whose_2 3 rfl rfl)
theorem dX2_whose_52 : decode cX2_whose 52 = .ok (.aload_n 0, 1) := dk_42 (dk_at dksX2_whose_2 6 rfl rfl)
theorem dX2_whose_53 : decode cX2_whose 53 = .ok (.getfield 7, 3) := dk_180 0 7 (dk_at dksX2_whose_2 7 rfl rfl)
theorem dX2_whose_56 : decode cX2_whose 56 = .ok (.bipush 125, 2) := dk_16 125 (dk_at dksX2_whose_2 10 rfl rfl)
theorem dX2_whose_58 : decode cX2_whose 58 = .ok (.iconst 2, 1) := dk_5 (dk_at dksX2_whose_2 12 rfl rfl)
theorem dX2_whose_59 : decode cX2_whose 59 = .ok (.iload 4, 2) := dk_21 4 (dk_at dksX2_whose_2 13 rfl rfl)
theorem dX2_whose_61 : decode cX2_whose 61 = .ok (.imul, 1) := dk_104 (dk_at dksX2_whose_2 15 rfl rfl)
theorem dX2_whose_62 : decode cX2_whose 62 = .ok (.iadd, 1) := dk_96 (dk_at dksX2_whose_2 16 rfl rfl)
theorem dX2_whose_63 : decode cX2_whose 63 = .ok (.iconst 1, 1) := dk_4 (dk_at dksX2_whose_2 17 rfl rfl)
theorem dX2_whose_64 : decode cX2_whose 64 = .ok (.iadd, 1) := dk_96 (dk_at dksX2_whose_2 18 rfl rfl)
theorem dX2_whose_65 : decode cX2_whose 65 = .ok (.iaload, 1) := dk_46 (dk_at dksX2_whose_2 19 rfl rfl)
theorem dX2_whose_66 : decode cX2_whose 66 = .ok (.if_icmp .ne 7, 3) := dk_160 0 7 (dk_at dksX2_whose_2 20 rfl rfl)
theorem dX2_whose_69 : decode cX2_whose 69 = .ok (.iconst 1, 1) := dk_4 (dk_at dksX2_whose_2 23 rfl rfl)
theorem dX2_whose_70 : decode cX2_whose 70 = .ok (.goto 4, 3) := dk_167 0 4 (dk_at dksX2_whose_3 0 rfl rfl)
theorem dX2_whose_73 : decode cX2_whose 73 = .ok (.iconst 0, 1) := dk_3 (dk_at dksX2_whose_3 3 rfl rfl)
theorem dX2_whose_74 : decode cX2_whose 74 = .ok (.istore_n 3, 1) := dk_62 (dk_at dksX2_whose_3 4 rfl rfl)
theorem dX2_whose_75 : decode cX2_whose 75 = .ok (.iinc 4 1, 3) := dk_132 4 1 (dk_at dksX2_whose_3 5 rfl rfl)
theorem dX2_whose_78 : decode cX2_whose 78 = .ok (.goto (-59), 3) := dk_167 255 197 (dk_at dksX2_whose_3 8 rfl rfl)
theorem dX2_whose_81 : decode cX2_whose 81 = .ok (.iload_n 1, 1) := dk_27 (dk_at dksX2_whose_3 11 rfl rfl)
theorem dX2_whose_82 : decode cX2_whose 82 = .ok (.iload_n 3, 1) := dk_29 (dk_at dksX2_whose_3 12 rfl rfl)
theorem dX2_whose_83 : decode cX2_whose 83 = .ok (.ifCond .eq 9, 3) := dk_153 0 9 (dk_at dksX2_whose_3 13 rfl rfl)
theorem dX2_whose_86 : decode cX2_whose 86 = .ok (.iconst 1, 1) := dk_4 (dk_at dksX2_whose_3 16 rfl rfl)
theorem dX2_whose_87 : decode cX2_whose 87 = .ok (.iload_n 2, 1) := dk_28 (dk_at dksX2_whose_3 17 rfl rfl)
theorem dX2_whose_88 : decode cX2_whose 88 = .ok (.ishl, 1) := dk_120 (dk_at dksX2_whose_3 18 rfl rfl)
theorem dX2_whose_89 : decode cX2_whose 89 = .ok (.goto 4, 3) := dk_167 0 4 (dk_at dksX2_whose_3 19 rfl rfl)
theorem dX2_whose_92 : decode cX2_whose 92 = .ok (.iconst 0, 1) := dk_3 (dk_at dksX2_whose_3 22 rfl rfl)
theorem dX2_whose_93 : decode cX2_whose 93 = .ok (.ior, 1) := dk_128 (dk_at dksX2_whose_3 23 rfl rfl)
theorem dX2_whose_94 : decode cX2_whose 94 = .ok (.istore_n 1, 1) := dk_60 (dk_at dksX2_whose_4 0 rfl rfl)
theorem dX2_whose_95 : decode cX2_whose 95 = .ok (.iinc 2 1, 3) := dk_132 2 1 (dk_at dksX2_whose_4 1 rfl rfl)
theorem dX2_whose_98 : decode cX2_whose 98 = .ok (.goto (-94), 3) := dk_167 255 162 (dk_at dksX2_whose_4 4 rfl rfl)
theorem dX2_whose_101 : decode cX2_whose 101 = .ok (.iload_n 1, 1) := dk_27 (dk_at dksX2_whose_4 7 rfl rfl)
theorem dX2_whose_102 : decode cX2_whose 102 = .ok (.ireturn, 1) := dk_172 (dk_at dksX2_whose_4 8 rfl rfl)
abbrev cX2_image : ByteArray := prog_20_method_145_code
def yX2_image : MethodName := ⟨RX2, "image", "()I"⟩
def dkwX2_image_0 : List UInt8 := [42, 180, 0, 7, 42, 180, 0, 13, 184, 0, 59, 42, 180, 0, 7, 16, 10, 46, 172]
abbrev dktX2_image_0 : List UInt8 := dkwX2_image_0 ++ []
theorem dksX2_image_0 : cX2_image.data.toList.drop 0 = dktX2_image_0 := by decide +kernel
theorem dX2_image_0 : decode cX2_image 0 = .ok (.aload_n 0, 1) := dk_42 (dk_at dksX2_image_0 0 rfl rfl)
theorem dX2_image_1 : decode cX2_image 1 = .ok (.getfield 7, 3) := dk_180 0 7 (dk_at dksX2_image_0 1 rfl rfl)
theorem dX2_image_4 : decode cX2_image 4 = .ok (.aload_n 0, 1) := dk_42 (dk_at dksX2_image_0 4 rfl rfl)
theorem dX2_image_5 : decode cX2_image 5 = .ok (.getfield 13, 3) := dk_180 0 13 (dk_at dksX2_image_0 5 rfl rfl)
theorem dX2_image_8 : decode cX2_image 8 = .ok (.invokestatic 59, 3) := dk_184 0 59 (dk_at dksX2_image_0 8 rfl rfl)
theorem dX2_image_11 : decode cX2_image 11 = .ok (.aload_n 0, 1) := dk_42 (dk_at dksX2_image_0 11 rfl rfl)
theorem dX2_image_12 : decode cX2_image 12 = .ok (.getfield 7, 3) := dk_180 0 7 (dk_at dksX2_image_0 12 rfl rfl)
theorem dX2_image_15 : decode cX2_image 15 = .ok (.bipush 10, 2) := dk_16 10 (dk_at dksX2_image_0 15 rfl rfl)
theorem dX2_image_17 : decode cX2_image 17 = .ok (.iaload, 1) := dk_46 (dk_at dksX2_image_0 17 rfl rfl)
theorem dX2_image_18 : decode cX2_image 18 = .ok (.ireturn, 1) := dk_172 (dk_at dksX2_image_0 18 rfl rfl)
abbrev cX2_back : ByteArray := prog_20_method_146_code
def yX2_back : MethodName := ⟨RX2, "back", "()I"⟩
def dkwX2_back_0 : List UInt8 := [42, 180, 0, 13, 42, 180, 0, 7, 184, 0, 59, 42, 180, 0, 7, 16, 10, 46, 172]
abbrev dktX2_back_0 : List UInt8 := dkwX2_back_0 ++ []
theorem dksX2_back_0 : cX2_back.data.toList.drop 0 = dktX2_back_0 := by decide +kernel
theorem dX2_back_0 : decode cX2_back 0 = .ok (.aload_n 0, 1) := dk_42 (dk_at dksX2_back_0 0 rfl rfl)
theorem dX2_back_1 : decode cX2_back 1 = .ok (.getfield 13, 3) := dk_180 0 13 (dk_at dksX2_back_0 1 rfl rfl)
theorem dX2_back_4 : decode cX2_back 4 = .ok (.aload_n 0, 1) := dk_42 (dk_at dksX2_back_0 4 rfl rfl)
theorem dX2_back_5 : decode cX2_back 5 = .ok (.getfield 7, 3) := dk_180 0 7 (dk_at dksX2_back_0 5 rfl rfl)
theorem dX2_back_8 : decode cX2_back 8 = .ok (.invokestatic 59, 3) := dk_184 0 59 (dk_at dksX2_back_0 8 rfl rfl)
theorem dX2_back_11 : decode cX2_back 11 = .ok (.aload_n 0, 1) := dk_42 (dk_at dksX2_back_0 11 rfl rfl)
theorem dX2_back_12 : decode cX2_back 12 = .ok (.getfield 7, 3) := dk_180 0 7 (dk_at dksX2_back_0 12 rfl rfl)
theorem dX2_back_15 : decode cX2_back 15 = .ok (.bipush 10, 2) := dk_16 10 (dk_at dksX2_back_0 15 rfl rfl)
theorem dX2_back_17 : decode cX2_back 17 = .ok (.iaload, 1) := dk_46 (dk_at dksX2_back_0 17 rfl rfl)
theorem dX2_back_18 : decode cX2_back 18 = .ok (.ireturn, 1) := dk_172 (dk_at dksX2_back_0 18 rfl rfl)
abbrev cX2_about : ByteArray := prog_20_method_147_code
def yX2_about : MethodName := ⟨RX2, "about", "(I)I"⟩
def dkwX2_about_1 : List UInt8 := [160, 0, 10, 42, 180, 0, 90, 167, 0, 5, 16, 254, 172]
abbrev dktX2_about_1 : List UInt8 := dkwX2_about_1 ++ []
def dkwX2_about_0 : List UInt8 := [27, 3, 16, 8, 184, 0, 63, 153, 0, 12, 42, 180, 0, 7, 27, 46, 167, 0, 18, 27, 16, 9]
abbrev dktX2_about_0 : List UInt8 := dkwX2_about_0 ++ dktX2_about_1
theorem dksX2_about_0 : cX2_about.data.toList.drop 0 = dktX2_about_0 := by decide +kernel
theorem dksX2_about_1 : cX2_about.data.toList.drop 22 = dktX2_about_1 := dk_seg dksX2_about_0 22 rfl rfl
theorem dX2_about_0 : decode cX2_about 0 = .ok (.iload_n 1, 1) := dk_27 (dk_at dksX2_about_0 0 rfl rfl)
theorem dX2_about_1 : decode cX2_about 1 = .ok (.iconst 0, 1) := dk_3 (dk_at dksX2_about_0 1 rfl rfl)
theorem dX2_about_2 : decode cX2_about 2 = .ok (.bipush 8, 2) := dk_16 8 (dk_at dksX2_about_0 2 rfl rfl)
theorem dX2_about_4 : decode cX2_about 4 = .ok (.invokestatic 63, 3) := dk_184 0 63 (dk_at dksX2_about_0 4 rfl rfl)
theorem dX2_about_7 : decode cX2_about 7 = .ok (.ifCond .eq 12, 3) := dk_153 0 12 (dk_at dksX2_about_0 7 rfl rfl)
theorem dX2_about_10 : decode cX2_about 10 = .ok (.aload_n 0, 1) := dk_42 (dk_at dksX2_about_0 10 rfl rfl)
theorem dX2_about_11 : decode cX2_about 11 = .ok (.getfield 7, 3) := dk_180 0 7 (dk_at dksX2_about_0 11 rfl rfl)
theorem dX2_about_14 : decode cX2_about 14 = .ok (.iload_n 1, 1) := dk_27 (dk_at dksX2_about_0 14 rfl rfl)
theorem dX2_about_15 : decode cX2_about 15 = .ok (.iaload, 1) := dk_46 (dk_at dksX2_about_0 15 rfl rfl)
theorem dX2_about_16 : decode cX2_about 16 = .ok (.goto 18, 3) := dk_167 0 18 (dk_at dksX2_about_0 16 rfl rfl)
theorem dX2_about_19 : decode cX2_about 19 = .ok (.iload_n 1, 1) := dk_27 (dk_at dksX2_about_0 19 rfl rfl)
theorem dX2_about_20 : decode cX2_about 20 = .ok (.bipush 9, 2) := dk_16 9 (dk_at dksX2_about_0 20 rfl rfl)
theorem dX2_about_22 : decode cX2_about 22 = .ok (.if_icmp .ne 10, 3) := dk_160 0 10 (dk_at dksX2_about_1 0 rfl rfl)
theorem dX2_about_25 : decode cX2_about 25 = .ok (.aload_n 0, 1) := dk_42 (dk_at dksX2_about_1 3 rfl rfl)
theorem dX2_about_26 : decode cX2_about 26 = .ok (.getfield 90, 3) := dk_180 0 90 (dk_at dksX2_about_1 4 rfl rfl)
theorem dX2_about_29 : decode cX2_about 29 = .ok (.goto 5, 3) := dk_167 0 5 (dk_at dksX2_about_1 7 rfl rfl)
theorem dX2_about_32 : decode cX2_about 32 = .ok (.bipush (-2), 2) := dk_16 254 (dk_at dksX2_about_1 10 rfl rfl)
theorem dX2_about_34 : decode cX2_about 34 = .ok (.ireturn, 1) := dk_172 (dk_at dksX2_about_1 12 rfl rfl)
theorem q148 : (Jvm.Cond.initialized "WolfsHeadModel") ∈ lw_all := lw_g (lw_at lw_m1 4 rfl) rfl
theorem q693 : (Jvm.Cond.selects "WolfsHeadModel" ({ cls := "java/lang/Object", name := "getClass", desc := "()Ljava/lang/Class;" } : Jvm.MethodName) ({ cls := "java/lang/Object", name := "getClass", desc := "()Ljava/lang/Class;" } : Jvm.MethodName)) ∈ lw_all := lw_g (lw_at lw_m3 69 rfl) rfl
theorem q1393 : (Jvm.Cond.instantiable "WolfsHeadModel" (29 : Nat)) ∈ lw_all := lw_g (lw_at lw_m6 49 rfl) rfl
theorem q1395 : (Jvm.Cond.instanceMethod ({ cls := "WolfsHeadModel", name := "<init>", desc := "()V" } : Jvm.MethodName)) ∈ lw_all := lw_g (lw_at lw_m6 51 rfl) rfl
theorem q1396 : (Jvm.Cond.code ({ cls := "WolfsHeadModel", name := "<init>", desc := "()V" } : Jvm.MethodName) prog_20_method_1_code (1 : Nat) (Option.none : Option Jvm.ClassFile.FieldType)) ∈ lw_all := lw_g (lw_at lw_m6 52 rfl) rfl
theorem q1397 : (Jvm.Cond.methodLink "WolfsHeadModel" (1 : Nat) ({ cls := "java/lang/Object", name := "<init>", desc := "()V" } : Jvm.MethodName)) ∈ lw_all := lw_g (lw_at lw_m6 53 rfl) rfl
theorem q1398 : (Jvm.Cond.methodLink "WolfsHeadModel" (59 : Nat) ({ cls := "WolfsHeadModel", name := "copy", desc := "([I[I)V" } : Jvm.MethodName)) ∈ lw_all := lw_g (lw_at lw_m6 54 rfl) rfl
theorem q1399 : (Jvm.Cond.static ({ cls := "WolfsHeadModel", name := "copy", desc := "([I[I)V" } : Jvm.MethodName)) ∈ lw_all := lw_g (lw_at lw_m6 55 rfl) rfl
theorem q1400 : (Jvm.Cond.code ({ cls := "WolfsHeadModel", name := "copy", desc := "([I[I)V" } : Jvm.MethodName) prog_20_method_2_code (3 : Nat) (Option.none : Option Jvm.ClassFile.FieldType)) ∈ lw_all := lw_g (lw_at lw_m6 56 rfl) rfl
theorem q1401 : (Jvm.Cond.fieldLink "WolfsHeadModel" (7 : Nat) "WolfsHeadModel" "a" "[I") ∈ lw_all := lw_g (lw_at lw_m6 57 rfl) rfl
theorem q1402 : (Jvm.Cond.fieldLink "WolfsHeadModel" (13 : Nat) "WolfsHeadModel" "image" "[I") ∈ lw_all := lw_g (lw_at lw_m6 58 rfl) rfl
theorem q1403 : (Jvm.Cond.fieldLink "WolfsHeadModel" (16 : Nat) "WolfsHeadModel" "texts" "[I") ∈ lw_all := lw_g (lw_at lw_m6 59 rfl) rfl
theorem q1404 : (Jvm.Cond.fieldLink "WolfsHeadModel" (19 : Nat) "WolfsHeadModel" "tape" "[I") ∈ lw_all := lw_g (lw_at lw_m6 60 rfl) rfl
theorem q1405 : (Jvm.Cond.fieldLink "WolfsHeadModel" (90 : Nat) "WolfsHeadModel" "taped" "I") ∈ lw_all := lw_g (lw_at lw_m6 61 rfl) rfl
theorem q1406 : (Jvm.Cond.fieldLink "WolfsHeadModel" (22 : Nat) "WolfsHeadModel" "fault" "I") ∈ lw_all := lw_g (lw_at lw_m6 62 rfl) rfl
theorem q1407 : (Jvm.Cond.fieldLink "WolfsHeadModel" (26 : Nat) "WolfsHeadModel" "faultPlace" "I") ∈ lw_all := lw_g (lw_at lw_m6 63 rfl) rfl
theorem q1408 : (Jvm.Cond.fieldLink "WolfsHeadModel" (96 : Nat) "WolfsHeadModel" "at" "I") ∈ lw_all := lw_g (lw_at lw_m6 64 rfl) rfl
theorem q1409 : (Jvm.Cond.fieldLink "WolfsHeadModel" (103 : Nat) "WolfsHeadModel" "place" "I") ∈ lw_all := lw_g (lw_at lw_m6 65 rfl) rfl
theorem q1410 : (Jvm.Cond.fieldLink "WolfsHeadModel" (106 : Nat) "WolfsHeadModel" "token" "I") ∈ lw_all := lw_g (lw_at lw_m6 66 rfl) rfl
theorem q1411 : (Jvm.Cond.fieldLink "WolfsHeadModel" (112 : Nat) "WolfsHeadModel" "number" "I") ∈ lw_all := lw_g (lw_at lw_m6 67 rfl) rfl
theorem q1412 : (Jvm.Cond.fieldLink "WolfsHeadModel" (119 : Nat) "WolfsHeadModel" "word" "J") ∈ lw_all := lw_g (lw_at lw_m6 68 rfl) rfl
theorem q1413 : (Jvm.Cond.fieldLink "WolfsHeadModel" (144 : Nat) "WolfsHeadModel" "text0" "I") ∈ lw_all := lw_g (lw_at lw_m6 69 rfl) rfl
theorem q1414 : (Jvm.Cond.fieldLink "WolfsHeadModel" (147 : Nat) "WolfsHeadModel" "written" "I") ∈ lw_all := lw_g (lw_at lw_m6 70 rfl) rfl
theorem q1415 : (Jvm.Cond.fieldLink "WolfsHeadModel" (154 : Nat) "WolfsHeadModel" "sort0" "I") ∈ lw_all := lw_g (lw_at lw_m6 71 rfl) rfl
theorem q1416 : (Jvm.Cond.fieldLink "WolfsHeadModel" (29 : Nat) "WolfsHeadModel" "pile" "[I") ∈ lw_all := lw_g (lw_at lw_m6 72 rfl) rfl
theorem q1417 : (Jvm.Cond.fieldLink "WolfsHeadModel" (157 : Nat) "WolfsHeadModel" "piled" "I") ∈ lw_all := lw_g (lw_at lw_m6 73 rfl) rfl
theorem q1418 : (Jvm.Cond.fieldLink "WolfsHeadModel" (167 : Nat) "WolfsHeadModel" "opens" "I") ∈ lw_all := lw_g (lw_at lw_m6 74 rfl) rfl
theorem q1419 : (Jvm.Cond.fieldLink "WolfsHeadModel" (186 : Nat) "WolfsHeadModel" "isWhole" "Z") ∈ lw_all := lw_g (lw_at lw_m6 75 rfl) rfl
theorem q1420 : (Jvm.Cond.fieldLink "WolfsHeadModel" (248 : Nat) "WolfsHeadModel" "once" "I") ∈ lw_all := lw_g (lw_at lw_m6 76 rfl) rfl
theorem q1421 : (Jvm.Cond.fieldLink "WolfsHeadModel" (32 : Nat) "WolfsHeadModel" "named" "[I") ∈ lw_all := lw_g (lw_at lw_m6 77 rfl) rfl
theorem q1422 : (Jvm.Cond.fieldLink "WolfsHeadModel" (35 : Nat) "WolfsHeadModel" "values" "[J") ∈ lw_all := lw_g (lw_at lw_m6 78 rfl) rfl
theorem q1423 : (Jvm.Cond.fieldLink "WolfsHeadModel" (39 : Nat) "WolfsHeadModel" "truth" "[Z") ∈ lw_all := lw_g (lw_at lw_m6 79 rfl) rfl
theorem q1424 : (Jvm.Cond.fieldLink "WolfsHeadModel" (43 : Nat) "WolfsHeadModel" "isWritten" "Z") ∈ lw_all := lw_g (lw_at lw_m6 80 rfl) rfl
theorem q1425 : (Jvm.Cond.fieldLink "WolfsHeadModel" (322 : Nat) "WolfsHeadModel" "died" "I") ∈ lw_all := lw_g (lw_at lw_m6 81 rfl) rfl
theorem q1426 : (Jvm.Cond.fieldLink "WolfsHeadModel" (47 : Nat) "WolfsHeadModel" "aside" "[I") ∈ lw_all := lw_g (lw_at lw_m6 82 rfl) rfl
theorem q1427 : (Jvm.Cond.fieldLink "WolfsHeadModel" (50 : Nat) "WolfsHeadModel" "likely" "[I") ∈ lw_all := lw_g (lw_at lw_m6 83 rfl) rfl
theorem q1428 : (Jvm.Cond.fieldLink "WolfsHeadModel" (53 : Nat) "WolfsHeadModel" "safe" "[I") ∈ lw_all := lw_g (lw_at lw_m6 84 rfl) rfl
theorem q1429 : (Jvm.Cond.fieldLink "WolfsHeadModel" (56 : Nat) "WolfsHeadModel" "headOf" "[I") ∈ lw_all := lw_g (lw_at lw_m6 85 rfl) rfl
theorem q1430 : (Jvm.Cond.laysFinal "WolfsHeadModel" "WolfsHeadModel" "a" "[I") ∈ lw_all := lw_g (lw_at lw_m6 86 rfl) rfl
theorem q1431 : (Jvm.Cond.soleField "WolfsHeadModel" "a") ∈ lw_all := lw_g (lw_at lw_m6 87 rfl) rfl
theorem q1432 : (Jvm.Cond.laysFinal "WolfsHeadModel" "WolfsHeadModel" "image" "[I") ∈ lw_all := lw_g (lw_at lw_m6 88 rfl) rfl
theorem q1433 : (Jvm.Cond.soleField "WolfsHeadModel" "image") ∈ lw_all := lw_g (lw_at lw_m6 89 rfl) rfl
theorem q1434 : (Jvm.Cond.laysFinal "WolfsHeadModel" "WolfsHeadModel" "texts" "[I") ∈ lw_all := lw_g (lw_at lw_m6 90 rfl) rfl
theorem q1435 : (Jvm.Cond.soleField "WolfsHeadModel" "texts") ∈ lw_all := lw_g (lw_at lw_m6 91 rfl) rfl
theorem q1436 : (Jvm.Cond.laysFinal "WolfsHeadModel" "WolfsHeadModel" "tape" "[I") ∈ lw_all := lw_g (lw_at lw_m6 92 rfl) rfl
theorem q1437 : (Jvm.Cond.soleField "WolfsHeadModel" "tape") ∈ lw_all := lw_g (lw_at lw_m6 93 rfl) rfl
theorem q1438 : (Jvm.Cond.lays "WolfsHeadModel" "WolfsHeadModel" "taped" "I") ∈ lw_all := lw_g (lw_at lw_m6 94 rfl) rfl
theorem q1439 : (Jvm.Cond.soleField "WolfsHeadModel" "taped") ∈ lw_all := lw_g (lw_at lw_m6 95 rfl) rfl
theorem q1440 : (Jvm.Cond.lays "WolfsHeadModel" "WolfsHeadModel" "fault" "I") ∈ lw_all := lw_g (lw_at lw_m6 96 rfl) rfl
theorem q1441 : (Jvm.Cond.soleField "WolfsHeadModel" "fault") ∈ lw_all := lw_g (lw_at lw_m6 97 rfl) rfl
theorem q1442 : (Jvm.Cond.lays "WolfsHeadModel" "WolfsHeadModel" "faultPlace" "I") ∈ lw_all := lw_g (lw_at lw_m6 98 rfl) rfl
theorem q1443 : (Jvm.Cond.soleField "WolfsHeadModel" "faultPlace") ∈ lw_all := lw_g (lw_at lw_m6 99 rfl) rfl
theorem q1444 : (Jvm.Cond.lays "WolfsHeadModel" "WolfsHeadModel" "at" "I") ∈ lw_all := lw_g (lw_at lw_m6 100 rfl) rfl
theorem q1445 : (Jvm.Cond.soleField "WolfsHeadModel" "at") ∈ lw_all := lw_g (lw_at lw_m6 101 rfl) rfl
theorem q1446 : (Jvm.Cond.lays "WolfsHeadModel" "WolfsHeadModel" "place" "I") ∈ lw_all := lw_g (lw_at lw_m6 102 rfl) rfl
theorem q1447 : (Jvm.Cond.soleField "WolfsHeadModel" "place") ∈ lw_all := lw_g (lw_at lw_m6 103 rfl) rfl
theorem q1448 : (Jvm.Cond.lays "WolfsHeadModel" "WolfsHeadModel" "token" "I") ∈ lw_all := lw_g (lw_at lw_m6 104 rfl) rfl
theorem q1449 : (Jvm.Cond.soleField "WolfsHeadModel" "token") ∈ lw_all := lw_g (lw_at lw_m6 105 rfl) rfl
theorem q1450 : (Jvm.Cond.lays "WolfsHeadModel" "WolfsHeadModel" "number" "I") ∈ lw_all := lw_g (lw_at lw_m6 106 rfl) rfl
theorem q1451 : (Jvm.Cond.soleField "WolfsHeadModel" "number") ∈ lw_all := lw_g (lw_at lw_m6 107 rfl) rfl
theorem q1452 : (Jvm.Cond.lays "WolfsHeadModel" "WolfsHeadModel" "word" "J") ∈ lw_all := lw_g (lw_at lw_m6 108 rfl) rfl
theorem q1453 : (Jvm.Cond.soleField "WolfsHeadModel" "word") ∈ lw_all := lw_g (lw_at lw_m6 109 rfl) rfl
theorem q1454 : (Jvm.Cond.lays "WolfsHeadModel" "WolfsHeadModel" "text0" "I") ∈ lw_all := lw_g (lw_at lw_m6 110 rfl) rfl
theorem q1455 : (Jvm.Cond.soleField "WolfsHeadModel" "text0") ∈ lw_all := lw_g (lw_at lw_m6 111 rfl) rfl
theorem q1456 : (Jvm.Cond.lays "WolfsHeadModel" "WolfsHeadModel" "written" "I") ∈ lw_all := lw_g (lw_at lw_m6 112 rfl) rfl
theorem q1457 : (Jvm.Cond.soleField "WolfsHeadModel" "written") ∈ lw_all := lw_g (lw_at lw_m6 113 rfl) rfl
theorem q1458 : (Jvm.Cond.lays "WolfsHeadModel" "WolfsHeadModel" "sort0" "I") ∈ lw_all := lw_g (lw_at lw_m6 114 rfl) rfl
theorem q1459 : (Jvm.Cond.soleField "WolfsHeadModel" "sort0") ∈ lw_all := lw_g (lw_at lw_m6 115 rfl) rfl
theorem q1460 : (Jvm.Cond.laysFinal "WolfsHeadModel" "WolfsHeadModel" "pile" "[I") ∈ lw_all := lw_g (lw_at lw_m6 116 rfl) rfl
theorem q1461 : (Jvm.Cond.soleField "WolfsHeadModel" "pile") ∈ lw_all := lw_g (lw_at lw_m6 117 rfl) rfl
theorem q1462 : (Jvm.Cond.lays "WolfsHeadModel" "WolfsHeadModel" "piled" "I") ∈ lw_all := lw_g (lw_at lw_m6 118 rfl) rfl
theorem q1463 : (Jvm.Cond.soleField "WolfsHeadModel" "piled") ∈ lw_all := lw_g (lw_at lw_m6 119 rfl) rfl
theorem q1464 : (Jvm.Cond.lays "WolfsHeadModel" "WolfsHeadModel" "opens" "I") ∈ lw_all := lw_g (lw_at lw_m6 120 rfl) rfl
theorem q1465 : (Jvm.Cond.soleField "WolfsHeadModel" "opens") ∈ lw_all := lw_g (lw_at lw_m6 121 rfl) rfl
theorem q1466 : (Jvm.Cond.lays "WolfsHeadModel" "WolfsHeadModel" "isWhole" "Z") ∈ lw_all := lw_g (lw_at lw_m6 122 rfl) rfl
theorem q1467 : (Jvm.Cond.soleField "WolfsHeadModel" "isWhole") ∈ lw_all := lw_g (lw_at lw_m6 123 rfl) rfl
theorem q1468 : (Jvm.Cond.lays "WolfsHeadModel" "WolfsHeadModel" "once" "I") ∈ lw_all := lw_g (lw_at lw_m6 124 rfl) rfl
theorem q1469 : (Jvm.Cond.soleField "WolfsHeadModel" "once") ∈ lw_all := lw_g (lw_at lw_m6 125 rfl) rfl
theorem q1470 : (Jvm.Cond.laysFinal "WolfsHeadModel" "WolfsHeadModel" "named" "[I") ∈ lw_all := lw_g (lw_at lw_m6 126 rfl) rfl
theorem q1471 : (Jvm.Cond.soleField "WolfsHeadModel" "named") ∈ lw_all := lw_g (lw_at lw_m6 127 rfl) rfl
theorem q1472 : (Jvm.Cond.laysFinal "WolfsHeadModel" "WolfsHeadModel" "values" "[J") ∈ lw_all := lw_g (lw_at lw_m6 128 rfl) rfl
theorem q1473 : (Jvm.Cond.soleField "WolfsHeadModel" "values") ∈ lw_all := lw_g (lw_at lw_m6 129 rfl) rfl
theorem q1474 : (Jvm.Cond.laysFinal "WolfsHeadModel" "WolfsHeadModel" "truth" "[Z") ∈ lw_all := lw_g (lw_at lw_m6 130 rfl) rfl
theorem q1475 : (Jvm.Cond.soleField "WolfsHeadModel" "truth") ∈ lw_all := lw_g (lw_at lw_m6 131 rfl) rfl
theorem q1476 : (Jvm.Cond.lays "WolfsHeadModel" "WolfsHeadModel" "isWritten" "Z") ∈ lw_all := lw_g (lw_at lw_m6 132 rfl) rfl
theorem q1477 : (Jvm.Cond.soleField "WolfsHeadModel" "isWritten") ∈ lw_all := lw_g (lw_at lw_m6 133 rfl) rfl
theorem q1478 : (Jvm.Cond.lays "WolfsHeadModel" "WolfsHeadModel" "died" "I") ∈ lw_all := lw_g (lw_at lw_m6 134 rfl) rfl
theorem q1479 : (Jvm.Cond.soleField "WolfsHeadModel" "died") ∈ lw_all := lw_g (lw_at lw_m6 135 rfl) rfl
theorem q1480 : (Jvm.Cond.laysFinal "WolfsHeadModel" "WolfsHeadModel" "aside" "[I") ∈ lw_all := lw_g (lw_at lw_m6 136 rfl) rfl
theorem q1481 : (Jvm.Cond.soleField "WolfsHeadModel" "aside") ∈ lw_all := lw_g (lw_at lw_m6 137 rfl) rfl
theorem q1482 : (Jvm.Cond.laysFinal "WolfsHeadModel" "WolfsHeadModel" "likely" "[I") ∈ lw_all := lw_g (lw_at lw_m6 138 rfl) rfl
theorem q1483 : (Jvm.Cond.soleField "WolfsHeadModel" "likely") ∈ lw_all := lw_g (lw_at lw_m6 139 rfl) rfl
theorem q1484 : (Jvm.Cond.laysFinal "WolfsHeadModel" "WolfsHeadModel" "safe" "[I") ∈ lw_all := lw_g (lw_at lw_m6 140 rfl) rfl
theorem q1485 : (Jvm.Cond.soleField "WolfsHeadModel" "safe") ∈ lw_all := lw_g (lw_at lw_m6 141 rfl) rfl
theorem q1486 : (Jvm.Cond.laysFinal "WolfsHeadModel" "WolfsHeadModel" "headOf" "[I") ∈ lw_all := lw_g (lw_at lw_m6 142 rfl) rfl
theorem q1487 : (Jvm.Cond.soleField "WolfsHeadModel" "headOf") ∈ lw_all := lw_g (lw_at lw_m6 143 rfl) rfl
theorem q1488 : (Jvm.Cond.superclass "WolfsHeadModel" "java/lang/Object") ∈ lw_all := lw_g (lw_at lw_m6 144 rfl) rfl
theorem q1492 : (Jvm.Cond.instanceMethod ({ cls := "WolfsHeadModel", name := "land", desc := "(I)I" } : Jvm.MethodName)) ∈ lw_all := lw_g (lw_at lw_m6 148 rfl) rfl
theorem q1493 : (Jvm.Cond.selects "WolfsHeadModel" ({ cls := "WolfsHeadModel", name := "land", desc := "(I)I" } : Jvm.MethodName) ({ cls := "WolfsHeadModel", name := "land", desc := "(I)I" } : Jvm.MethodName)) ∈ lw_all := lw_g (lw_at lw_m6 149 rfl) rfl
theorem q1494 : (Jvm.Cond.code ({ cls := "WolfsHeadModel", name := "land", desc := "(I)I" } : Jvm.MethodName) prog_20_method_13_code (2 : Nat) (Option.some Jvm.ClassFile.FieldType.int)) ∈ lw_all := lw_g (lw_at lw_m6 150 rfl) rfl
theorem q1495 : (Jvm.Cond.methodLink "WolfsHeadModel" (63 : Nat) ({ cls := "WolfsHeadModel", name := "isIn", desc := "(III)Z" } : Jvm.MethodName)) ∈ lw_all := lw_g (lw_at lw_m6 151 rfl) rfl
theorem q1496 : (Jvm.Cond.static ({ cls := "WolfsHeadModel", name := "isIn", desc := "(III)Z" } : Jvm.MethodName)) ∈ lw_all := lw_g (lw_at lw_m6 152 rfl) rfl
theorem q1497 : (Jvm.Cond.code ({ cls := "WolfsHeadModel", name := "isIn", desc := "(III)Z" } : Jvm.MethodName) prog_20_method_3_code (3 : Nat) (Option.some Jvm.ClassFile.FieldType.boolean)) ∈ lw_all := lw_g (lw_at lw_m6 153 rfl) rfl
theorem q1499 : (Jvm.Cond.instanceMethod ({ cls := "WolfsHeadModel", name := "road", desc := "(II)Z" } : Jvm.MethodName)) ∈ lw_all := lw_g (lw_at lw_m6 155 rfl) rfl
theorem q1500 : (Jvm.Cond.selects "WolfsHeadModel" ({ cls := "WolfsHeadModel", name := "road", desc := "(II)Z" } : Jvm.MethodName) ({ cls := "WolfsHeadModel", name := "road", desc := "(II)Z" } : Jvm.MethodName)) ∈ lw_all := lw_g (lw_at lw_m6 156 rfl) rfl
theorem q1501 : (Jvm.Cond.code ({ cls := "WolfsHeadModel", name := "road", desc := "(II)Z" } : Jvm.MethodName) prog_20_method_14_code (3 : Nat) (Option.some Jvm.ClassFile.FieldType.boolean)) ∈ lw_all := lw_g (lw_at lw_m6 157 rfl) rfl
theorem q1502 : (Jvm.Cond.methodLink "WolfsHeadModel" (75 : Nat) ({ cls := "WolfsHeadModel", name := "isLand", desc := "(I)Z" } : Jvm.MethodName)) ∈ lw_all := lw_g (lw_at lw_m6 158 rfl) rfl
theorem q1503 : (Jvm.Cond.privateMethod ({ cls := "WolfsHeadModel", name := "isLand", desc := "(I)Z" } : Jvm.MethodName)) ∈ lw_tbl := lw_at lw_m6 159 rfl
theorem q1504 : (Jvm.Cond.instanceMethod ({ cls := "WolfsHeadModel", name := "isLand", desc := "(I)Z" } : Jvm.MethodName)) ∈ lw_all := lw_g (lw_at lw_m6 160 rfl) rfl
theorem q1505 : (Jvm.Cond.code ({ cls := "WolfsHeadModel", name := "isLand", desc := "(I)Z" } : Jvm.MethodName) prog_20_method_7_code (2 : Nat) (Option.some Jvm.ClassFile.FieldType.boolean)) ∈ lw_all := lw_g (lw_at lw_m6 161 rfl) rfl
theorem q1506 : (Jvm.Cond.methodLink "WolfsHeadModel" (78 : Nat) ({ cls := "WolfsHeadModel", name := "isWith", desc := "(II)Z" } : Jvm.MethodName)) ∈ lw_all := lw_g (lw_at lw_m6 162 rfl) rfl
theorem q1507 : (Jvm.Cond.static ({ cls := "WolfsHeadModel", name := "isWith", desc := "(II)Z" } : Jvm.MethodName)) ∈ lw_all := lw_g (lw_at lw_m6 163 rfl) rfl
theorem q1508 : (Jvm.Cond.code ({ cls := "WolfsHeadModel", name := "isWith", desc := "(II)Z" } : Jvm.MethodName) prog_20_method_5_code (2 : Nat) (Option.some Jvm.ClassFile.FieldType.boolean)) ∈ lw_all := lw_g (lw_at lw_m6 164 rfl) rfl
theorem q1510 : (Jvm.Cond.instanceMethod ({ cls := "WolfsHeadModel", name := "person", desc := "(IIII)I" } : Jvm.MethodName)) ∈ lw_all := lw_g (lw_at lw_m6 166 rfl) rfl
theorem q1511 : (Jvm.Cond.selects "WolfsHeadModel" ({ cls := "WolfsHeadModel", name := "person", desc := "(IIII)I" } : Jvm.MethodName) ({ cls := "WolfsHeadModel", name := "person", desc := "(IIII)I" } : Jvm.MethodName)) ∈ lw_all := lw_g (lw_at lw_m6 167 rfl) rfl
theorem q1512 : (Jvm.Cond.code ({ cls := "WolfsHeadModel", name := "person", desc := "(IIII)I" } : Jvm.MethodName) prog_20_method_15_code (6 : Nat) (Option.some Jvm.ClassFile.FieldType.int)) ∈ lw_all := lw_g (lw_at lw_m6 168 rfl) rfl
theorem q1513 : (Jvm.Cond.methodLink "WolfsHeadModel" (82 : Nat) ({ cls := "WolfsHeadModel", name := "put", desc := "(III)V" } : Jvm.MethodName)) ∈ lw_all := lw_g (lw_at lw_m6 169 rfl) rfl
theorem q1514 : (Jvm.Cond.privateMethod ({ cls := "WolfsHeadModel", name := "put", desc := "(III)V" } : Jvm.MethodName)) ∈ lw_tbl := lw_at lw_m6 170 rfl
theorem q1515 : (Jvm.Cond.instanceMethod ({ cls := "WolfsHeadModel", name := "put", desc := "(III)V" } : Jvm.MethodName)) ∈ lw_all := lw_g (lw_at lw_m6 171 rfl) rfl
theorem q1516 : (Jvm.Cond.code ({ cls := "WolfsHeadModel", name := "put", desc := "(III)V" } : Jvm.MethodName) prog_20_method_10_code (4 : Nat) (Option.none : Option Jvm.ClassFile.FieldType)) ∈ lw_all := lw_g (lw_at lw_m6 172 rfl) rfl
theorem q1517 : (Jvm.Cond.methodLink "WolfsHeadModel" (86 : Nat) ({ cls := "WolfsHeadModel", name := "begin", desc := "(I)V" } : Jvm.MethodName)) ∈ lw_all := lw_g (lw_at lw_m6 173 rfl) rfl
theorem q1518 : (Jvm.Cond.privateMethod ({ cls := "WolfsHeadModel", name := "begin", desc := "(I)V" } : Jvm.MethodName)) ∈ lw_tbl := lw_at lw_m6 174 rfl
theorem q1519 : (Jvm.Cond.instanceMethod ({ cls := "WolfsHeadModel", name := "begin", desc := "(I)V" } : Jvm.MethodName)) ∈ lw_all := lw_g (lw_at lw_m6 175 rfl) rfl
theorem q1520 : (Jvm.Cond.code ({ cls := "WolfsHeadModel", name := "begin", desc := "(I)V" } : Jvm.MethodName) prog_20_method_16_code (3 : Nat) (Option.none : Option Jvm.ClassFile.FieldType)) ∈ lw_all := lw_g (lw_at lw_m6 176 rfl) rfl
theorem q1521 : (Jvm.Cond.methodLink "WolfsHeadModel" (71 : Nat) ({ cls := "WolfsHeadModel", name := "get", desc := "(II)I" } : Jvm.MethodName)) ∈ lw_all := lw_g (lw_at lw_m6 177 rfl) rfl
theorem q1522 : (Jvm.Cond.privateMethod ({ cls := "WolfsHeadModel", name := "get", desc := "(II)I" } : Jvm.MethodName)) ∈ lw_tbl := lw_at lw_m6 178 rfl
theorem q1523 : (Jvm.Cond.instanceMethod ({ cls := "WolfsHeadModel", name := "get", desc := "(II)I" } : Jvm.MethodName)) ∈ lw_all := lw_g (lw_at lw_m6 179 rfl) rfl
theorem q1524 : (Jvm.Cond.code ({ cls := "WolfsHeadModel", name := "get", desc := "(II)I" } : Jvm.MethodName) prog_20_method_9_code (3 : Nat) (Option.some Jvm.ClassFile.FieldType.int)) ∈ lw_all := lw_g (lw_at lw_m6 180 rfl) rfl
theorem q1526 : (Jvm.Cond.instanceMethod ({ cls := "WolfsHeadModel", name := "feed", desc := "(IIIII)I" } : Jvm.MethodName)) ∈ lw_all := lw_g (lw_at lw_m6 182 rfl) rfl
theorem q1527 : (Jvm.Cond.selects "WolfsHeadModel" ({ cls := "WolfsHeadModel", name := "feed", desc := "(IIIII)I" } : Jvm.MethodName) ({ cls := "WolfsHeadModel", name := "feed", desc := "(IIIII)I" } : Jvm.MethodName)) ∈ lw_all := lw_g (lw_at lw_m6 183 rfl) rfl
theorem q1528 : (Jvm.Cond.code ({ cls := "WolfsHeadModel", name := "feed", desc := "(IIIII)I" } : Jvm.MethodName) prog_20_method_18_code (6 : Nat) (Option.some Jvm.ClassFile.FieldType.int)) ∈ lw_all := lw_g (lw_at lw_m6 184 rfl) rfl
theorem q1529 : (Jvm.Cond.methodLink "WolfsHeadModel" (93 : Nat) ({ cls := "WolfsHeadModel", name := "four", desc := "(I)V" } : Jvm.MethodName)) ∈ lw_all := lw_g (lw_at lw_m6 185 rfl) rfl
theorem q1530 : (Jvm.Cond.privateMethod ({ cls := "WolfsHeadModel", name := "four", desc := "(I)V" } : Jvm.MethodName)) ∈ lw_tbl := lw_at lw_m6 186 rfl
theorem q1531 : (Jvm.Cond.instanceMethod ({ cls := "WolfsHeadModel", name := "four", desc := "(I)V" } : Jvm.MethodName)) ∈ lw_all := lw_g (lw_at lw_m6 187 rfl) rfl
theorem q1532 : (Jvm.Cond.code ({ cls := "WolfsHeadModel", name := "four", desc := "(I)V" } : Jvm.MethodName) prog_20_method_17_code (3 : Nat) (Option.none : Option Jvm.ClassFile.FieldType)) ∈ lw_all := lw_g (lw_at lw_m6 188 rfl) rfl
theorem q1534 : (Jvm.Cond.instanceMethod ({ cls := "WolfsHeadModel", name := "end", desc := "(I)I" } : Jvm.MethodName)) ∈ lw_all := lw_g (lw_at lw_m6 190 rfl) rfl
theorem q1535 : (Jvm.Cond.selects "WolfsHeadModel" ({ cls := "WolfsHeadModel", name := "end", desc := "(I)I" } : Jvm.MethodName) ({ cls := "WolfsHeadModel", name := "end", desc := "(I)I" } : Jvm.MethodName)) ∈ lw_all := lw_g (lw_at lw_m6 191 rfl) rfl
theorem q1536 : (Jvm.Cond.code ({ cls := "WolfsHeadModel", name := "end", desc := "(I)I" } : Jvm.MethodName) prog_20_method_19_code (2 : Nat) (Option.some Jvm.ClassFile.FieldType.int)) ∈ lw_all := lw_g (lw_at lw_m6 192 rfl) rfl
theorem q1538 : (Jvm.Cond.instanceMethod ({ cls := "WolfsHeadModel", name := "text", desc := "()I" } : Jvm.MethodName)) ∈ lw_all := lw_g (lw_at lw_m6 194 rfl) rfl
theorem q1539 : (Jvm.Cond.selects "WolfsHeadModel" ({ cls := "WolfsHeadModel", name := "text", desc := "()I" } : Jvm.MethodName) ({ cls := "WolfsHeadModel", name := "text", desc := "()I" } : Jvm.MethodName)) ∈ lw_all := lw_g (lw_at lw_m6 195 rfl) rfl
theorem q1540 : (Jvm.Cond.code ({ cls := "WolfsHeadModel", name := "text", desc := "()I" } : Jvm.MethodName) prog_20_method_57_code (1 : Nat) (Option.some Jvm.ClassFile.FieldType.int)) ∈ lw_all := lw_g (lw_at lw_m6 196 rfl) rfl
theorem q1541 : (Jvm.Cond.methodLink "WolfsHeadModel" (257 : Nat) ({ cls := "WolfsHeadModel", name := "readText", desc := "()I" } : Jvm.MethodName)) ∈ lw_all := lw_g (lw_at lw_m6 197 rfl) rfl
theorem q1542 : (Jvm.Cond.privateMethod ({ cls := "WolfsHeadModel", name := "readText", desc := "()I" } : Jvm.MethodName)) ∈ lw_tbl := lw_at lw_m6 198 rfl
theorem q1543 : (Jvm.Cond.instanceMethod ({ cls := "WolfsHeadModel", name := "readText", desc := "()I" } : Jvm.MethodName)) ∈ lw_all := lw_g (lw_at lw_m6 199 rfl) rfl
theorem q1544 : (Jvm.Cond.code ({ cls := "WolfsHeadModel", name := "readText", desc := "()I" } : Jvm.MethodName) prog_20_method_56_code (2 : Nat) (Option.some Jvm.ClassFile.FieldType.int)) ∈ lw_all := lw_g (lw_at lw_m6 200 rfl) rfl
theorem q1545 : (Jvm.Cond.methodLink "WolfsHeadModel" (177 : Nat) ({ cls := "WolfsHeadModel", name := "nextToken", desc := "()V" } : Jvm.MethodName)) ∈ lw_all := lw_g (lw_at lw_m6 201 rfl) rfl
theorem q1546 : (Jvm.Cond.privateMethod ({ cls := "WolfsHeadModel", name := "nextToken", desc := "()V" } : Jvm.MethodName)) ∈ lw_tbl := lw_at lw_m6 202 rfl
theorem q1547 : (Jvm.Cond.instanceMethod ({ cls := "WolfsHeadModel", name := "nextToken", desc := "()V" } : Jvm.MethodName)) ∈ lw_all := lw_g (lw_at lw_m6 203 rfl) rfl
theorem q1548 : (Jvm.Cond.code ({ cls := "WolfsHeadModel", name := "nextToken", desc := "()V" } : Jvm.MethodName) prog_20_method_24_code (2 : Nat) (Option.none : Option Jvm.ClassFile.FieldType)) ∈ lw_all := lw_g (lw_at lw_m6 204 rfl) rfl
theorem q1549 : (Jvm.Cond.methodLink "WolfsHeadModel" (99 : Nat) ({ cls := "WolfsHeadModel", name := "byteAt", desc := "(I)I" } : Jvm.MethodName)) ∈ lw_all := lw_g (lw_at lw_m6 205 rfl) rfl
theorem q1550 : (Jvm.Cond.privateMethod ({ cls := "WolfsHeadModel", name := "byteAt", desc := "(I)I" } : Jvm.MethodName)) ∈ lw_tbl := lw_at lw_m6 206 rfl
theorem q1551 : (Jvm.Cond.instanceMethod ({ cls := "WolfsHeadModel", name := "byteAt", desc := "(I)I" } : Jvm.MethodName)) ∈ lw_all := lw_g (lw_at lw_m6 207 rfl) rfl
theorem q1552 : (Jvm.Cond.code ({ cls := "WolfsHeadModel", name := "byteAt", desc := "(I)I" } : Jvm.MethodName) prog_20_method_20_code (2 : Nat) (Option.some Jvm.ClassFile.FieldType.int)) ∈ lw_all := lw_g (lw_at lw_m6 208 rfl) rfl
theorem q1553 : (Jvm.Cond.methodLink "WolfsHeadModel" (109 : Nat) ({ cls := "WolfsHeadModel", name := "isFigure", desc := "(I)Z" } : Jvm.MethodName)) ∈ lw_all := lw_g (lw_at lw_m6 209 rfl) rfl
theorem q1554 : (Jvm.Cond.static ({ cls := "WolfsHeadModel", name := "isFigure", desc := "(I)Z" } : Jvm.MethodName)) ∈ lw_all := lw_g (lw_at lw_m6 210 rfl) rfl
theorem q1555 : (Jvm.Cond.code ({ cls := "WolfsHeadModel", name := "isFigure", desc := "(I)Z" } : Jvm.MethodName) prog_20_method_22_code (1 : Nat) (Option.some Jvm.ClassFile.FieldType.boolean)) ∈ lw_all := lw_g (lw_at lw_m6 211 rfl) rfl
theorem q1556 : (Jvm.Cond.constant "WolfsHeadModel" (115 : Nat) (99999 : Int32)) ∈ lw_all := lw_g (lw_at lw_m6 212 rfl) rfl
theorem q1557 : (Jvm.Cond.methodLink "WolfsHeadModel" (116 : Nat) ({ cls := "WolfsHeadModel", name := "isLetterByte", desc := "(I)Z" } : Jvm.MethodName)) ∈ lw_all := lw_g (lw_at lw_m6 213 rfl) rfl
theorem q1558 : (Jvm.Cond.static ({ cls := "WolfsHeadModel", name := "isLetterByte", desc := "(I)Z" } : Jvm.MethodName)) ∈ lw_all := lw_g (lw_at lw_m6 214 rfl) rfl
theorem q1559 : (Jvm.Cond.code ({ cls := "WolfsHeadModel", name := "isLetterByte", desc := "(I)Z" } : Jvm.MethodName) prog_20_method_21_code (1 : Nat) (Option.some Jvm.ClassFile.FieldType.boolean)) ∈ lw_all := lw_g (lw_at lw_m6 215 rfl) rfl
theorem q1560 : (Jvm.Cond.constantLong "WolfsHeadModel" (123 : Nat) (1152921504606846976 : Int64)) ∈ lw_all := lw_g (lw_at lw_m6 216 rfl) rfl
theorem q1561 : (Jvm.Cond.methodLink "WolfsHeadModel" (125 : Nat) ({ cls := "WolfsHeadModel", name := "isSign", desc := "(I)Z" } : Jvm.MethodName)) ∈ lw_all := lw_g (lw_at lw_m6 217 rfl) rfl
theorem q1562 : (Jvm.Cond.static ({ cls := "WolfsHeadModel", name := "isSign", desc := "(I)Z" } : Jvm.MethodName)) ∈ lw_all := lw_g (lw_at lw_m6 218 rfl) rfl
theorem q1563 : (Jvm.Cond.code ({ cls := "WolfsHeadModel", name := "isSign", desc := "(I)Z" } : Jvm.MethodName) prog_20_method_23_code (1 : Nat) (Option.some Jvm.ClassFile.FieldType.boolean)) ∈ lw_all := lw_g (lw_at lw_m6 219 rfl) rfl
theorem q1564 : (Jvm.Cond.methodLink "WolfsHeadModel" (254 : Nat) ({ cls := "WolfsHeadModel", name := "clause", desc := "()I" } : Jvm.MethodName)) ∈ lw_all := lw_g (lw_at lw_m6 220 rfl) rfl
theorem q1565 : (Jvm.Cond.privateMethod ({ cls := "WolfsHeadModel", name := "clause", desc := "()I" } : Jvm.MethodName)) ∈ lw_tbl := lw_at lw_m6 221 rfl
theorem q1566 : (Jvm.Cond.instanceMethod ({ cls := "WolfsHeadModel", name := "clause", desc := "()I" } : Jvm.MethodName)) ∈ lw_all := lw_g (lw_at lw_m6 222 rfl) rfl
theorem q1567 : (Jvm.Cond.code ({ cls := "WolfsHeadModel", name := "clause", desc := "()I" } : Jvm.MethodName) prog_20_method_55_code (5 : Nat) (Option.some Jvm.ClassFile.FieldType.int)) ∈ lw_all := lw_g (lw_at lw_m6 223 rfl) rfl
theorem q1568 : (Jvm.Cond.methodLink "WolfsHeadModel" (245 : Nat) ({ cls := "WolfsHeadModel", name := "sortOf", desc := "()I" } : Jvm.MethodName)) ∈ lw_all := lw_g (lw_at lw_m6 224 rfl) rfl
theorem q1569 : (Jvm.Cond.privateMethod ({ cls := "WolfsHeadModel", name := "sortOf", desc := "()I" } : Jvm.MethodName)) ∈ lw_tbl := lw_at lw_m6 225 rfl
theorem q1570 : (Jvm.Cond.instanceMethod ({ cls := "WolfsHeadModel", name := "sortOf", desc := "()I" } : Jvm.MethodName)) ∈ lw_all := lw_g (lw_at lw_m6 226 rfl) rfl
theorem q1571 : (Jvm.Cond.code ({ cls := "WolfsHeadModel", name := "sortOf", desc := "()I" } : Jvm.MethodName) prog_20_method_54_code (1 : Nat) (Option.some Jvm.ClassFile.FieldType.int)) ∈ lw_all := lw_g (lw_at lw_m6 227 rfl) rfl
theorem q1572 : (Jvm.Cond.methodLink "WolfsHeadModel" (242 : Nat) ({ cls := "WolfsHeadModel", name := "isHungers", desc := "()Z" } : Jvm.MethodName)) ∈ lw_all := lw_g (lw_at lw_m6 228 rfl) rfl
theorem q1573 : (Jvm.Cond.privateMethod ({ cls := "WolfsHeadModel", name := "isHungers", desc := "()Z" } : Jvm.MethodName)) ∈ lw_tbl := lw_at lw_m6 229 rfl
theorem q1574 : (Jvm.Cond.instanceMethod ({ cls := "WolfsHeadModel", name := "isHungers", desc := "()Z" } : Jvm.MethodName)) ∈ lw_all := lw_g (lw_at lw_m6 230 rfl) rfl
theorem q1575 : (Jvm.Cond.code ({ cls := "WolfsHeadModel", name := "isHungers", desc := "()Z" } : Jvm.MethodName) prog_20_method_53_code (1 : Nat) (Option.some Jvm.ClassFile.FieldType.boolean)) ∈ lw_all := lw_g (lw_at lw_m6 231 rfl) rfl
theorem q1576 : (Jvm.Cond.methodLink "WolfsHeadModel" (136 : Nat) ({ cls := "WolfsHeadModel", name := "w4", desc := "(IIII)J" } : Jvm.MethodName)) ∈ lw_all := lw_g (lw_at lw_m6 232 rfl) rfl
theorem q1577 : (Jvm.Cond.static ({ cls := "WolfsHeadModel", name := "w4", desc := "(IIII)J" } : Jvm.MethodName)) ∈ lw_all := lw_g (lw_at lw_m6 233 rfl) rfl
theorem q1578 : (Jvm.Cond.code ({ cls := "WolfsHeadModel", name := "w4", desc := "(IIII)J" } : Jvm.MethodName) prog_20_method_27_code (4 : Nat) (Option.some Jvm.ClassFile.FieldType.long)) ∈ lw_all := lw_g (lw_at lw_m6 234 rfl) rfl
theorem q1579 : (Jvm.Cond.methodLink "WolfsHeadModel" (132 : Nat) ({ cls := "WolfsHeadModel", name := "w3", desc := "(III)J" } : Jvm.MethodName)) ∈ lw_all := lw_g (lw_at lw_m6 235 rfl) rfl
theorem q1580 : (Jvm.Cond.static ({ cls := "WolfsHeadModel", name := "w3", desc := "(III)J" } : Jvm.MethodName)) ∈ lw_all := lw_g (lw_at lw_m6 236 rfl) rfl
theorem q1581 : (Jvm.Cond.code ({ cls := "WolfsHeadModel", name := "w3", desc := "(III)J" } : Jvm.MethodName) prog_20_method_26_code (3 : Nat) (Option.some Jvm.ClassFile.FieldType.long)) ∈ lw_all := lw_g (lw_at lw_m6 237 rfl) rfl
theorem q1582 : (Jvm.Cond.methodLink "WolfsHeadModel" (128 : Nat) ({ cls := "WolfsHeadModel", name := "w2", desc := "(II)J" } : Jvm.MethodName)) ∈ lw_all := lw_g (lw_at lw_m6 238 rfl) rfl
theorem q1583 : (Jvm.Cond.static ({ cls := "WolfsHeadModel", name := "w2", desc := "(II)J" } : Jvm.MethodName)) ∈ lw_all := lw_g (lw_at lw_m6 239 rfl) rfl
theorem q1584 : (Jvm.Cond.code ({ cls := "WolfsHeadModel", name := "w2", desc := "(II)J" } : Jvm.MethodName) prog_20_method_25_code (2 : Nat) (Option.some Jvm.ClassFile.FieldType.long)) ∈ lw_all := lw_g (lw_at lw_m7 0 rfl) rfl
theorem q1585 : (Jvm.Cond.methodLink "WolfsHeadModel" (140 : Nat) ({ cls := "WolfsHeadModel", name := "w5", desc := "(IIIII)J" } : Jvm.MethodName)) ∈ lw_all := lw_g (lw_at lw_m7 1 rfl) rfl
theorem q1586 : (Jvm.Cond.static ({ cls := "WolfsHeadModel", name := "w5", desc := "(IIIII)J" } : Jvm.MethodName)) ∈ lw_all := lw_g (lw_at lw_m7 2 rfl) rfl
theorem q1587 : (Jvm.Cond.code ({ cls := "WolfsHeadModel", name := "w5", desc := "(IIIII)J" } : Jvm.MethodName) prog_20_method_28_code (5 : Nat) (Option.some Jvm.ClassFile.FieldType.long)) ∈ lw_all := lw_g (lw_at lw_m7 3 rfl) rfl
theorem q1588 : (Jvm.Cond.methodLink "WolfsHeadModel" (195 : Nat) ({ cls := "WolfsHeadModel", name := "isWord", desc := "(J)Z" } : Jvm.MethodName)) ∈ lw_all := lw_g (lw_at lw_m7 4 rfl) rfl
theorem q1589 : (Jvm.Cond.privateMethod ({ cls := "WolfsHeadModel", name := "isWord", desc := "(J)Z" } : Jvm.MethodName)) ∈ lw_tbl := lw_at lw_m7 5 rfl
theorem q1590 : (Jvm.Cond.instanceMethod ({ cls := "WolfsHeadModel", name := "isWord", desc := "(J)Z" } : Jvm.MethodName)) ∈ lw_all := lw_g (lw_at lw_m7 6 rfl) rfl
theorem q1591 : (Jvm.Cond.code ({ cls := "WolfsHeadModel", name := "isWord", desc := "(J)Z" } : Jvm.MethodName) prog_20_method_30_code (3 : Nat) (Option.some Jvm.ClassFile.FieldType.boolean)) ∈ lw_all := lw_g (lw_at lw_m7 7 rfl) rfl
theorem q1592 : (Jvm.Cond.methodLink "WolfsHeadModel" (150 : Nat) ({ cls := "WolfsHeadModel", name := "w6", desc := "(IIIIII)J" } : Jvm.MethodName)) ∈ lw_all := lw_g (lw_at lw_m7 8 rfl) rfl
theorem q1593 : (Jvm.Cond.static ({ cls := "WolfsHeadModel", name := "w6", desc := "(IIIIII)J" } : Jvm.MethodName)) ∈ lw_all := lw_g (lw_at lw_m7 9 rfl) rfl
theorem q1594 : (Jvm.Cond.code ({ cls := "WolfsHeadModel", name := "w6", desc := "(IIIIII)J" } : Jvm.MethodName) prog_20_method_29_code (6 : Nat) (Option.some Jvm.ClassFile.FieldType.long)) ∈ lw_all := lw_g (lw_at lw_m7 10 rfl) rfl
theorem q1595 : (Jvm.Cond.methodLink "WolfsHeadModel" (251 : Nat) ({ cls := "WolfsHeadModel", name := "body", desc := "(II)I" } : Jvm.MethodName)) ∈ lw_all := lw_g (lw_at lw_m7 11 rfl) rfl
theorem q1596 : (Jvm.Cond.privateMethod ({ cls := "WolfsHeadModel", name := "body", desc := "(II)I" } : Jvm.MethodName)) ∈ lw_tbl := lw_at lw_m7 12 rfl
theorem q1597 : (Jvm.Cond.instanceMethod ({ cls := "WolfsHeadModel", name := "body", desc := "(II)I" } : Jvm.MethodName)) ∈ lw_all := lw_g (lw_at lw_m7 13 rfl) rfl
theorem q1598 : (Jvm.Cond.code ({ cls := "WolfsHeadModel", name := "body", desc := "(II)I" } : Jvm.MethodName) prog_20_method_52_code (3 : Nat) (Option.some Jvm.ClassFile.FieldType.int)) ∈ lw_all := lw_g (lw_at lw_m7 14 rfl) rfl
theorem q1599 : (Jvm.Cond.methodLink "WolfsHeadModel" (221 : Nat) ({ cls := "WolfsHeadModel", name := "figure", desc := "(III)I" } : Jvm.MethodName)) ∈ lw_all := lw_g (lw_at lw_m7 15 rfl) rfl
theorem q1600 : (Jvm.Cond.privateMethod ({ cls := "WolfsHeadModel", name := "figure", desc := "(III)I" } : Jvm.MethodName)) ∈ lw_tbl := lw_at lw_m7 16 rfl
theorem q1601 : (Jvm.Cond.instanceMethod ({ cls := "WolfsHeadModel", name := "figure", desc := "(III)I" } : Jvm.MethodName)) ∈ lw_all := lw_g (lw_at lw_m7 17 rfl) rfl
theorem q1602 : (Jvm.Cond.code ({ cls := "WolfsHeadModel", name := "figure", desc := "(III)I" } : Jvm.MethodName) prog_20_method_47_code (4 : Nat) (Option.some Jvm.ClassFile.FieldType.int)) ∈ lw_all := lw_g (lw_at lw_m7 18 rfl) rfl
theorem q1603 : (Jvm.Cond.methodLink "WolfsHeadModel" (232 : Nat) ({ cls := "WolfsHeadModel", name := "pair", desc := "(IIJI)I" } : Jvm.MethodName)) ∈ lw_all := lw_g (lw_at lw_m7 19 rfl) rfl
theorem q1604 : (Jvm.Cond.privateMethod ({ cls := "WolfsHeadModel", name := "pair", desc := "(IIJI)I" } : Jvm.MethodName)) ∈ lw_tbl := lw_at lw_m7 20 rfl
theorem q1605 : (Jvm.Cond.instanceMethod ({ cls := "WolfsHeadModel", name := "pair", desc := "(IIJI)I" } : Jvm.MethodName)) ∈ lw_all := lw_g (lw_at lw_m7 21 rfl) rfl
theorem q1606 : (Jvm.Cond.code ({ cls := "WolfsHeadModel", name := "pair", desc := "(IIJI)I" } : Jvm.MethodName) prog_20_method_51_code (7 : Nat) (Option.some Jvm.ClassFile.FieldType.int)) ∈ lw_all := lw_g (lw_at lw_m7 22 rfl) rfl
theorem q1607 : (Jvm.Cond.methodLink "WolfsHeadModel" (228 : Nat) ({ cls := "WolfsHeadModel", name := "worded", desc := "(JII)I" } : Jvm.MethodName)) ∈ lw_all := lw_g (lw_at lw_m7 23 rfl) rfl
theorem q1608 : (Jvm.Cond.privateMethod ({ cls := "WolfsHeadModel", name := "worded", desc := "(JII)I" } : Jvm.MethodName)) ∈ lw_tbl := lw_at lw_m7 24 rfl
theorem q1609 : (Jvm.Cond.instanceMethod ({ cls := "WolfsHeadModel", name := "worded", desc := "(JII)I" } : Jvm.MethodName)) ∈ lw_all := lw_g (lw_at lw_m7 25 rfl) rfl
theorem q1610 : (Jvm.Cond.code ({ cls := "WolfsHeadModel", name := "worded", desc := "(JII)I" } : Jvm.MethodName) prog_20_method_48_code (5 : Nat) (Option.some Jvm.ClassFile.FieldType.int)) ∈ lw_all := lw_g (lw_at lw_m7 26 rfl) rfl
theorem q1611 : (Jvm.Cond.methodLink "WolfsHeadModel" (236 : Nat) ({ cls := "WolfsHeadModel", name := "personClause", desc := "(I)I" } : Jvm.MethodName)) ∈ lw_all := lw_g (lw_at lw_m7 27 rfl) rfl
theorem q1612 : (Jvm.Cond.privateMethod ({ cls := "WolfsHeadModel", name := "personClause", desc := "(I)I" } : Jvm.MethodName)) ∈ lw_tbl := lw_at lw_m7 28 rfl
theorem q1613 : (Jvm.Cond.instanceMethod ({ cls := "WolfsHeadModel", name := "personClause", desc := "(I)I" } : Jvm.MethodName)) ∈ lw_all := lw_g (lw_at lw_m7 29 rfl) rfl
theorem q1614 : (Jvm.Cond.code ({ cls := "WolfsHeadModel", name := "personClause", desc := "(I)I" } : Jvm.MethodName) prog_20_method_50_code (3 : Nat) (Option.some Jvm.ClassFile.FieldType.int)) ∈ lw_all := lw_g (lw_at lw_m7 30 rfl) rfl
theorem q1615 : (Jvm.Cond.methodLink "WolfsHeadModel" (239 : Nat) ({ cls := "WolfsHeadModel", name := "lawClause", desc := "(I)I" } : Jvm.MethodName)) ∈ lw_all := lw_g (lw_at lw_m7 31 rfl) rfl
theorem q1616 : (Jvm.Cond.privateMethod ({ cls := "WolfsHeadModel", name := "lawClause", desc := "(I)I" } : Jvm.MethodName)) ∈ lw_tbl := lw_at lw_m7 32 rfl
theorem q1617 : (Jvm.Cond.instanceMethod ({ cls := "WolfsHeadModel", name := "lawClause", desc := "(I)I" } : Jvm.MethodName)) ∈ lw_all := lw_g (lw_at lw_m7 33 rfl) rfl
theorem q1618 : (Jvm.Cond.code ({ cls := "WolfsHeadModel", name := "lawClause", desc := "(I)I" } : Jvm.MethodName) prog_20_method_49_code (3 : Nat) (Option.some Jvm.ClassFile.FieldType.int)) ∈ lw_all := lw_g (lw_at lw_m7 34 rfl) rfl
theorem q1619 : (Jvm.Cond.methodLink "WolfsHeadModel" (225 : Nat) ({ cls := "WolfsHeadModel", name := "summed", desc := "()I" } : Jvm.MethodName)) ∈ lw_all := lw_g (lw_at lw_m7 35 rfl) rfl
theorem q1620 : (Jvm.Cond.privateMethod ({ cls := "WolfsHeadModel", name := "summed", desc := "()I" } : Jvm.MethodName)) ∈ lw_tbl := lw_at lw_m7 36 rfl
theorem q1621 : (Jvm.Cond.instanceMethod ({ cls := "WolfsHeadModel", name := "summed", desc := "()I" } : Jvm.MethodName)) ∈ lw_all := lw_g (lw_at lw_m7 37 rfl) rfl
theorem q1622 : (Jvm.Cond.code ({ cls := "WolfsHeadModel", name := "summed", desc := "()I" } : Jvm.MethodName) prog_20_method_46_code (2 : Nat) (Option.some Jvm.ClassFile.FieldType.int)) ∈ lw_all := lw_g (lw_at lw_m7 38 rfl) rfl
theorem q1623 : (Jvm.Cond.methodLink "WolfsHeadModel" (215 : Nat) ({ cls := "WolfsHeadModel", name := "behindOne", desc := "()Z" } : Jvm.MethodName)) ∈ lw_all := lw_g (lw_at lw_m7 39 rfl) rfl
theorem q1624 : (Jvm.Cond.privateMethod ({ cls := "WolfsHeadModel", name := "behindOne", desc := "()Z" } : Jvm.MethodName)) ∈ lw_tbl := lw_at lw_m7 40 rfl
theorem q1625 : (Jvm.Cond.instanceMethod ({ cls := "WolfsHeadModel", name := "behindOne", desc := "()Z" } : Jvm.MethodName)) ∈ lw_all := lw_g (lw_at lw_m7 41 rfl) rfl
theorem q1626 : (Jvm.Cond.code ({ cls := "WolfsHeadModel", name := "behindOne", desc := "()Z" } : Jvm.MethodName) prog_20_method_45_code (4 : Nat) (Option.some Jvm.ClassFile.FieldType.boolean)) ∈ lw_all := lw_g (lw_at lw_m7 42 rfl) rfl
theorem q1627 : (Jvm.Cond.methodLink "WolfsHeadModel" (209 : Nat) ({ cls := "WolfsHeadModel", name := "betweenOf", desc := "()I" } : Jvm.MethodName)) ∈ lw_all := lw_g (lw_at lw_m7 43 rfl) rfl
theorem q1628 : (Jvm.Cond.privateMethod ({ cls := "WolfsHeadModel", name := "betweenOf", desc := "()I" } : Jvm.MethodName)) ∈ lw_tbl := lw_at lw_m7 44 rfl
theorem q1629 : (Jvm.Cond.instanceMethod ({ cls := "WolfsHeadModel", name := "betweenOf", desc := "()I" } : Jvm.MethodName)) ∈ lw_all := lw_g (lw_at lw_m7 45 rfl) rfl
theorem q1630 : (Jvm.Cond.code ({ cls := "WolfsHeadModel", name := "betweenOf", desc := "()I" } : Jvm.MethodName) prog_20_method_43_code (1 : Nat) (Option.some Jvm.ClassFile.FieldType.int)) ∈ lw_all := lw_g (lw_at lw_m7 46 rfl) rfl
theorem q1631 : (Jvm.Cond.methodLink "WolfsHeadModel" (174 : Nat) ({ cls := "WolfsHeadModel", name := "openNow", desc := "()I" } : Jvm.MethodName)) ∈ lw_all := lw_g (lw_at lw_m7 47 rfl) rfl
theorem q1632 : (Jvm.Cond.privateMethod ({ cls := "WolfsHeadModel", name := "openNow", desc := "()I" } : Jvm.MethodName)) ∈ lw_tbl := lw_at lw_m7 48 rfl
theorem q1633 : (Jvm.Cond.instanceMethod ({ cls := "WolfsHeadModel", name := "openNow", desc := "()I" } : Jvm.MethodName)) ∈ lw_all := lw_g (lw_at lw_m7 49 rfl) rfl
theorem q1634 : (Jvm.Cond.code ({ cls := "WolfsHeadModel", name := "openNow", desc := "()I" } : Jvm.MethodName) prog_20_method_37_code (1 : Nat) (Option.some Jvm.ClassFile.FieldType.int)) ∈ lw_all := lw_g (lw_at lw_m7 50 rfl) rfl
theorem q1635 : (Jvm.Cond.methodLink "WolfsHeadModel" (170 : Nat) ({ cls := "WolfsHeadModel", name := "openAt", desc := "()I" } : Jvm.MethodName)) ∈ lw_all := lw_g (lw_at lw_m7 51 rfl) rfl
theorem q1636 : (Jvm.Cond.privateMethod ({ cls := "WolfsHeadModel", name := "openAt", desc := "()I" } : Jvm.MethodName)) ∈ lw_tbl := lw_at lw_m7 52 rfl
theorem q1637 : (Jvm.Cond.instanceMethod ({ cls := "WolfsHeadModel", name := "openAt", desc := "()I" } : Jvm.MethodName)) ∈ lw_all := lw_g (lw_at lw_m7 53 rfl) rfl
theorem q1638 : (Jvm.Cond.code ({ cls := "WolfsHeadModel", name := "openAt", desc := "()I" } : Jvm.MethodName) prog_20_method_36_code (2 : Nat) (Option.some Jvm.ClassFile.FieldType.int)) ∈ lw_all := lw_g (lw_at lw_m7 54 rfl) rfl
theorem q1639 : (Jvm.Cond.methodLink "WolfsHeadModel" (203 : Nat) ({ cls := "WolfsHeadModel", name := "isCompared", desc := "()Z" } : Jvm.MethodName)) ∈ lw_all := lw_g (lw_at lw_m7 55 rfl) rfl
theorem q1640 : (Jvm.Cond.privateMethod ({ cls := "WolfsHeadModel", name := "isCompared", desc := "()Z" } : Jvm.MethodName)) ∈ lw_tbl := lw_at lw_m7 56 rfl
theorem q1641 : (Jvm.Cond.instanceMethod ({ cls := "WolfsHeadModel", name := "isCompared", desc := "()Z" } : Jvm.MethodName)) ∈ lw_all := lw_g (lw_at lw_m7 57 rfl) rfl
theorem q1642 : (Jvm.Cond.code ({ cls := "WolfsHeadModel", name := "isCompared", desc := "()Z" } : Jvm.MethodName) prog_20_method_38_code (2 : Nat) (Option.some Jvm.ClassFile.FieldType.boolean)) ∈ lw_all := lw_g (lw_at lw_m7 58 rfl) rfl
theorem q1643 : (Jvm.Cond.methodLink "WolfsHeadModel" (160 : Nat) ({ cls := "WolfsHeadModel", name := "rank", desc := "(I)I" } : Jvm.MethodName)) ∈ lw_all := lw_g (lw_at lw_m7 59 rfl) rfl
theorem q1644 : (Jvm.Cond.static ({ cls := "WolfsHeadModel", name := "rank", desc := "(I)I" } : Jvm.MethodName)) ∈ lw_all := lw_g (lw_at lw_m7 60 rfl) rfl
theorem q1645 : (Jvm.Cond.code ({ cls := "WolfsHeadModel", name := "rank", desc := "(I)I" } : Jvm.MethodName) prog_20_method_34_code (1 : Nat) (Option.some Jvm.ClassFile.FieldType.int)) ∈ lw_all := lw_g (lw_at lw_m7 61 rfl) rfl
theorem q1646 : (Jvm.Cond.methodLink "WolfsHeadModel" (206 : Nat) ({ cls := "WolfsHeadModel", name := "compareOf", desc := "()I" } : Jvm.MethodName)) ∈ lw_all := lw_g (lw_at lw_m7 62 rfl) rfl
theorem q1647 : (Jvm.Cond.privateMethod ({ cls := "WolfsHeadModel", name := "compareOf", desc := "()I" } : Jvm.MethodName)) ∈ lw_tbl := lw_at lw_m7 63 rfl
theorem q1648 : (Jvm.Cond.instanceMethod ({ cls := "WolfsHeadModel", name := "compareOf", desc := "()I" } : Jvm.MethodName)) ∈ lw_all := lw_g (lw_at lw_m7 64 rfl) rfl
theorem q1649 : (Jvm.Cond.code ({ cls := "WolfsHeadModel", name := "compareOf", desc := "()I" } : Jvm.MethodName) prog_20_method_42_code (1 : Nat) (Option.some Jvm.ClassFile.FieldType.int)) ∈ lw_all := lw_g (lw_at lw_m7 65 rfl) rfl
theorem q1650 : (Jvm.Cond.methodLink "WolfsHeadModel" (189 : Nat) ({ cls := "WolfsHeadModel", name := "settle", desc := "(I)V" } : Jvm.MethodName)) ∈ lw_all := lw_g (lw_at lw_m7 66 rfl) rfl
theorem q1651 : (Jvm.Cond.privateMethod ({ cls := "WolfsHeadModel", name := "settle", desc := "(I)V" } : Jvm.MethodName)) ∈ lw_tbl := lw_at lw_m7 67 rfl
theorem q1652 : (Jvm.Cond.instanceMethod ({ cls := "WolfsHeadModel", name := "settle", desc := "(I)V" } : Jvm.MethodName)) ∈ lw_all := lw_g (lw_at lw_m7 68 rfl) rfl
theorem q1653 : (Jvm.Cond.code ({ cls := "WolfsHeadModel", name := "settle", desc := "(I)V" } : Jvm.MethodName) prog_20_method_35_code (2 : Nat) (Option.none : Option Jvm.ClassFile.FieldType)) ∈ lw_all := lw_g (lw_at lw_m7 69 rfl) rfl
theorem q1654 : (Jvm.Cond.methodLink "WolfsHeadModel" (163 : Nat) ({ cls := "WolfsHeadModel", name := "emit", desc := "(II)V" } : Jvm.MethodName)) ∈ lw_all := lw_g (lw_at lw_m7 70 rfl) rfl
theorem q1655 : (Jvm.Cond.privateMethod ({ cls := "WolfsHeadModel", name := "emit", desc := "(II)V" } : Jvm.MethodName)) ∈ lw_tbl := lw_at lw_m7 71 rfl
theorem q1656 : (Jvm.Cond.instanceMethod ({ cls := "WolfsHeadModel", name := "emit", desc := "(II)V" } : Jvm.MethodName)) ∈ lw_all := lw_g (lw_at lw_m7 72 rfl) rfl
theorem q1657 : (Jvm.Cond.code ({ cls := "WolfsHeadModel", name := "emit", desc := "(II)V" } : Jvm.MethodName) prog_20_method_31_code (3 : Nat) (Option.none : Option Jvm.ClassFile.FieldType)) ∈ lw_all := lw_g (lw_at lw_m7 73 rfl) rfl
theorem q1658 : (Jvm.Cond.methodLink "WolfsHeadModel" (212 : Nat) ({ cls := "WolfsHeadModel", name := "partOf", desc := "(I)I" } : Jvm.MethodName)) ∈ lw_all := lw_g (lw_at lw_m7 74 rfl) rfl
theorem q1659 : (Jvm.Cond.privateMethod ({ cls := "WolfsHeadModel", name := "partOf", desc := "(I)I" } : Jvm.MethodName)) ∈ lw_tbl := lw_at lw_m7 75 rfl
theorem q1660 : (Jvm.Cond.instanceMethod ({ cls := "WolfsHeadModel", name := "partOf", desc := "(I)I" } : Jvm.MethodName)) ∈ lw_all := lw_g (lw_at lw_m7 76 rfl) rfl
theorem q1661 : (Jvm.Cond.code ({ cls := "WolfsHeadModel", name := "partOf", desc := "(I)I" } : Jvm.MethodName) prog_20_method_44_code (2 : Nat) (Option.some Jvm.ClassFile.FieldType.int)) ∈ lw_all := lw_g (lw_at lw_m7 77 rfl) rfl
theorem q1662 : (Jvm.Cond.methodLink "WolfsHeadModel" (218 : Nat) ({ cls := "WolfsHeadModel", name := "beginOne", desc := "()I" } : Jvm.MethodName)) ∈ lw_all := lw_g (lw_at lw_m7 78 rfl) rfl
theorem q1663 : (Jvm.Cond.privateMethod ({ cls := "WolfsHeadModel", name := "beginOne", desc := "()I" } : Jvm.MethodName)) ∈ lw_tbl := lw_at lw_m7 79 rfl
theorem q1664 : (Jvm.Cond.instanceMethod ({ cls := "WolfsHeadModel", name := "beginOne", desc := "()I" } : Jvm.MethodName)) ∈ lw_all := lw_g (lw_at lw_m7 80 rfl) rfl
theorem q1665 : (Jvm.Cond.code ({ cls := "WolfsHeadModel", name := "beginOne", desc := "()I" } : Jvm.MethodName) prog_20_method_41_code (2 : Nat) (Option.some Jvm.ClassFile.FieldType.int)) ∈ lw_all := lw_g (lw_at lw_m7 81 rfl) rfl
theorem q1666 : (Jvm.Cond.methodLink "WolfsHeadModel" (180 : Nat) ({ cls := "WolfsHeadModel", name := "nameOf", desc := "()I" } : Jvm.MethodName)) ∈ lw_all := lw_g (lw_at lw_m7 82 rfl) rfl
theorem q1667 : (Jvm.Cond.privateMethod ({ cls := "WolfsHeadModel", name := "nameOf", desc := "()I" } : Jvm.MethodName)) ∈ lw_tbl := lw_at lw_m7 83 rfl
theorem q1668 : (Jvm.Cond.instanceMethod ({ cls := "WolfsHeadModel", name := "nameOf", desc := "()I" } : Jvm.MethodName)) ∈ lw_all := lw_g (lw_at lw_m7 84 rfl) rfl
theorem q1669 : (Jvm.Cond.code ({ cls := "WolfsHeadModel", name := "nameOf", desc := "()I" } : Jvm.MethodName) prog_20_method_32_code (1 : Nat) (Option.some Jvm.ClassFile.FieldType.int)) ∈ lw_all := lw_g (lw_at lw_m7 85 rfl) rfl
theorem q1670 : (Jvm.Cond.methodLink "WolfsHeadModel" (183 : Nat) ({ cls := "WolfsHeadModel", name := "isOf", desc := "(I)Z" } : Jvm.MethodName)) ∈ lw_all := lw_g (lw_at lw_m7 86 rfl) rfl
theorem q1671 : (Jvm.Cond.privateMethod ({ cls := "WolfsHeadModel", name := "isOf", desc := "(I)Z" } : Jvm.MethodName)) ∈ lw_tbl := lw_at lw_m7 87 rfl
theorem q1672 : (Jvm.Cond.instanceMethod ({ cls := "WolfsHeadModel", name := "isOf", desc := "(I)Z" } : Jvm.MethodName)) ∈ lw_all := lw_g (lw_at lw_m7 88 rfl) rfl
theorem q1673 : (Jvm.Cond.code ({ cls := "WolfsHeadModel", name := "isOf", desc := "(I)Z" } : Jvm.MethodName) prog_20_method_33_code (2 : Nat) (Option.some Jvm.ClassFile.FieldType.boolean)) ∈ lw_all := lw_g (lw_at lw_m7 89 rfl) rfl
theorem q1674 : (Jvm.Cond.methodLink "WolfsHeadModel" (192 : Nat) ({ cls := "WolfsHeadModel", name := "opened", desc := "(I)I" } : Jvm.MethodName)) ∈ lw_all := lw_g (lw_at lw_m7 90 rfl) rfl
theorem q1675 : (Jvm.Cond.privateMethod ({ cls := "WolfsHeadModel", name := "opened", desc := "(I)I" } : Jvm.MethodName)) ∈ lw_tbl := lw_at lw_m7 91 rfl
theorem q1676 : (Jvm.Cond.instanceMethod ({ cls := "WolfsHeadModel", name := "opened", desc := "(I)I" } : Jvm.MethodName)) ∈ lw_all := lw_g (lw_at lw_m7 92 rfl) rfl
theorem q1677 : (Jvm.Cond.code ({ cls := "WolfsHeadModel", name := "opened", desc := "(I)I" } : Jvm.MethodName) prog_20_method_40_code (2 : Nat) (Option.some Jvm.ClassFile.FieldType.int)) ∈ lw_all := lw_g (lw_at lw_m7 93 rfl) rfl
theorem q1678 : (Jvm.Cond.methodLink "WolfsHeadModel" (199 : Nat) ({ cls := "WolfsHeadModel", name := "isAskAhead", desc := "()Z" } : Jvm.MethodName)) ∈ lw_all := lw_g (lw_at lw_m7 94 rfl) rfl
theorem q1679 : (Jvm.Cond.privateMethod ({ cls := "WolfsHeadModel", name := "isAskAhead", desc := "()Z" } : Jvm.MethodName)) ∈ lw_tbl := lw_at lw_m7 95 rfl
theorem q1680 : (Jvm.Cond.instanceMethod ({ cls := "WolfsHeadModel", name := "isAskAhead", desc := "()Z" } : Jvm.MethodName)) ∈ lw_all := lw_g (lw_at lw_m7 96 rfl) rfl
theorem q1681 : (Jvm.Cond.code ({ cls := "WolfsHeadModel", name := "isAskAhead", desc := "()Z" } : Jvm.MethodName) prog_20_method_39_code (1 : Nat) (Option.some Jvm.ClassFile.FieldType.boolean)) ∈ lw_all := lw_g (lw_at lw_m7 97 rfl) rfl
theorem q1683 : (Jvm.Cond.instanceMethod ({ cls := "WolfsHeadModel", name := "fault", desc := "(I)I" } : Jvm.MethodName)) ∈ lw_all := lw_g (lw_at lw_m7 99 rfl) rfl
theorem q1684 : (Jvm.Cond.selects "WolfsHeadModel" ({ cls := "WolfsHeadModel", name := "fault", desc := "(I)I" } : Jvm.MethodName) ({ cls := "WolfsHeadModel", name := "fault", desc := "(I)I" } : Jvm.MethodName)) ∈ lw_all := lw_g (lw_at lw_m7 100 rfl) rfl
theorem q1685 : (Jvm.Cond.code ({ cls := "WolfsHeadModel", name := "fault", desc := "(I)I" } : Jvm.MethodName) prog_20_method_58_code (2 : Nat) (Option.some Jvm.ClassFile.FieldType.int)) ∈ lw_all := lw_g (lw_at lw_m7 101 rfl) rfl
theorem q1687 : (Jvm.Cond.instanceMethod ({ cls := "WolfsHeadModel", name := "by", desc := "(I)Z" } : Jvm.MethodName)) ∈ lw_all := lw_g (lw_at lw_m7 103 rfl) rfl
theorem q1688 : (Jvm.Cond.selects "WolfsHeadModel" ({ cls := "WolfsHeadModel", name := "by", desc := "(I)Z" } : Jvm.MethodName) ({ cls := "WolfsHeadModel", name := "by", desc := "(I)Z" } : Jvm.MethodName)) ∈ lw_all := lw_g (lw_at lw_m7 104 rfl) rfl
theorem q1689 : (Jvm.Cond.code ({ cls := "WolfsHeadModel", name := "by", desc := "(I)Z" } : Jvm.MethodName) prog_20_method_59_code (2 : Nat) (Option.some Jvm.ClassFile.FieldType.boolean)) ∈ lw_all := lw_g (lw_at lw_m7 105 rfl) rfl
theorem q1691 : (Jvm.Cond.instanceMethod ({ cls := "WolfsHeadModel", name := "undo", desc := "()I" } : Jvm.MethodName)) ∈ lw_all := lw_g (lw_at lw_m7 107 rfl) rfl
theorem q1692 : (Jvm.Cond.selects "WolfsHeadModel" ({ cls := "WolfsHeadModel", name := "undo", desc := "()I" } : Jvm.MethodName) ({ cls := "WolfsHeadModel", name := "undo", desc := "()I" } : Jvm.MethodName)) ∈ lw_all := lw_g (lw_at lw_m7 108 rfl) rfl
theorem q1693 : (Jvm.Cond.code ({ cls := "WolfsHeadModel", name := "undo", desc := "()I" } : Jvm.MethodName) prog_20_method_82_code (4 : Nat) (Option.some Jvm.ClassFile.FieldType.int)) ∈ lw_all := lw_g (lw_at lw_m7 109 rfl) rfl
theorem q1695 : (Jvm.Cond.instanceMethod ({ cls := "WolfsHeadModel", name := "call", desc := "(II)I" } : Jvm.MethodName)) ∈ lw_all := lw_g (lw_at lw_m7 111 rfl) rfl
theorem q1696 : (Jvm.Cond.selects "WolfsHeadModel" ({ cls := "WolfsHeadModel", name := "call", desc := "(II)I" } : Jvm.MethodName) ({ cls := "WolfsHeadModel", name := "call", desc := "(II)I" } : Jvm.MethodName)) ∈ lw_all := lw_g (lw_at lw_m7 112 rfl) rfl
theorem q1697 : (Jvm.Cond.code ({ cls := "WolfsHeadModel", name := "call", desc := "(II)I" } : Jvm.MethodName) prog_20_method_85_code (3 : Nat) (Option.some Jvm.ClassFile.FieldType.int)) ∈ lw_all := lw_g (lw_at lw_m7 113 rfl) rfl
theorem q1698 : (Jvm.Cond.methodLink "WolfsHeadModel" (346 : Nat) ({ cls := "WolfsHeadModel", name := "canCall", desc := "(II)Z" } : Jvm.MethodName)) ∈ lw_all := lw_g (lw_at lw_m7 114 rfl) rfl
theorem q1699 : (Jvm.Cond.privateMethod ({ cls := "WolfsHeadModel", name := "canCall", desc := "(II)Z" } : Jvm.MethodName)) ∈ lw_tbl := lw_at lw_m7 115 rfl
theorem q1700 : (Jvm.Cond.instanceMethod ({ cls := "WolfsHeadModel", name := "canCall", desc := "(II)Z" } : Jvm.MethodName)) ∈ lw_all := lw_g (lw_at lw_m7 116 rfl) rfl
theorem q1701 : (Jvm.Cond.code ({ cls := "WolfsHeadModel", name := "canCall", desc := "(II)Z" } : Jvm.MethodName) prog_20_method_83_code (3 : Nat) (Option.some Jvm.ClassFile.FieldType.boolean)) ∈ lw_all := lw_g (lw_at lw_m7 117 rfl) rfl
theorem q1702 : (Jvm.Cond.methodLink "WolfsHeadModel" (343 : Nat) ({ cls := "WolfsHeadModel", name := "isAlive", desc := "(I)Z" } : Jvm.MethodName)) ∈ lw_all := lw_g (lw_at lw_m7 118 rfl) rfl
theorem q1703 : (Jvm.Cond.privateMethod ({ cls := "WolfsHeadModel", name := "isAlive", desc := "(I)Z" } : Jvm.MethodName)) ∈ lw_tbl := lw_at lw_m7 119 rfl
theorem q1704 : (Jvm.Cond.instanceMethod ({ cls := "WolfsHeadModel", name := "isAlive", desc := "(I)Z" } : Jvm.MethodName)) ∈ lw_all := lw_g (lw_at lw_m7 120 rfl) rfl
theorem q1705 : (Jvm.Cond.code ({ cls := "WolfsHeadModel", name := "isAlive", desc := "(I)Z" } : Jvm.MethodName) prog_20_method_12_code (2 : Nat) (Option.some Jvm.ClassFile.FieldType.boolean)) ∈ lw_all := lw_g (lw_at lw_m7 121 rfl) rfl
theorem q1706 : (Jvm.Cond.methodLink "WolfsHeadModel" (67 : Nat) ({ cls := "WolfsHeadModel", name := "isPerson", desc := "(I)Z" } : Jvm.MethodName)) ∈ lw_all := lw_g (lw_at lw_m7 122 rfl) rfl
theorem q1707 : (Jvm.Cond.privateMethod ({ cls := "WolfsHeadModel", name := "isPerson", desc := "(I)Z" } : Jvm.MethodName)) ∈ lw_tbl := lw_at lw_m7 123 rfl
theorem q1708 : (Jvm.Cond.instanceMethod ({ cls := "WolfsHeadModel", name := "isPerson", desc := "(I)Z" } : Jvm.MethodName)) ∈ lw_all := lw_g (lw_at lw_m7 124 rfl) rfl
theorem q1709 : (Jvm.Cond.code ({ cls := "WolfsHeadModel", name := "isPerson", desc := "(I)Z" } : Jvm.MethodName) prog_20_method_8_code (2 : Nat) (Option.some Jvm.ClassFile.FieldType.boolean)) ∈ lw_all := lw_g (lw_at lw_m7 125 rfl) rfl
theorem q1710 : (Jvm.Cond.methodLink "WolfsHeadModel" (349 : Nat) ({ cls := "WolfsHeadModel", name := "keep", desc := "()V" } : Jvm.MethodName)) ∈ lw_all := lw_g (lw_at lw_m7 126 rfl) rfl
theorem q1711 : (Jvm.Cond.privateMethod ({ cls := "WolfsHeadModel", name := "keep", desc := "()V" } : Jvm.MethodName)) ∈ lw_tbl := lw_at lw_m7 127 rfl
theorem q1712 : (Jvm.Cond.instanceMethod ({ cls := "WolfsHeadModel", name := "keep", desc := "()V" } : Jvm.MethodName)) ∈ lw_all := lw_g (lw_at lw_m7 128 rfl) rfl
theorem q1713 : (Jvm.Cond.code ({ cls := "WolfsHeadModel", name := "keep", desc := "()V" } : Jvm.MethodName) prog_20_method_81_code (4 : Nat) (Option.none : Option Jvm.ClassFile.FieldType)) ∈ lw_all := lw_g (lw_at lw_m7 129 rfl) rfl
theorem q1714 : (Jvm.Cond.methodLink "WolfsHeadModel" (352 : Nat) ({ cls := "WolfsHeadModel", name := "callNow", desc := "(II)V" } : Jvm.MethodName)) ∈ lw_all := lw_g (lw_at lw_m7 130 rfl) rfl
theorem q1715 : (Jvm.Cond.privateMethod ({ cls := "WolfsHeadModel", name := "callNow", desc := "(II)V" } : Jvm.MethodName)) ∈ lw_tbl := lw_at lw_m7 131 rfl
theorem q1716 : (Jvm.Cond.instanceMethod ({ cls := "WolfsHeadModel", name := "callNow", desc := "(II)V" } : Jvm.MethodName)) ∈ lw_all := lw_g (lw_at lw_m7 132 rfl) rfl
theorem q1717 : (Jvm.Cond.code ({ cls := "WolfsHeadModel", name := "callNow", desc := "(II)V" } : Jvm.MethodName) prog_20_method_84_code (4 : Nat) (Option.none : Option Jvm.ClassFile.FieldType)) ∈ lw_all := lw_g (lw_at lw_m7 133 rfl) rfl
theorem q1718 : (Jvm.Cond.methodLink "WolfsHeadModel" (319 : Nat) ({ cls := "WolfsHeadModel", name := "write", desc := "(II)V" } : Jvm.MethodName)) ∈ lw_all := lw_g (lw_at lw_m7 134 rfl) rfl
theorem q1719 : (Jvm.Cond.privateMethod ({ cls := "WolfsHeadModel", name := "write", desc := "(II)V" } : Jvm.MethodName)) ∈ lw_tbl := lw_at lw_m7 135 rfl
theorem q1720 : (Jvm.Cond.instanceMethod ({ cls := "WolfsHeadModel", name := "write", desc := "(II)V" } : Jvm.MethodName)) ∈ lw_all := lw_g (lw_at lw_m7 136 rfl) rfl
theorem q1721 : (Jvm.Cond.code ({ cls := "WolfsHeadModel", name := "write", desc := "(II)V" } : Jvm.MethodName) prog_20_method_75_code (3 : Nat) (Option.none : Option Jvm.ClassFile.FieldType)) ∈ lw_all := lw_g (lw_at lw_m7 137 rfl) rfl
theorem q1723 : (Jvm.Cond.instanceMethod ({ cls := "WolfsHeadModel", name := "move", desc := "(II)Z" } : Jvm.MethodName)) ∈ lw_all := lw_g (lw_at lw_m7 139 rfl) rfl
theorem q1724 : (Jvm.Cond.selects "WolfsHeadModel" ({ cls := "WolfsHeadModel", name := "move", desc := "(II)Z" } : Jvm.MethodName) ({ cls := "WolfsHeadModel", name := "move", desc := "(II)Z" } : Jvm.MethodName)) ∈ lw_all := lw_g (lw_at lw_m7 140 rfl) rfl
theorem q1725 : (Jvm.Cond.code ({ cls := "WolfsHeadModel", name := "move", desc := "(II)Z" } : Jvm.MethodName) prog_20_method_87_code (3 : Nat) (Option.some Jvm.ClassFile.FieldType.boolean)) ∈ lw_all := lw_g (lw_at lw_m7 141 rfl) rfl
theorem q1726 : (Jvm.Cond.methodLink "WolfsHeadModel" (355 : Nat) ({ cls := "WolfsHeadModel", name := "canMove", desc := "(II)Z" } : Jvm.MethodName)) ∈ lw_all := lw_g (lw_at lw_m7 142 rfl) rfl
theorem q1727 : (Jvm.Cond.privateMethod ({ cls := "WolfsHeadModel", name := "canMove", desc := "(II)Z" } : Jvm.MethodName)) ∈ lw_tbl := lw_at lw_m7 143 rfl
theorem q1728 : (Jvm.Cond.instanceMethod ({ cls := "WolfsHeadModel", name := "canMove", desc := "(II)Z" } : Jvm.MethodName)) ∈ lw_all := lw_g (lw_at lw_m7 144 rfl) rfl
theorem q1729 : (Jvm.Cond.code ({ cls := "WolfsHeadModel", name := "canMove", desc := "(II)Z" } : Jvm.MethodName) prog_20_method_86_code (3 : Nat) (Option.some Jvm.ClassFile.FieldType.boolean)) ∈ lw_all := lw_g (lw_at lw_m7 145 rfl) rfl
theorem q1731 : (Jvm.Cond.instanceMethod ({ cls := "WolfsHeadModel", name := "feeds", desc := "(II)I" } : Jvm.MethodName)) ∈ lw_all := lw_g (lw_at lw_m7 147 rfl) rfl
theorem q1732 : (Jvm.Cond.selects "WolfsHeadModel" ({ cls := "WolfsHeadModel", name := "feeds", desc := "(II)I" } : Jvm.MethodName) ({ cls := "WolfsHeadModel", name := "feeds", desc := "(II)I" } : Jvm.MethodName)) ∈ lw_all := lw_g (lw_at lw_m7 148 rfl) rfl
theorem q1733 : (Jvm.Cond.code ({ cls := "WolfsHeadModel", name := "feeds", desc := "(II)I" } : Jvm.MethodName) prog_20_method_90_code (3 : Nat) (Option.some Jvm.ClassFile.FieldType.int)) ∈ lw_all := lw_g (lw_at lw_m7 149 rfl) rfl
theorem q1734 : (Jvm.Cond.methodLink "WolfsHeadModel" (361 : Nat) ({ cls := "WolfsHeadModel", name := "areBeside", desc := "(II)Z" } : Jvm.MethodName)) ∈ lw_all := lw_g (lw_at lw_m7 150 rfl) rfl
theorem q1735 : (Jvm.Cond.privateMethod ({ cls := "WolfsHeadModel", name := "areBeside", desc := "(II)Z" } : Jvm.MethodName)) ∈ lw_tbl := lw_at lw_m7 151 rfl
theorem q1736 : (Jvm.Cond.instanceMethod ({ cls := "WolfsHeadModel", name := "areBeside", desc := "(II)Z" } : Jvm.MethodName)) ∈ lw_all := lw_g (lw_at lw_m7 152 rfl) rfl
theorem q1737 : (Jvm.Cond.code ({ cls := "WolfsHeadModel", name := "areBeside", desc := "(II)Z" } : Jvm.MethodName) prog_20_method_88_code (3 : Nat) (Option.some Jvm.ClassFile.FieldType.boolean)) ∈ lw_all := lw_g (lw_at lw_m7 153 rfl) rfl
theorem q1738 : (Jvm.Cond.methodLink "WolfsHeadModel" (358 : Nat) ({ cls := "WolfsHeadModel", name := "isOutlaw", desc := "(I)Z" } : Jvm.MethodName)) ∈ lw_all := lw_g (lw_at lw_m7 154 rfl) rfl
theorem q1739 : (Jvm.Cond.privateMethod ({ cls := "WolfsHeadModel", name := "isOutlaw", desc := "(I)Z" } : Jvm.MethodName)) ∈ lw_tbl := lw_at lw_m7 155 rfl
theorem q1740 : (Jvm.Cond.instanceMethod ({ cls := "WolfsHeadModel", name := "isOutlaw", desc := "(I)Z" } : Jvm.MethodName)) ∈ lw_all := lw_g (lw_at lw_m7 156 rfl) rfl
theorem q1741 : (Jvm.Cond.code ({ cls := "WolfsHeadModel", name := "isOutlaw", desc := "(I)Z" } : Jvm.MethodName) prog_20_method_11_code (2 : Nat) (Option.some Jvm.ClassFile.FieldType.boolean)) ∈ lw_all := lw_g (lw_at lw_m7 157 rfl) rfl
theorem q1742 : (Jvm.Cond.methodLink "WolfsHeadModel" (364 : Nat) ({ cls := "WolfsHeadModel", name := "feedNow", desc := "(II)V" } : Jvm.MethodName)) ∈ lw_all := lw_g (lw_at lw_m7 158 rfl) rfl
theorem q1743 : (Jvm.Cond.privateMethod ({ cls := "WolfsHeadModel", name := "feedNow", desc := "(II)V" } : Jvm.MethodName)) ∈ lw_tbl := lw_at lw_m7 159 rfl
theorem q1744 : (Jvm.Cond.instanceMethod ({ cls := "WolfsHeadModel", name := "feedNow", desc := "(II)V" } : Jvm.MethodName)) ∈ lw_all := lw_g (lw_at lw_m7 160 rfl) rfl
theorem q1745 : (Jvm.Cond.code ({ cls := "WolfsHeadModel", name := "feedNow", desc := "(II)V" } : Jvm.MethodName) prog_20_method_89_code (4 : Nat) (Option.none : Option Jvm.ClassFile.FieldType)) ∈ lw_all := lw_g (lw_at lw_m7 161 rfl) rfl
theorem q1746 : (Jvm.Cond.methodLink "WolfsHeadModel" (334 : Nat) ({ cls := "WolfsHeadModel", name := "findsOf", desc := "(I)I" } : Jvm.MethodName)) ∈ lw_all := lw_g (lw_at lw_m7 162 rfl) rfl
theorem q1747 : (Jvm.Cond.privateMethod ({ cls := "WolfsHeadModel", name := "findsOf", desc := "(I)I" } : Jvm.MethodName)) ∈ lw_tbl := lw_at lw_m7 163 rfl
theorem q1748 : (Jvm.Cond.instanceMethod ({ cls := "WolfsHeadModel", name := "findsOf", desc := "(I)I" } : Jvm.MethodName)) ∈ lw_all := lw_g (lw_at lw_m7 164 rfl) rfl
theorem q1749 : (Jvm.Cond.code ({ cls := "WolfsHeadModel", name := "findsOf", desc := "(I)I" } : Jvm.MethodName) prog_20_method_72_code (2 : Nat) (Option.some Jvm.ClassFile.FieldType.int)) ∈ lw_all := lw_g (lw_at lw_m7 165 rfl) rfl
theorem q1750 : (Jvm.Cond.methodLink "WolfsHeadModel" (307 : Nat) ({ cls := "WolfsHeadModel", name := "findsIn", desc := "(II)I" } : Jvm.MethodName)) ∈ lw_all := lw_g (lw_at lw_m7 166 rfl) rfl
theorem q1751 : (Jvm.Cond.privateMethod ({ cls := "WolfsHeadModel", name := "findsIn", desc := "(II)I" } : Jvm.MethodName)) ∈ lw_tbl := lw_at lw_m7 167 rfl
theorem q1752 : (Jvm.Cond.instanceMethod ({ cls := "WolfsHeadModel", name := "findsIn", desc := "(II)I" } : Jvm.MethodName)) ∈ lw_all := lw_g (lw_at lw_m7 168 rfl) rfl
theorem q1753 : (Jvm.Cond.code ({ cls := "WolfsHeadModel", name := "findsIn", desc := "(II)I" } : Jvm.MethodName) prog_20_method_71_code (3 : Nat) (Option.some Jvm.ClassFile.FieldType.int)) ∈ lw_all := lw_g (lw_at lw_m7 169 rfl) rfl
theorem q1754 : (Jvm.Cond.methodLink "WolfsHeadModel" (300 : Nat) ({ cls := "WolfsHeadModel", name := "nameIn", desc := "(II)V" } : Jvm.MethodName)) ∈ lw_all := lw_g (lw_at lw_m7 170 rfl) rfl
theorem q1755 : (Jvm.Cond.privateMethod ({ cls := "WolfsHeadModel", name := "nameIn", desc := "(II)V" } : Jvm.MethodName)) ∈ lw_tbl := lw_at lw_m7 171 rfl
theorem q1756 : (Jvm.Cond.instanceMethod ({ cls := "WolfsHeadModel", name := "nameIn", desc := "(II)V" } : Jvm.MethodName)) ∈ lw_all := lw_g (lw_at lw_m7 172 rfl) rfl
theorem q1757 : (Jvm.Cond.code ({ cls := "WolfsHeadModel", name := "nameIn", desc := "(II)V" } : Jvm.MethodName) prog_20_method_69_code (3 : Nat) (Option.none : Option Jvm.ClassFile.FieldType)) ∈ lw_all := lw_g (lw_at lw_m7 173 rfl) rfl
theorem q1758 : (Jvm.Cond.methodLink "WolfsHeadModel" (297 : Nat) ({ cls := "WolfsHeadModel", name := "crowdOf", desc := "(II)I" } : Jvm.MethodName)) ∈ lw_all := lw_g (lw_at lw_m7 174 rfl) rfl
theorem q1759 : (Jvm.Cond.privateMethod ({ cls := "WolfsHeadModel", name := "crowdOf", desc := "(II)I" } : Jvm.MethodName)) ∈ lw_tbl := lw_at lw_m7 175 rfl
theorem q1760 : (Jvm.Cond.instanceMethod ({ cls := "WolfsHeadModel", name := "crowdOf", desc := "(II)I" } : Jvm.MethodName)) ∈ lw_all := lw_g (lw_at lw_m7 176 rfl) rfl
theorem q1761 : (Jvm.Cond.code ({ cls := "WolfsHeadModel", name := "crowdOf", desc := "(II)I" } : Jvm.MethodName) prog_20_method_68_code (5 : Nat) (Option.some Jvm.ClassFile.FieldType.int)) ∈ lw_all := lw_g (lw_at lw_m7 177 rfl) rfl
theorem q1762 : (Jvm.Cond.methodLink "WolfsHeadModel" (303 : Nat) ({ cls := "WolfsHeadModel", name := "says", desc := "(IIII)I" } : Jvm.MethodName)) ∈ lw_all := lw_g (lw_at lw_m7 178 rfl) rfl
theorem q1763 : (Jvm.Cond.privateMethod ({ cls := "WolfsHeadModel", name := "says", desc := "(IIII)I" } : Jvm.MethodName)) ∈ lw_tbl := lw_at lw_m7 179 rfl
theorem q1764 : (Jvm.Cond.instanceMethod ({ cls := "WolfsHeadModel", name := "says", desc := "(IIII)I" } : Jvm.MethodName)) ∈ lw_all := lw_g (lw_at lw_m7 180 rfl) rfl
theorem q1765 : (Jvm.Cond.code ({ cls := "WolfsHeadModel", name := "says", desc := "(IIII)I" } : Jvm.MethodName) prog_20_method_67_code (6 : Nat) (Option.some Jvm.ClassFile.FieldType.int)) ∈ lw_all := lw_g (lw_at lw_m7 181 rfl) rfl
theorem q1766 : (Jvm.Cond.methodLink "WolfsHeadModel" (291 : Nat) ({ cls := "WolfsHeadModel", name := "summedUp", desc := "(II)J" } : Jvm.MethodName)) ∈ lw_all := lw_g (lw_at lw_m7 182 rfl) rfl
theorem q1767 : (Jvm.Cond.privateMethod ({ cls := "WolfsHeadModel", name := "summedUp", desc := "(II)J" } : Jvm.MethodName)) ∈ lw_tbl := lw_at lw_m7 183 rfl
theorem q1768 : (Jvm.Cond.instanceMethod ({ cls := "WolfsHeadModel", name := "summedUp", desc := "(II)J" } : Jvm.MethodName)) ∈ lw_all := lw_g (lw_at lw_m7 184 rfl) rfl
theorem q1769 : (Jvm.Cond.code ({ cls := "WolfsHeadModel", name := "summedUp", desc := "(II)J" } : Jvm.MethodName) prog_20_method_66_code (10 : Nat) (Option.some Jvm.ClassFile.FieldType.long)) ∈ lw_all := lw_g (lw_at lw_m7 185 rfl) rfl
theorem q1770 : (Jvm.Cond.methodLink "WolfsHeadModel" (275 : Nat) ({ cls := "WolfsHeadModel", name := "prefixed", desc := "(IJ)J" } : Jvm.MethodName)) ∈ lw_all := lw_g (lw_at lw_m7 186 rfl) rfl
theorem q1771 : (Jvm.Cond.privateMethod ({ cls := "WolfsHeadModel", name := "prefixed", desc := "(IJ)J" } : Jvm.MethodName)) ∈ lw_tbl := lw_at lw_m7 187 rfl
theorem q1772 : (Jvm.Cond.instanceMethod ({ cls := "WolfsHeadModel", name := "prefixed", desc := "(IJ)J" } : Jvm.MethodName)) ∈ lw_all := lw_g (lw_at lw_m7 188 rfl) rfl
theorem q1773 : (Jvm.Cond.code ({ cls := "WolfsHeadModel", name := "prefixed", desc := "(IJ)J" } : Jvm.MethodName) prog_20_method_64_code (4 : Nat) (Option.some Jvm.ClassFile.FieldType.long)) ∈ lw_all := lw_g (lw_at lw_m7 189 rfl) rfl
theorem q1774 : (Jvm.Cond.methodLink "WolfsHeadModel" (268 : Nat) ({ cls := "WolfsHeadModel", name := "bits", desc := "(J)I" } : Jvm.MethodName)) ∈ lw_all := lw_g (lw_at lw_m7 190 rfl) rfl
theorem q1775 : (Jvm.Cond.static ({ cls := "WolfsHeadModel", name := "bits", desc := "(J)I" } : Jvm.MethodName)) ∈ lw_all := lw_g (lw_at lw_m7 191 rfl) rfl
theorem q1776 : (Jvm.Cond.code ({ cls := "WolfsHeadModel", name := "bits", desc := "(J)I" } : Jvm.MethodName) prog_20_method_6_code (5 : Nat) (Option.some Jvm.ClassFile.FieldType.int)) ∈ lw_all := lw_g (lw_at lw_m7 192 rfl) rfl
theorem q1777 : (Jvm.Cond.methodLink "WolfsHeadModel" (272 : Nat) ({ cls := "WolfsHeadModel", name := "fearOf", desc := "(J)J" } : Jvm.MethodName)) ∈ lw_all := lw_g (lw_at lw_m7 193 rfl) rfl
theorem q1778 : (Jvm.Cond.privateMethod ({ cls := "WolfsHeadModel", name := "fearOf", desc := "(J)J" } : Jvm.MethodName)) ∈ lw_tbl := lw_at lw_m7 194 rfl
theorem q1779 : (Jvm.Cond.instanceMethod ({ cls := "WolfsHeadModel", name := "fearOf", desc := "(J)J" } : Jvm.MethodName)) ∈ lw_all := lw_g (lw_at lw_m7 195 rfl) rfl
theorem q1780 : (Jvm.Cond.code ({ cls := "WolfsHeadModel", name := "fearOf", desc := "(J)J" } : Jvm.MethodName) prog_20_method_63_code (3 : Nat) (Option.some Jvm.ClassFile.FieldType.long)) ∈ lw_all := lw_g (lw_at lw_m7 196 rfl) rfl
theorem q1781 : (Jvm.Cond.methodLink "WolfsHeadModel" (279 : Nat) ({ cls := "WolfsHeadModel", name := "two", desc := "(IJJ)J" } : Jvm.MethodName)) ∈ lw_all := lw_g (lw_at lw_m7 197 rfl) rfl
theorem q1782 : (Jvm.Cond.static ({ cls := "WolfsHeadModel", name := "two", desc := "(IJJ)J" } : Jvm.MethodName)) ∈ lw_all := lw_g (lw_at lw_m7 198 rfl) rfl
theorem q1783 : (Jvm.Cond.code ({ cls := "WolfsHeadModel", name := "two", desc := "(IJJ)J" } : Jvm.MethodName) prog_20_method_61_code (5 : Nat) (Option.some Jvm.ClassFile.FieldType.long)) ∈ lw_all := lw_g (lw_at lw_m7 199 rfl) rfl
theorem q1784 : (Jvm.Cond.methodLink "WolfsHeadModel" (264 : Nat) ({ cls := "WolfsHeadModel", name := "clip", desc := "(J)J" } : Jvm.MethodName)) ∈ lw_all := lw_g (lw_at lw_m7 200 rfl) rfl
theorem q1785 : (Jvm.Cond.static ({ cls := "WolfsHeadModel", name := "clip", desc := "(J)J" } : Jvm.MethodName)) ∈ lw_all := lw_g (lw_at lw_m7 201 rfl) rfl
theorem q1786 : (Jvm.Cond.code ({ cls := "WolfsHeadModel", name := "clip", desc := "(J)J" } : Jvm.MethodName) prog_20_method_60_code (2 : Nat) (Option.some Jvm.ClassFile.FieldType.long)) ∈ lw_all := lw_g (lw_at lw_m7 202 rfl) rfl
theorem q1787 : (Jvm.Cond.constantLong "WolfsHeadModel" (260 : Nat) (1000000 : Int64)) ∈ lw_all := lw_g (lw_at lw_m7 203 rfl) rfl
theorem q1788 : (Jvm.Cond.constantLong "WolfsHeadModel" (262 : Nat) (-1000000 : Int64)) ∈ lw_all := lw_g (lw_at lw_m7 204 rfl) rfl
theorem q1789 : (Jvm.Cond.methodLink "WolfsHeadModel" (283 : Nat) ({ cls := "WolfsHeadModel", name := "isAsked", desc := "(IJJ)Z" } : Jvm.MethodName)) ∈ lw_all := lw_g (lw_at lw_m7 205 rfl) rfl
theorem q1790 : (Jvm.Cond.static ({ cls := "WolfsHeadModel", name := "isAsked", desc := "(IJJ)Z" } : Jvm.MethodName)) ∈ lw_all := lw_g (lw_at lw_m7 206 rfl) rfl
theorem q1791 : (Jvm.Cond.code ({ cls := "WolfsHeadModel", name := "isAsked", desc := "(IJJ)Z" } : Jvm.MethodName) prog_20_method_62_code (5 : Nat) (Option.some Jvm.ClassFile.FieldType.boolean)) ∈ lw_all := lw_g (lw_at lw_m7 207 rfl) rfl
theorem q1792 : (Jvm.Cond.methodLink "WolfsHeadModel" (287 : Nat) ({ cls := "WolfsHeadModel", name := "joined", desc := "(IZZ)Z" } : Jvm.MethodName)) ∈ lw_all := lw_g (lw_at lw_m7 208 rfl) rfl
theorem q1793 : (Jvm.Cond.static ({ cls := "WolfsHeadModel", name := "joined", desc := "(IZZ)Z" } : Jvm.MethodName)) ∈ lw_all := lw_g (lw_at lw_m7 209 rfl) rfl
theorem q1794 : (Jvm.Cond.code ({ cls := "WolfsHeadModel", name := "joined", desc := "(IZZ)Z" } : Jvm.MethodName) prog_20_method_65_code (3 : Nat) (Option.some Jvm.ClassFile.FieldType.boolean)) ∈ lw_all := lw_g (lw_at lw_m7 210 rfl) rfl
theorem q1795 : (Jvm.Cond.methodLink "WolfsHeadModel" (294 : Nat) ({ cls := "WolfsHeadModel", name := "cut", desc := "(JII)I" } : Jvm.MethodName)) ∈ lw_all := lw_g (lw_at lw_m7 211 rfl) rfl
theorem q1796 : (Jvm.Cond.static ({ cls := "WolfsHeadModel", name := "cut", desc := "(JII)I" } : Jvm.MethodName)) ∈ lw_all := lw_g (lw_at lw_m7 212 rfl) rfl
theorem q1797 : (Jvm.Cond.code ({ cls := "WolfsHeadModel", name := "cut", desc := "(JII)I" } : Jvm.MethodName) prog_20_method_4_code (4 : Nat) (Option.some Jvm.ClassFile.FieldType.int)) ∈ lw_all := lw_g (lw_at lw_m7 213 rfl) rfl
theorem q1798 : (Jvm.Cond.methodLink "WolfsHeadModel" (337 : Nat) ({ cls := "WolfsHeadModel", name := "drawn", desc := "(I)I" } : Jvm.MethodName)) ∈ lw_all := lw_g (lw_at lw_m7 214 rfl) rfl
theorem q1799 : (Jvm.Cond.privateMethod ({ cls := "WolfsHeadModel", name := "drawn", desc := "(I)I" } : Jvm.MethodName)) ∈ lw_tbl := lw_at lw_m7 215 rfl
theorem q1800 : (Jvm.Cond.instanceMethod ({ cls := "WolfsHeadModel", name := "drawn", desc := "(I)I" } : Jvm.MethodName)) ∈ lw_all := lw_g (lw_at lw_m7 216 rfl) rfl
theorem q1801 : (Jvm.Cond.code ({ cls := "WolfsHeadModel", name := "drawn", desc := "(I)I" } : Jvm.MethodName) prog_20_method_76_code (3 : Nat) (Option.some Jvm.ClassFile.FieldType.int)) ∈ lw_all := lw_g (lw_at lw_m7 217 rfl) rfl
theorem q1802 : (Jvm.Cond.methodLink "WolfsHeadModel" (310 : Nat) ({ cls := "WolfsHeadModel", name := "anew", desc := "()V" } : Jvm.MethodName)) ∈ lw_all := lw_g (lw_at lw_m7 218 rfl) rfl
theorem q1803 : (Jvm.Cond.privateMethod ({ cls := "WolfsHeadModel", name := "anew", desc := "()V" } : Jvm.MethodName)) ∈ lw_tbl := lw_at lw_m7 219 rfl
theorem q1804 : (Jvm.Cond.instanceMethod ({ cls := "WolfsHeadModel", name := "anew", desc := "()V" } : Jvm.MethodName)) ∈ lw_all := lw_g (lw_at lw_m7 220 rfl) rfl
theorem q1805 : (Jvm.Cond.code ({ cls := "WolfsHeadModel", name := "anew", desc := "()V" } : Jvm.MethodName) prog_20_method_77_code (1 : Nat) (Option.none : Option Jvm.ClassFile.FieldType)) ∈ lw_all := lw_g (lw_at lw_m7 221 rfl) rfl
theorem q1806 : (Jvm.Cond.constantLong "WolfsHeadModel" (313 : Nat) (379 : Int64)) ∈ lw_all := lw_g (lw_at lw_m7 222 rfl) rfl
theorem q1807 : (Jvm.Cond.constantLong "WolfsHeadModel" (315 : Nat) (257 : Int64)) ∈ lw_all := lw_g (lw_at lw_m7 223 rfl) rfl
theorem q1808 : (Jvm.Cond.constantLong "WolfsHeadModel" (317 : Nat) (30469 : Int64)) ∈ lw_all := lw_g (lw_at lw_m7 224 rfl) rfl
theorem q1810 : (Jvm.Cond.instanceMethod ({ cls := "WolfsHeadModel", name := "kill", desc := "(II)Z" } : Jvm.MethodName)) ∈ lw_all := lw_g (lw_at lw_m7 226 rfl) rfl
theorem q1811 : (Jvm.Cond.selects "WolfsHeadModel" ({ cls := "WolfsHeadModel", name := "kill", desc := "(II)Z" } : Jvm.MethodName) ({ cls := "WolfsHeadModel", name := "kill", desc := "(II)Z" } : Jvm.MethodName)) ∈ lw_all := lw_g (lw_at lw_m7 227 rfl) rfl
theorem q1812 : (Jvm.Cond.code ({ cls := "WolfsHeadModel", name := "kill", desc := "(II)Z" } : Jvm.MethodName) prog_20_method_93_code (3 : Nat) (Option.some Jvm.ClassFile.FieldType.boolean)) ∈ lw_all := lw_g (lw_at lw_m7 228 rfl) rfl
theorem q1813 : (Jvm.Cond.methodLink "WolfsHeadModel" (370 : Nat) ({ cls := "WolfsHeadModel", name := "killNow", desc := "(II)V" } : Jvm.MethodName)) ∈ lw_all := lw_g (lw_at lw_m7 229 rfl) rfl
theorem q1814 : (Jvm.Cond.privateMethod ({ cls := "WolfsHeadModel", name := "killNow", desc := "(II)V" } : Jvm.MethodName)) ∈ lw_tbl := lw_at lw_m7 230 rfl
theorem q1815 : (Jvm.Cond.instanceMethod ({ cls := "WolfsHeadModel", name := "killNow", desc := "(II)V" } : Jvm.MethodName)) ∈ lw_all := lw_g (lw_at lw_m7 231 rfl) rfl
theorem q1816 : (Jvm.Cond.code ({ cls := "WolfsHeadModel", name := "killNow", desc := "(II)V" } : Jvm.MethodName) prog_20_method_92_code (3 : Nat) (Option.none : Option Jvm.ClassFile.FieldType)) ∈ lw_all := lw_g (lw_at lw_m7 232 rfl) rfl
theorem q1817 : (Jvm.Cond.methodLink "WolfsHeadModel" (331 : Nat) ({ cls := "WolfsHeadModel", name := "die", desc := "(II)V" } : Jvm.MethodName)) ∈ lw_all := lw_g (lw_at lw_m7 233 rfl) rfl
theorem q1818 : (Jvm.Cond.privateMethod ({ cls := "WolfsHeadModel", name := "die", desc := "(II)V" } : Jvm.MethodName)) ∈ lw_tbl := lw_at lw_m7 234 rfl
theorem q1819 : (Jvm.Cond.instanceMethod ({ cls := "WolfsHeadModel", name := "die", desc := "(II)V" } : Jvm.MethodName)) ∈ lw_all := lw_g (lw_at lw_m7 235 rfl) rfl
theorem q1820 : (Jvm.Cond.code ({ cls := "WolfsHeadModel", name := "die", desc := "(II)V" } : Jvm.MethodName) prog_20_method_78_code (3 : Nat) (Option.none : Option Jvm.ClassFile.FieldType)) ∈ lw_all := lw_g (lw_at lw_m7 236 rfl) rfl
theorem q1821 : (Jvm.Cond.methodLink "WolfsHeadModel" (367 : Nat) ({ cls := "WolfsHeadModel", name := "pardonNow", desc := "(I)V" } : Jvm.MethodName)) ∈ lw_all := lw_g (lw_at lw_m7 237 rfl) rfl
theorem q1822 : (Jvm.Cond.privateMethod ({ cls := "WolfsHeadModel", name := "pardonNow", desc := "(I)V" } : Jvm.MethodName)) ∈ lw_tbl := lw_at lw_m7 238 rfl
theorem q1823 : (Jvm.Cond.instanceMethod ({ cls := "WolfsHeadModel", name := "pardonNow", desc := "(I)V" } : Jvm.MethodName)) ∈ lw_all := lw_g (lw_at lw_m7 239 rfl) rfl
theorem q1824 : (Jvm.Cond.code ({ cls := "WolfsHeadModel", name := "pardonNow", desc := "(I)V" } : Jvm.MethodName) prog_20_method_91_code (2 : Nat) (Option.none : Option Jvm.ClassFile.FieldType)) ∈ lw_all := lw_g (lw_at lw_m8 0 rfl) rfl
theorem q1826 : (Jvm.Cond.instanceMethod ({ cls := "WolfsHeadModel", name := "pardon", desc := "(II)I" } : Jvm.MethodName)) ∈ lw_all := lw_g (lw_at lw_m8 2 rfl) rfl
theorem q1827 : (Jvm.Cond.selects "WolfsHeadModel" ({ cls := "WolfsHeadModel", name := "pardon", desc := "(II)I" } : Jvm.MethodName) ({ cls := "WolfsHeadModel", name := "pardon", desc := "(II)I" } : Jvm.MethodName)) ∈ lw_all := lw_g (lw_at lw_m8 3 rfl) rfl
theorem q1828 : (Jvm.Cond.code ({ cls := "WolfsHeadModel", name := "pardon", desc := "(II)I" } : Jvm.MethodName) prog_20_method_96_code (3 : Nat) (Option.some Jvm.ClassFile.FieldType.int)) ∈ lw_all := lw_g (lw_at lw_m8 4 rfl) rfl
theorem q1829 : (Jvm.Cond.methodLink "WolfsHeadModel" (376 : Nat) ({ cls := "WolfsHeadModel", name := "canPardon", desc := "(II)Z" } : Jvm.MethodName)) ∈ lw_all := lw_g (lw_at lw_m8 5 rfl) rfl
theorem q1830 : (Jvm.Cond.privateMethod ({ cls := "WolfsHeadModel", name := "canPardon", desc := "(II)Z" } : Jvm.MethodName)) ∈ lw_tbl := lw_at lw_m8 6 rfl
theorem q1831 : (Jvm.Cond.instanceMethod ({ cls := "WolfsHeadModel", name := "canPardon", desc := "(II)Z" } : Jvm.MethodName)) ∈ lw_all := lw_g (lw_at lw_m8 7 rfl) rfl
theorem q1832 : (Jvm.Cond.code ({ cls := "WolfsHeadModel", name := "canPardon", desc := "(II)Z" } : Jvm.MethodName) prog_20_method_94_code (3 : Nat) (Option.some Jvm.ClassFile.FieldType.boolean)) ∈ lw_all := lw_g (lw_at lw_m8 8 rfl) rfl
theorem q1833 : (Jvm.Cond.methodLink "WolfsHeadModel" (373 : Nat) ({ cls := "WolfsHeadModel", name := "priceOf", desc := "(II)I" } : Jvm.MethodName)) ∈ lw_all := lw_g (lw_at lw_m8 9 rfl) rfl
theorem q1834 : (Jvm.Cond.privateMethod ({ cls := "WolfsHeadModel", name := "priceOf", desc := "(II)I" } : Jvm.MethodName)) ∈ lw_tbl := lw_at lw_m8 10 rfl
theorem q1835 : (Jvm.Cond.instanceMethod ({ cls := "WolfsHeadModel", name := "priceOf", desc := "(II)I" } : Jvm.MethodName)) ∈ lw_all := lw_g (lw_at lw_m8 11 rfl) rfl
theorem q1836 : (Jvm.Cond.code ({ cls := "WolfsHeadModel", name := "priceOf", desc := "(II)I" } : Jvm.MethodName) prog_20_method_73_code (3 : Nat) (Option.some Jvm.ClassFile.FieldType.int)) ∈ lw_all := lw_g (lw_at lw_m8 12 rfl) rfl
theorem q1837 : (Jvm.Cond.methodLink "WolfsHeadModel" (379 : Nat) ({ cls := "WolfsHeadModel", name := "payNow", desc := "(II)I" } : Jvm.MethodName)) ∈ lw_all := lw_g (lw_at lw_m8 13 rfl) rfl
theorem q1838 : (Jvm.Cond.privateMethod ({ cls := "WolfsHeadModel", name := "payNow", desc := "(II)I" } : Jvm.MethodName)) ∈ lw_tbl := lw_at lw_m8 14 rfl
theorem q1839 : (Jvm.Cond.instanceMethod ({ cls := "WolfsHeadModel", name := "payNow", desc := "(II)I" } : Jvm.MethodName)) ∈ lw_all := lw_g (lw_at lw_m8 15 rfl) rfl
theorem q1840 : (Jvm.Cond.code ({ cls := "WolfsHeadModel", name := "payNow", desc := "(II)I" } : Jvm.MethodName) prog_20_method_95_code (4 : Nat) (Option.some Jvm.ClassFile.FieldType.int)) ∈ lw_all := lw_g (lw_at lw_m8 16 rfl) rfl
theorem q1842 : (Jvm.Cond.instanceMethod ({ cls := "WolfsHeadModel", name := "month", desc := "(I)I" } : Jvm.MethodName)) ∈ lw_all := lw_g (lw_at lw_m8 18 rfl) rfl
theorem q1843 : (Jvm.Cond.selects "WolfsHeadModel" ({ cls := "WolfsHeadModel", name := "month", desc := "(I)I" } : Jvm.MethodName) ({ cls := "WolfsHeadModel", name := "month", desc := "(I)I" } : Jvm.MethodName)) ∈ lw_all := lw_g (lw_at lw_m8 19 rfl) rfl
theorem q1844 : (Jvm.Cond.code ({ cls := "WolfsHeadModel", name := "month", desc := "(I)I" } : Jvm.MethodName) prog_20_method_98_code (2 : Nat) (Option.some Jvm.ClassFile.FieldType.int)) ∈ lw_all := lw_g (lw_at lw_m8 20 rfl) rfl
theorem q1845 : (Jvm.Cond.methodLink "WolfsHeadModel" (385 : Nat) ({ cls := "WolfsHeadModel", name := "arePassed", desc := "(I)Z" } : Jvm.MethodName)) ∈ lw_all := lw_g (lw_at lw_m8 21 rfl) rfl
theorem q1846 : (Jvm.Cond.privateMethod ({ cls := "WolfsHeadModel", name := "arePassed", desc := "(I)Z" } : Jvm.MethodName)) ∈ lw_tbl := lw_at lw_m8 22 rfl
theorem q1847 : (Jvm.Cond.instanceMethod ({ cls := "WolfsHeadModel", name := "arePassed", desc := "(I)Z" } : Jvm.MethodName)) ∈ lw_all := lw_g (lw_at lw_m8 23 rfl) rfl
theorem q1848 : (Jvm.Cond.code ({ cls := "WolfsHeadModel", name := "arePassed", desc := "(I)Z" } : Jvm.MethodName) prog_20_method_97_code (3 : Nat) (Option.some Jvm.ClassFile.FieldType.boolean)) ∈ lw_all := lw_g (lw_at lw_m8 24 rfl) rfl
theorem q1849 : (Jvm.Cond.methodLink "WolfsHeadModel" (382 : Nat) ({ cls := "WolfsHeadModel", name := "goOn", desc := "()V" } : Jvm.MethodName)) ∈ lw_all := lw_g (lw_at lw_m8 25 rfl) rfl
theorem q1850 : (Jvm.Cond.privateMethod ({ cls := "WolfsHeadModel", name := "goOn", desc := "()V" } : Jvm.MethodName)) ∈ lw_tbl := lw_at lw_m8 26 rfl
theorem q1851 : (Jvm.Cond.instanceMethod ({ cls := "WolfsHeadModel", name := "goOn", desc := "()V" } : Jvm.MethodName)) ∈ lw_all := lw_g (lw_at lw_m8 27 rfl) rfl
theorem q1852 : (Jvm.Cond.code ({ cls := "WolfsHeadModel", name := "goOn", desc := "()V" } : Jvm.MethodName) prog_20_method_80_code (2 : Nat) (Option.none : Option Jvm.ClassFile.FieldType)) ∈ lw_all := lw_g (lw_at lw_m8 28 rfl) rfl
theorem q1853 : (Jvm.Cond.methodLink "WolfsHeadModel" (340 : Nat) ({ cls := "WolfsHeadModel", name := "live", desc := "(I)V" } : Jvm.MethodName)) ∈ lw_all := lw_g (lw_at lw_m8 29 rfl) rfl
theorem q1854 : (Jvm.Cond.privateMethod ({ cls := "WolfsHeadModel", name := "live", desc := "(I)V" } : Jvm.MethodName)) ∈ lw_tbl := lw_at lw_m8 30 rfl
theorem q1855 : (Jvm.Cond.instanceMethod ({ cls := "WolfsHeadModel", name := "live", desc := "(I)V" } : Jvm.MethodName)) ∈ lw_all := lw_g (lw_at lw_m8 31 rfl) rfl
theorem q1856 : (Jvm.Cond.code ({ cls := "WolfsHeadModel", name := "live", desc := "(I)V" } : Jvm.MethodName) prog_20_method_79_code (3 : Nat) (Option.none : Option Jvm.ClassFile.FieldType)) ∈ lw_all := lw_g (lw_at lw_m8 32 rfl) rfl
theorem q1857 : (Jvm.Cond.methodLink "WolfsHeadModel" (325 : Nat) ({ cls := "WolfsHeadModel", name := "earnsOf", desc := "(I)I" } : Jvm.MethodName)) ∈ lw_all := lw_g (lw_at lw_m8 33 rfl) rfl
theorem q1858 : (Jvm.Cond.privateMethod ({ cls := "WolfsHeadModel", name := "earnsOf", desc := "(I)I" } : Jvm.MethodName)) ∈ lw_tbl := lw_at lw_m8 34 rfl
theorem q1859 : (Jvm.Cond.instanceMethod ({ cls := "WolfsHeadModel", name := "earnsOf", desc := "(I)I" } : Jvm.MethodName)) ∈ lw_all := lw_g (lw_at lw_m8 35 rfl) rfl
theorem q1860 : (Jvm.Cond.code ({ cls := "WolfsHeadModel", name := "earnsOf", desc := "(I)I" } : Jvm.MethodName) prog_20_method_74_code (2 : Nat) (Option.some Jvm.ClassFile.FieldType.int)) ∈ lw_all := lw_g (lw_at lw_m8 36 rfl) rfl
theorem q1861 : (Jvm.Cond.methodLink "WolfsHeadModel" (328 : Nat) ({ cls := "WolfsHeadModel", name := "hungersOf", desc := "(I)I" } : Jvm.MethodName)) ∈ lw_all := lw_g (lw_at lw_m8 37 rfl) rfl
theorem q1862 : (Jvm.Cond.privateMethod ({ cls := "WolfsHeadModel", name := "hungersOf", desc := "(I)I" } : Jvm.MethodName)) ∈ lw_tbl := lw_at lw_m8 38 rfl
theorem q1863 : (Jvm.Cond.instanceMethod ({ cls := "WolfsHeadModel", name := "hungersOf", desc := "(I)I" } : Jvm.MethodName)) ∈ lw_all := lw_g (lw_at lw_m8 39 rfl) rfl
theorem q1864 : (Jvm.Cond.code ({ cls := "WolfsHeadModel", name := "hungersOf", desc := "(I)I" } : Jvm.MethodName) prog_20_method_70_code (2 : Nat) (Option.some Jvm.ClassFile.FieldType.int)) ∈ lw_all := lw_g (lw_at lw_m8 40 rfl) rfl
theorem q1866 : (Jvm.Cond.instanceMethod ({ cls := "WolfsHeadModel", name := "played", desc := "(I)I" } : Jvm.MethodName)) ∈ lw_all := lw_g (lw_at lw_m8 42 rfl) rfl
theorem q1867 : (Jvm.Cond.selects "WolfsHeadModel" ({ cls := "WolfsHeadModel", name := "played", desc := "(I)I" } : Jvm.MethodName) ({ cls := "WolfsHeadModel", name := "played", desc := "(I)I" } : Jvm.MethodName)) ∈ lw_all := lw_g (lw_at lw_m8 43 rfl) rfl
theorem q1868 : (Jvm.Cond.code ({ cls := "WolfsHeadModel", name := "played", desc := "(I)I" } : Jvm.MethodName) prog_20_method_100_code (3 : Nat) (Option.some Jvm.ClassFile.FieldType.int)) ∈ lw_all := lw_g (lw_at lw_m8 44 rfl) rfl
theorem q1869 : (Jvm.Cond.methodLink "WolfsHeadModel" (412 : Nat) ({ cls := "WolfsHeadModel", name := "isPlayed", desc := "(I)Z" } : Jvm.MethodName)) ∈ lw_all := lw_g (lw_at lw_m8 45 rfl) rfl
theorem q1870 : (Jvm.Cond.privateMethod ({ cls := "WolfsHeadModel", name := "isPlayed", desc := "(I)Z" } : Jvm.MethodName)) ∈ lw_tbl := lw_at lw_m8 46 rfl
theorem q1871 : (Jvm.Cond.instanceMethod ({ cls := "WolfsHeadModel", name := "isPlayed", desc := "(I)Z" } : Jvm.MethodName)) ∈ lw_all := lw_g (lw_at lw_m8 47 rfl) rfl
theorem q1872 : (Jvm.Cond.code ({ cls := "WolfsHeadModel", name := "isPlayed", desc := "(I)Z" } : Jvm.MethodName) prog_20_method_99_code (4 : Nat) (Option.some Jvm.ClassFile.FieldType.boolean)) ∈ lw_all := lw_g (lw_at lw_m8 48 rfl) rfl
theorem q1873 : (Jvm.Cond.methodLink "WolfsHeadModel" (388 : Nat) ({ cls := "WolfsHeadModel", name := "land", desc := "(I)I" } : Jvm.MethodName)) ∈ lw_all := lw_g (lw_at lw_m8 49 rfl) rfl
theorem q1874 : (Jvm.Cond.methodLink "WolfsHeadModel" (391 : Nat) ({ cls := "WolfsHeadModel", name := "road", desc := "(II)Z" } : Jvm.MethodName)) ∈ lw_all := lw_g (lw_at lw_m8 50 rfl) rfl
theorem q1875 : (Jvm.Cond.methodLink "WolfsHeadModel" (394 : Nat) ({ cls := "WolfsHeadModel", name := "person", desc := "(IIII)I" } : Jvm.MethodName)) ∈ lw_all := lw_g (lw_at lw_m8 51 rfl) rfl
theorem q1876 : (Jvm.Cond.methodLink "WolfsHeadModel" (397 : Nat) ({ cls := "WolfsHeadModel", name := "call", desc := "(II)I" } : Jvm.MethodName)) ∈ lw_all := lw_g (lw_at lw_m8 52 rfl) rfl
theorem q1877 : (Jvm.Cond.methodLink "WolfsHeadModel" (400 : Nat) ({ cls := "WolfsHeadModel", name := "move", desc := "(II)Z" } : Jvm.MethodName)) ∈ lw_all := lw_g (lw_at lw_m8 53 rfl) rfl
theorem q1878 : (Jvm.Cond.methodLink "WolfsHeadModel" (403 : Nat) ({ cls := "WolfsHeadModel", name := "feeds", desc := "(II)I" } : Jvm.MethodName)) ∈ lw_all := lw_g (lw_at lw_m8 54 rfl) rfl
theorem q1879 : (Jvm.Cond.methodLink "WolfsHeadModel" (406 : Nat) ({ cls := "WolfsHeadModel", name := "kill", desc := "(II)Z" } : Jvm.MethodName)) ∈ lw_all := lw_g (lw_at lw_m8 55 rfl) rfl
theorem q1880 : (Jvm.Cond.methodLink "WolfsHeadModel" (409 : Nat) ({ cls := "WolfsHeadModel", name := "pardon", desc := "(II)I" } : Jvm.MethodName)) ∈ lw_all := lw_g (lw_at lw_m8 56 rfl) rfl
theorem q1882 : (Jvm.Cond.instanceMethod ({ cls := "WolfsHeadModel", name := "reigns", desc := "(II)I" } : Jvm.MethodName)) ∈ lw_all := lw_g (lw_at lw_m8 58 rfl) rfl
theorem q1883 : (Jvm.Cond.selects "WolfsHeadModel" ({ cls := "WolfsHeadModel", name := "reigns", desc := "(II)I" } : Jvm.MethodName) ({ cls := "WolfsHeadModel", name := "reigns", desc := "(II)I" } : Jvm.MethodName)) ∈ lw_all := lw_g (lw_at lw_m8 59 rfl) rfl
theorem q1884 : (Jvm.Cond.code ({ cls := "WolfsHeadModel", name := "reigns", desc := "(II)I" } : Jvm.MethodName) prog_20_method_102_code (5 : Nat) (Option.some Jvm.ClassFile.FieldType.int)) ∈ lw_all := lw_g (lw_at lw_m8 60 rfl) rfl
theorem q1885 : (Jvm.Cond.methodLink "WolfsHeadModel" (415 : Nat) ({ cls := "WolfsHeadModel", name := "happens", desc := "(I)V" } : Jvm.MethodName)) ∈ lw_all := lw_g (lw_at lw_m8 61 rfl) rfl
theorem q1886 : (Jvm.Cond.privateMethod ({ cls := "WolfsHeadModel", name := "happens", desc := "(I)V" } : Jvm.MethodName)) ∈ lw_tbl := lw_at lw_m8 62 rfl
theorem q1887 : (Jvm.Cond.instanceMethod ({ cls := "WolfsHeadModel", name := "happens", desc := "(I)V" } : Jvm.MethodName)) ∈ lw_all := lw_g (lw_at lw_m8 63 rfl) rfl
theorem q1888 : (Jvm.Cond.code ({ cls := "WolfsHeadModel", name := "happens", desc := "(I)V" } : Jvm.MethodName) prog_20_method_101_code (5 : Nat) (Option.none : Option Jvm.ClassFile.FieldType)) ∈ lw_all := lw_g (lw_at lw_m8 64 rfl) rfl
theorem q1890 : (Jvm.Cond.instanceMethod ({ cls := "WolfsHeadModel", name := "of", desc := "(II)I" } : Jvm.MethodName)) ∈ lw_all := lw_g (lw_at lw_m8 66 rfl) rfl
theorem q1891 : (Jvm.Cond.selects "WolfsHeadModel" ({ cls := "WolfsHeadModel", name := "of", desc := "(II)I" } : Jvm.MethodName) ({ cls := "WolfsHeadModel", name := "of", desc := "(II)I" } : Jvm.MethodName)) ∈ lw_all := lw_g (lw_at lw_m8 67 rfl) rfl
theorem q1892 : (Jvm.Cond.code ({ cls := "WolfsHeadModel", name := "of", desc := "(II)I" } : Jvm.MethodName) prog_20_method_103_code (3 : Nat) (Option.some Jvm.ClassFile.FieldType.int)) ∈ lw_all := lw_g (lw_at lw_m8 68 rfl) rfl
theorem q1894 : (Jvm.Cond.instanceMethod ({ cls := "WolfsHeadModel", name := "ofLand", desc := "(II)I" } : Jvm.MethodName)) ∈ lw_all := lw_g (lw_at lw_m8 70 rfl) rfl
theorem q1895 : (Jvm.Cond.selects "WolfsHeadModel" ({ cls := "WolfsHeadModel", name := "ofLand", desc := "(II)I" } : Jvm.MethodName) ({ cls := "WolfsHeadModel", name := "ofLand", desc := "(II)I" } : Jvm.MethodName)) ∈ lw_all := lw_g (lw_at lw_m8 71 rfl) rfl
theorem q1896 : (Jvm.Cond.code ({ cls := "WolfsHeadModel", name := "ofLand", desc := "(II)I" } : Jvm.MethodName) prog_20_method_105_code (3 : Nat) (Option.some Jvm.ClassFile.FieldType.int)) ∈ lw_all := lw_g (lw_at lw_m8 72 rfl) rfl
theorem q1897 : (Jvm.Cond.methodLink "WolfsHeadModel" (418 : Nat) ({ cls := "WolfsHeadModel", name := "aliveIn", desc := "(I)I" } : Jvm.MethodName)) ∈ lw_all := lw_g (lw_at lw_m8 73 rfl) rfl
theorem q1898 : (Jvm.Cond.privateMethod ({ cls := "WolfsHeadModel", name := "aliveIn", desc := "(I)I" } : Jvm.MethodName)) ∈ lw_tbl := lw_at lw_m8 74 rfl
theorem q1899 : (Jvm.Cond.instanceMethod ({ cls := "WolfsHeadModel", name := "aliveIn", desc := "(I)I" } : Jvm.MethodName)) ∈ lw_all := lw_g (lw_at lw_m8 75 rfl) rfl
theorem q1900 : (Jvm.Cond.code ({ cls := "WolfsHeadModel", name := "aliveIn", desc := "(I)I" } : Jvm.MethodName) prog_20_method_104_code (4 : Nat) (Option.some Jvm.ClassFile.FieldType.int)) ∈ lw_all := lw_g (lw_at lw_m8 76 rfl) rfl
theorem q1902 : (Jvm.Cond.instanceMethod ({ cls := "WolfsHeadModel", name := "is", desc := "(I)I" } : Jvm.MethodName)) ∈ lw_all := lw_g (lw_at lw_m8 78 rfl) rfl
theorem q1903 : (Jvm.Cond.selects "WolfsHeadModel" ({ cls := "WolfsHeadModel", name := "is", desc := "(I)I" } : Jvm.MethodName) ({ cls := "WolfsHeadModel", name := "is", desc := "(I)I" } : Jvm.MethodName)) ∈ lw_all := lw_g (lw_at lw_m8 79 rfl) rfl
theorem q1904 : (Jvm.Cond.code ({ cls := "WolfsHeadModel", name := "is", desc := "(I)I" } : Jvm.MethodName) prog_20_method_106_code (2 : Nat) (Option.some Jvm.ClassFile.FieldType.int)) ∈ lw_all := lw_g (lw_at lw_m8 80 rfl) rfl
theorem q1906 : (Jvm.Cond.instanceMethod ({ cls := "WolfsHeadModel", name := "book", desc := "(II)I" } : Jvm.MethodName)) ∈ lw_all := lw_g (lw_at lw_m8 82 rfl) rfl
theorem q1907 : (Jvm.Cond.selects "WolfsHeadModel" ({ cls := "WolfsHeadModel", name := "book", desc := "(II)I" } : Jvm.MethodName) ({ cls := "WolfsHeadModel", name := "book", desc := "(II)I" } : Jvm.MethodName)) ∈ lw_all := lw_g (lw_at lw_m8 83 rfl) rfl
theorem q1908 : (Jvm.Cond.code ({ cls := "WolfsHeadModel", name := "book", desc := "(II)I" } : Jvm.MethodName) prog_20_method_109_code (3 : Nat) (Option.some Jvm.ClassFile.FieldType.int)) ∈ lw_all := lw_g (lw_at lw_m8 84 rfl) rfl
theorem q1909 : (Jvm.Cond.methodLink "WolfsHeadModel" (421 : Nat) ({ cls := "WolfsHeadModel", name := "shown", desc := "()I" } : Jvm.MethodName)) ∈ lw_all := lw_g (lw_at lw_m8 85 rfl) rfl
theorem q1910 : (Jvm.Cond.privateMethod ({ cls := "WolfsHeadModel", name := "shown", desc := "()I" } : Jvm.MethodName)) ∈ lw_tbl := lw_at lw_m8 86 rfl
theorem q1911 : (Jvm.Cond.instanceMethod ({ cls := "WolfsHeadModel", name := "shown", desc := "()I" } : Jvm.MethodName)) ∈ lw_all := lw_g (lw_at lw_m8 87 rfl) rfl
theorem q1912 : (Jvm.Cond.code ({ cls := "WolfsHeadModel", name := "shown", desc := "()I" } : Jvm.MethodName) prog_20_method_107_code (1 : Nat) (Option.some Jvm.ClassFile.FieldType.int)) ∈ lw_all := lw_g (lw_at lw_m8 88 rfl) rfl
theorem q1913 : (Jvm.Cond.methodLink "WolfsHeadModel" (424 : Nat) ({ cls := "WolfsHeadModel", name := "entry", desc := "(II)I" } : Jvm.MethodName)) ∈ lw_all := lw_g (lw_at lw_m8 89 rfl) rfl
theorem q1914 : (Jvm.Cond.privateMethod ({ cls := "WolfsHeadModel", name := "entry", desc := "(II)I" } : Jvm.MethodName)) ∈ lw_tbl := lw_at lw_m8 90 rfl
theorem q1915 : (Jvm.Cond.instanceMethod ({ cls := "WolfsHeadModel", name := "entry", desc := "(II)I" } : Jvm.MethodName)) ∈ lw_all := lw_g (lw_at lw_m8 91 rfl) rfl
theorem q1916 : (Jvm.Cond.code ({ cls := "WolfsHeadModel", name := "entry", desc := "(II)I" } : Jvm.MethodName) prog_20_method_108_code (4 : Nat) (Option.some Jvm.ClassFile.FieldType.int)) ∈ lw_all := lw_g (lw_at lw_m8 92 rfl) rfl
theorem q1918 : (Jvm.Cond.instanceMethod ({ cls := "WolfsHeadModel", name := "befell", desc := "(II)I" } : Jvm.MethodName)) ∈ lw_all := lw_g (lw_at lw_m8 94 rfl) rfl
theorem q1919 : (Jvm.Cond.selects "WolfsHeadModel" ({ cls := "WolfsHeadModel", name := "befell", desc := "(II)I" } : Jvm.MethodName) ({ cls := "WolfsHeadModel", name := "befell", desc := "(II)I" } : Jvm.MethodName)) ∈ lw_all := lw_g (lw_at lw_m8 95 rfl) rfl
theorem q1920 : (Jvm.Cond.code ({ cls := "WolfsHeadModel", name := "befell", desc := "(II)I" } : Jvm.MethodName) prog_20_method_110_code (5 : Nat) (Option.some Jvm.ClassFile.FieldType.int)) ∈ lw_all := lw_g (lw_at lw_m8 96 rfl) rfl
theorem q1922 : (Jvm.Cond.instanceMethod ({ cls := "WolfsHeadModel", name := "heirs", desc := "(I)I" } : Jvm.MethodName)) ∈ lw_all := lw_g (lw_at lw_m8 98 rfl) rfl
theorem q1923 : (Jvm.Cond.selects "WolfsHeadModel" ({ cls := "WolfsHeadModel", name := "heirs", desc := "(I)I" } : Jvm.MethodName) ({ cls := "WolfsHeadModel", name := "heirs", desc := "(I)I" } : Jvm.MethodName)) ∈ lw_all := lw_g (lw_at lw_m8 99 rfl) rfl
theorem q1924 : (Jvm.Cond.code ({ cls := "WolfsHeadModel", name := "heirs", desc := "(I)I" } : Jvm.MethodName) prog_20_method_111_code (2 : Nat) (Option.some Jvm.ClassFile.FieldType.int)) ∈ lw_all := lw_g (lw_at lw_m8 100 rfl) rfl
theorem q1926 : (Jvm.Cond.instanceMethod ({ cls := "WolfsHeadModel", name := "wolves", desc := "()I" } : Jvm.MethodName)) ∈ lw_all := lw_g (lw_at lw_m8 102 rfl) rfl
theorem q1927 : (Jvm.Cond.selects "WolfsHeadModel" ({ cls := "WolfsHeadModel", name := "wolves", desc := "()I" } : Jvm.MethodName) ({ cls := "WolfsHeadModel", name := "wolves", desc := "()I" } : Jvm.MethodName)) ∈ lw_all := lw_g (lw_at lw_m8 103 rfl) rfl
theorem q1928 : (Jvm.Cond.code ({ cls := "WolfsHeadModel", name := "wolves", desc := "()I" } : Jvm.MethodName) prog_20_method_112_code (3 : Nat) (Option.some Jvm.ClassFile.FieldType.int)) ∈ lw_all := lw_g (lw_at lw_m8 104 rfl) rfl
theorem q1930 : (Jvm.Cond.instanceMethod ({ cls := "WolfsHeadModel", name := "feared", desc := "()I" } : Jvm.MethodName)) ∈ lw_all := lw_g (lw_at lw_m8 106 rfl) rfl
theorem q1931 : (Jvm.Cond.selects "WolfsHeadModel" ({ cls := "WolfsHeadModel", name := "feared", desc := "()I" } : Jvm.MethodName) ({ cls := "WolfsHeadModel", name := "feared", desc := "()I" } : Jvm.MethodName)) ∈ lw_all := lw_g (lw_at lw_m8 107 rfl) rfl
theorem q1932 : (Jvm.Cond.code ({ cls := "WolfsHeadModel", name := "feared", desc := "()I" } : Jvm.MethodName) prog_20_method_113_code (5 : Nat) (Option.some Jvm.ClassFile.FieldType.int)) ∈ lw_all := lw_g (lw_at lw_m8 108 rfl) rfl
theorem q1933 : (Jvm.Cond.methodLink "WolfsHeadModel" (427 : Nat) ({ cls := "WolfsHeadModel", name := "wolves", desc := "()I" } : Jvm.MethodName)) ∈ lw_all := lw_g (lw_at lw_m8 109 rfl) rfl
theorem q1935 : (Jvm.Cond.instanceMethod ({ cls := "WolfsHeadModel", name := "foretold", desc := "(IIZ)I" } : Jvm.MethodName)) ∈ lw_all := lw_g (lw_at lw_m8 111 rfl) rfl
theorem q1936 : (Jvm.Cond.selects "WolfsHeadModel" ({ cls := "WolfsHeadModel", name := "foretold", desc := "(IIZ)I" } : Jvm.MethodName) ({ cls := "WolfsHeadModel", name := "foretold", desc := "(IIZ)I" } : Jvm.MethodName)) ∈ lw_all := lw_g (lw_at lw_m8 112 rfl) rfl
theorem q1937 : (Jvm.Cond.code ({ cls := "WolfsHeadModel", name := "foretold", desc := "(IIZ)I" } : Jvm.MethodName) prog_20_method_116_code (5 : Nat) (Option.some Jvm.ClassFile.FieldType.int)) ∈ lw_all := lw_g (lw_at lw_m8 113 rfl) rfl
theorem q1938 : (Jvm.Cond.methodLink "WolfsHeadModel" (430 : Nat) ({ cls := "WolfsHeadModel", name := "setAside", desc := "()V" } : Jvm.MethodName)) ∈ lw_all := lw_g (lw_at lw_m8 114 rfl) rfl
theorem q1939 : (Jvm.Cond.privateMethod ({ cls := "WolfsHeadModel", name := "setAside", desc := "()V" } : Jvm.MethodName)) ∈ lw_tbl := lw_at lw_m8 115 rfl
theorem q1940 : (Jvm.Cond.instanceMethod ({ cls := "WolfsHeadModel", name := "setAside", desc := "()V" } : Jvm.MethodName)) ∈ lw_all := lw_g (lw_at lw_m8 116 rfl) rfl
theorem q1941 : (Jvm.Cond.code ({ cls := "WolfsHeadModel", name := "setAside", desc := "()V" } : Jvm.MethodName) prog_20_method_114_code (2 : Nat) (Option.none : Option Jvm.ClassFile.FieldType)) ∈ lw_all := lw_g (lw_at lw_m8 117 rfl) rfl
theorem q1942 : (Jvm.Cond.methodLink "WolfsHeadModel" (433 : Nat) ({ cls := "WolfsHeadModel", name := "putBack", desc := "()V" } : Jvm.MethodName)) ∈ lw_all := lw_g (lw_at lw_m8 118 rfl) rfl
theorem q1943 : (Jvm.Cond.privateMethod ({ cls := "WolfsHeadModel", name := "putBack", desc := "()V" } : Jvm.MethodName)) ∈ lw_tbl := lw_at lw_m8 119 rfl
theorem q1944 : (Jvm.Cond.instanceMethod ({ cls := "WolfsHeadModel", name := "putBack", desc := "()V" } : Jvm.MethodName)) ∈ lw_all := lw_g (lw_at lw_m8 120 rfl) rfl
theorem q1945 : (Jvm.Cond.code ({ cls := "WolfsHeadModel", name := "putBack", desc := "()V" } : Jvm.MethodName) prog_20_method_115_code (2 : Nat) (Option.none : Option Jvm.ClassFile.FieldType)) ∈ lw_all := lw_g (lw_at lw_m8 121 rfl) rfl
theorem q1947 : (Jvm.Cond.instanceMethod ({ cls := "WolfsHeadModel", name := "toPay", desc := "(II)I" } : Jvm.MethodName)) ∈ lw_all := lw_g (lw_at lw_m8 123 rfl) rfl
theorem q1948 : (Jvm.Cond.selects "WolfsHeadModel" ({ cls := "WolfsHeadModel", name := "toPay", desc := "(II)I" } : Jvm.MethodName) ({ cls := "WolfsHeadModel", name := "toPay", desc := "(II)I" } : Jvm.MethodName)) ∈ lw_all := lw_g (lw_at lw_m8 124 rfl) rfl
theorem q1949 : (Jvm.Cond.code ({ cls := "WolfsHeadModel", name := "toPay", desc := "(II)I" } : Jvm.MethodName) prog_20_method_117_code (5 : Nat) (Option.some Jvm.ClassFile.FieldType.int)) ∈ lw_all := lw_g (lw_at lw_m8 125 rfl) rfl
theorem q1951 : (Jvm.Cond.instanceMethod ({ cls := "WolfsHeadModel", name := "surest", desc := "(III)I" } : Jvm.MethodName)) ∈ lw_all := lw_g (lw_at lw_m8 127 rfl) rfl
theorem q1952 : (Jvm.Cond.selects "WolfsHeadModel" ({ cls := "WolfsHeadModel", name := "surest", desc := "(III)I" } : Jvm.MethodName) ({ cls := "WolfsHeadModel", name := "surest", desc := "(III)I" } : Jvm.MethodName)) ∈ lw_all := lw_g (lw_at lw_m8 128 rfl) rfl
theorem q1953 : (Jvm.Cond.code ({ cls := "WolfsHeadModel", name := "surest", desc := "(III)I" } : Jvm.MethodName) prog_20_method_123_code (8 : Nat) (Option.some Jvm.ClassFile.FieldType.int)) ∈ lw_all := lw_g (lw_at lw_m8 129 rfl) rfl
theorem q1954 : (Jvm.Cond.methodLink "WolfsHeadModel" (442 : Nat) ({ cls := "WolfsHeadModel", name := "layLikely", desc := "(II)V" } : Jvm.MethodName)) ∈ lw_all := lw_g (lw_at lw_m8 130 rfl) rfl
theorem q1955 : (Jvm.Cond.privateMethod ({ cls := "WolfsHeadModel", name := "layLikely", desc := "(II)V" } : Jvm.MethodName)) ∈ lw_tbl := lw_at lw_m8 131 rfl
theorem q1956 : (Jvm.Cond.instanceMethod ({ cls := "WolfsHeadModel", name := "layLikely", desc := "(II)V" } : Jvm.MethodName)) ∈ lw_all := lw_g (lw_at lw_m8 132 rfl) rfl
theorem q1957 : (Jvm.Cond.code ({ cls := "WolfsHeadModel", name := "layLikely", desc := "(II)V" } : Jvm.MethodName) prog_20_method_121_code (6 : Nat) (Option.none : Option Jvm.ClassFile.FieldType)) ∈ lw_all := lw_g (lw_at lw_m8 133 rfl) rfl
theorem q1958 : (Jvm.Cond.methodLink "WolfsHeadModel" (439 : Nat) ({ cls := "WolfsHeadModel", name := "nextFrom", desc := "(II)I" } : Jvm.MethodName)) ∈ lw_all := lw_g (lw_at lw_m8 134 rfl) rfl
theorem q1959 : (Jvm.Cond.privateMethod ({ cls := "WolfsHeadModel", name := "nextFrom", desc := "(II)I" } : Jvm.MethodName)) ∈ lw_tbl := lw_at lw_m8 135 rfl
theorem q1960 : (Jvm.Cond.instanceMethod ({ cls := "WolfsHeadModel", name := "nextFrom", desc := "(II)I" } : Jvm.MethodName)) ∈ lw_all := lw_g (lw_at lw_m8 136 rfl) rfl
theorem q1961 : (Jvm.Cond.code ({ cls := "WolfsHeadModel", name := "nextFrom", desc := "(II)I" } : Jvm.MethodName) prog_20_method_119_code (5 : Nat) (Option.some Jvm.ClassFile.FieldType.int)) ∈ lw_all := lw_g (lw_at lw_m8 137 rfl) rfl
theorem q1962 : (Jvm.Cond.methodLink "WolfsHeadModel" (436 : Nat) ({ cls := "WolfsHeadModel", name := "reachOf", desc := "(I)I" } : Jvm.MethodName)) ∈ lw_all := lw_g (lw_at lw_m8 138 rfl) rfl
theorem q1963 : (Jvm.Cond.privateMethod ({ cls := "WolfsHeadModel", name := "reachOf", desc := "(I)I" } : Jvm.MethodName)) ∈ lw_tbl := lw_at lw_m8 139 rfl
theorem q1964 : (Jvm.Cond.instanceMethod ({ cls := "WolfsHeadModel", name := "reachOf", desc := "(I)I" } : Jvm.MethodName)) ∈ lw_all := lw_g (lw_at lw_m8 140 rfl) rfl
theorem q1965 : (Jvm.Cond.code ({ cls := "WolfsHeadModel", name := "reachOf", desc := "(I)I" } : Jvm.MethodName) prog_20_method_118_code (2 : Nat) (Option.some Jvm.ClassFile.FieldType.int)) ∈ lw_all := lw_g (lw_at lw_m8 141 rfl) rfl
theorem q1966 : (Jvm.Cond.methodLink "WolfsHeadModel" (445 : Nat) ({ cls := "WolfsHeadModel", name := "common", desc := "(II)I" } : Jvm.MethodName)) ∈ lw_all := lw_g (lw_at lw_m8 142 rfl) rfl
theorem q1967 : (Jvm.Cond.static ({ cls := "WolfsHeadModel", name := "common", desc := "(II)I" } : Jvm.MethodName)) ∈ lw_all := lw_g (lw_at lw_m8 143 rfl) rfl
theorem q1968 : (Jvm.Cond.code ({ cls := "WolfsHeadModel", name := "common", desc := "(II)I" } : Jvm.MethodName) prog_20_method_122_code (5 : Nat) (Option.some Jvm.ClassFile.FieldType.int)) ∈ lw_all := lw_g (lw_at lw_m8 144 rfl) rfl
theorem q1969 : (Jvm.Cond.methodLink "WolfsHeadModel" (448 : Nat) ({ cls := "WolfsHeadModel", name := "lowestFrom", desc := "(I)I" } : Jvm.MethodName)) ∈ lw_all := lw_g (lw_at lw_m8 145 rfl) rfl
theorem q1970 : (Jvm.Cond.privateMethod ({ cls := "WolfsHeadModel", name := "lowestFrom", desc := "(I)I" } : Jvm.MethodName)) ∈ lw_tbl := lw_at lw_m8 146 rfl
theorem q1971 : (Jvm.Cond.instanceMethod ({ cls := "WolfsHeadModel", name := "lowestFrom", desc := "(I)I" } : Jvm.MethodName)) ∈ lw_all := lw_g (lw_at lw_m8 147 rfl) rfl
theorem q1972 : (Jvm.Cond.code ({ cls := "WolfsHeadModel", name := "lowestFrom", desc := "(I)I" } : Jvm.MethodName) prog_20_method_120_code (3 : Nat) (Option.some Jvm.ClassFile.FieldType.int)) ∈ lw_all := lw_g (lw_at lw_m8 148 rfl) rfl
theorem q1974 : (Jvm.Cond.instanceMethod ({ cls := "WolfsHeadModel", name := "steps", desc := "(II)I" } : Jvm.MethodName)) ∈ lw_all := lw_g (lw_at lw_m8 150 rfl) rfl
theorem q1975 : (Jvm.Cond.selects "WolfsHeadModel" ({ cls := "WolfsHeadModel", name := "steps", desc := "(II)I" } : Jvm.MethodName) ({ cls := "WolfsHeadModel", name := "steps", desc := "(II)I" } : Jvm.MethodName)) ∈ lw_all := lw_g (lw_at lw_m8 151 rfl) rfl
theorem q1976 : (Jvm.Cond.code ({ cls := "WolfsHeadModel", name := "steps", desc := "(II)I" } : Jvm.MethodName) prog_20_method_125_code (5 : Nat) (Option.some Jvm.ClassFile.FieldType.int)) ∈ lw_all := lw_g (lw_at lw_m8 152 rfl) rfl
theorem q1977 : (Jvm.Cond.methodLink "WolfsHeadModel" (451 : Nat) ({ cls := "WolfsHeadModel", name := "spread", desc := "(II)I" } : Jvm.MethodName)) ∈ lw_all := lw_g (lw_at lw_m8 153 rfl) rfl
theorem q1978 : (Jvm.Cond.privateMethod ({ cls := "WolfsHeadModel", name := "spread", desc := "(II)I" } : Jvm.MethodName)) ∈ lw_tbl := lw_at lw_m8 154 rfl
theorem q1979 : (Jvm.Cond.instanceMethod ({ cls := "WolfsHeadModel", name := "spread", desc := "(II)I" } : Jvm.MethodName)) ∈ lw_all := lw_g (lw_at lw_m8 155 rfl) rfl
theorem q1980 : (Jvm.Cond.code ({ cls := "WolfsHeadModel", name := "spread", desc := "(II)I" } : Jvm.MethodName) prog_20_method_124_code (5 : Nat) (Option.some Jvm.ClassFile.FieldType.int)) ∈ lw_all := lw_g (lw_at lw_m8 156 rfl) rfl
theorem q1982 : (Jvm.Cond.instanceMethod ({ cls := "WolfsHeadModel", name := "unheard", desc := "(II)I" } : Jvm.MethodName)) ∈ lw_all := lw_g (lw_at lw_m8 158 rfl) rfl
theorem q1983 : (Jvm.Cond.selects "WolfsHeadModel" ({ cls := "WolfsHeadModel", name := "unheard", desc := "(II)I" } : Jvm.MethodName) ({ cls := "WolfsHeadModel", name := "unheard", desc := "(II)I" } : Jvm.MethodName)) ∈ lw_all := lw_g (lw_at lw_m8 159 rfl) rfl
theorem q1984 : (Jvm.Cond.code ({ cls := "WolfsHeadModel", name := "unheard", desc := "(II)I" } : Jvm.MethodName) prog_20_method_126_code (5 : Nat) (Option.some Jvm.ClassFile.FieldType.int)) ∈ lw_all := lw_g (lw_at lw_m8 160 rfl) rfl
theorem q1986 : (Jvm.Cond.instanceMethod ({ cls := "WolfsHeadModel", name := "borders", desc := "(I)Z" } : Jvm.MethodName)) ∈ lw_all := lw_g (lw_at lw_m8 162 rfl) rfl
theorem q1987 : (Jvm.Cond.selects "WolfsHeadModel" ({ cls := "WolfsHeadModel", name := "borders", desc := "(I)Z" } : Jvm.MethodName) ({ cls := "WolfsHeadModel", name := "borders", desc := "(I)Z" } : Jvm.MethodName)) ∈ lw_all := lw_g (lw_at lw_m8 163 rfl) rfl
theorem q1988 : (Jvm.Cond.code ({ cls := "WolfsHeadModel", name := "borders", desc := "(I)Z" } : Jvm.MethodName) prog_20_method_127_code (2 : Nat) (Option.some Jvm.ClassFile.FieldType.boolean)) ∈ lw_all := lw_g (lw_at lw_m8 164 rfl) rfl
theorem q1990 : (Jvm.Cond.instanceMethod ({ cls := "WolfsHeadModel", name := "toBorder", desc := "(I)I" } : Jvm.MethodName)) ∈ lw_all := lw_g (lw_at lw_m8 166 rfl) rfl
theorem q1991 : (Jvm.Cond.selects "WolfsHeadModel" ({ cls := "WolfsHeadModel", name := "toBorder", desc := "(I)I" } : Jvm.MethodName) ({ cls := "WolfsHeadModel", name := "toBorder", desc := "(I)I" } : Jvm.MethodName)) ∈ lw_all := lw_g (lw_at lw_m8 167 rfl) rfl
theorem q1992 : (Jvm.Cond.code ({ cls := "WolfsHeadModel", name := "toBorder", desc := "(I)I" } : Jvm.MethodName) prog_20_method_128_code (4 : Nat) (Option.some Jvm.ClassFile.FieldType.int)) ∈ lw_all := lw_g (lw_at lw_m8 168 rfl) rfl
theorem q1994 : (Jvm.Cond.instanceMethod ({ cls := "WolfsHeadModel", name := "helpers", desc := "()I" } : Jvm.MethodName)) ∈ lw_all := lw_g (lw_at lw_m8 170 rfl) rfl
theorem q1995 : (Jvm.Cond.selects "WolfsHeadModel" ({ cls := "WolfsHeadModel", name := "helpers", desc := "()I" } : Jvm.MethodName) ({ cls := "WolfsHeadModel", name := "helpers", desc := "()I" } : Jvm.MethodName)) ∈ lw_all := lw_g (lw_at lw_m8 171 rfl) rfl
theorem q1996 : (Jvm.Cond.code ({ cls := "WolfsHeadModel", name := "helpers", desc := "()I" } : Jvm.MethodName) prog_20_method_129_code (4 : Nat) (Option.some Jvm.ClassFile.FieldType.int)) ∈ lw_all := lw_g (lw_at lw_m8 172 rfl) rfl
theorem q1998 : (Jvm.Cond.instanceMethod ({ cls := "WolfsHeadModel", name := "watch", desc := "(II)I" } : Jvm.MethodName)) ∈ lw_all := lw_g (lw_at lw_m8 174 rfl) rfl
theorem q1999 : (Jvm.Cond.selects "WolfsHeadModel" ({ cls := "WolfsHeadModel", name := "watch", desc := "(II)I" } : Jvm.MethodName) ({ cls := "WolfsHeadModel", name := "watch", desc := "(II)I" } : Jvm.MethodName)) ∈ lw_all := lw_g (lw_at lw_m8 175 rfl) rfl
theorem q2000 : (Jvm.Cond.code ({ cls := "WolfsHeadModel", name := "watch", desc := "(II)I" } : Jvm.MethodName) prog_20_method_131_code (5 : Nat) (Option.some Jvm.ClassFile.FieldType.int)) ∈ lw_all := lw_g (lw_at lw_m8 176 rfl) rfl
theorem q2001 : (Jvm.Cond.methodLink "WolfsHeadModel" (454 : Nat) ({ cls := "WolfsHeadModel", name := "isJoined", desc := "(III)Z" } : Jvm.MethodName)) ∈ lw_all := lw_g (lw_at lw_m8 177 rfl) rfl
theorem q2002 : (Jvm.Cond.privateMethod ({ cls := "WolfsHeadModel", name := "isJoined", desc := "(III)Z" } : Jvm.MethodName)) ∈ lw_tbl := lw_at lw_m8 178 rfl
theorem q2003 : (Jvm.Cond.instanceMethod ({ cls := "WolfsHeadModel", name := "isJoined", desc := "(III)Z" } : Jvm.MethodName)) ∈ lw_all := lw_g (lw_at lw_m8 179 rfl) rfl
theorem q2004 : (Jvm.Cond.code ({ cls := "WolfsHeadModel", name := "isJoined", desc := "(III)Z" } : Jvm.MethodName) prog_20_method_130_code (6 : Nat) (Option.some Jvm.ClassFile.FieldType.boolean)) ∈ lw_all := lw_g (lw_at lw_m8 180 rfl) rfl
theorem q2006 : (Jvm.Cond.instanceMethod ({ cls := "WolfsHeadModel", name := "crowd", desc := "(I)I" } : Jvm.MethodName)) ∈ lw_all := lw_g (lw_at lw_m8 182 rfl) rfl
theorem q2007 : (Jvm.Cond.selects "WolfsHeadModel" ({ cls := "WolfsHeadModel", name := "crowd", desc := "(I)I" } : Jvm.MethodName) ({ cls := "WolfsHeadModel", name := "crowd", desc := "(I)I" } : Jvm.MethodName)) ∈ lw_all := lw_g (lw_at lw_m8 183 rfl) rfl
theorem q2008 : (Jvm.Cond.code ({ cls := "WolfsHeadModel", name := "crowd", desc := "(I)I" } : Jvm.MethodName) prog_20_method_132_code (2 : Nat) (Option.some Jvm.ClassFile.FieldType.int)) ∈ lw_all := lw_g (lw_at lw_m8 184 rfl) rfl
theorem q2010 : (Jvm.Cond.instanceMethod ({ cls := "WolfsHeadModel", name := "inCrowd", desc := "(III)I" } : Jvm.MethodName)) ∈ lw_all := lw_g (lw_at lw_m8 186 rfl) rfl
theorem q2011 : (Jvm.Cond.selects "WolfsHeadModel" ({ cls := "WolfsHeadModel", name := "inCrowd", desc := "(III)I" } : Jvm.MethodName) ({ cls := "WolfsHeadModel", name := "inCrowd", desc := "(III)I" } : Jvm.MethodName)) ∈ lw_all := lw_g (lw_at lw_m8 187 rfl) rfl
theorem q2012 : (Jvm.Cond.code ({ cls := "WolfsHeadModel", name := "inCrowd", desc := "(III)I" } : Jvm.MethodName) prog_20_method_134_code (10 : Nat) (Option.some Jvm.ClassFile.FieldType.int)) ∈ lw_all := lw_g (lw_at lw_m8 188 rfl) rfl
theorem q2013 : (Jvm.Cond.methodLink "WolfsHeadModel" (457 : Nat) ({ cls := "WolfsHeadModel", name := "wasAt", desc := "(II)I" } : Jvm.MethodName)) ∈ lw_all := lw_g (lw_at lw_m8 189 rfl) rfl
theorem q2014 : (Jvm.Cond.privateMethod ({ cls := "WolfsHeadModel", name := "wasAt", desc := "(II)I" } : Jvm.MethodName)) ∈ lw_tbl := lw_at lw_m8 190 rfl
theorem q2015 : (Jvm.Cond.instanceMethod ({ cls := "WolfsHeadModel", name := "wasAt", desc := "(II)I" } : Jvm.MethodName)) ∈ lw_all := lw_g (lw_at lw_m8 191 rfl) rfl
theorem q2016 : (Jvm.Cond.code ({ cls := "WolfsHeadModel", name := "wasAt", desc := "(II)I" } : Jvm.MethodName) prog_20_method_133_code (8 : Nat) (Option.some Jvm.ClassFile.FieldType.int)) ∈ lw_all := lw_g (lw_at lw_m8 192 rfl) rfl
theorem q2018 : (Jvm.Cond.instanceMethod ({ cls := "WolfsHeadModel", name := "reports", desc := "(I)Z" } : Jvm.MethodName)) ∈ lw_all := lw_g (lw_at lw_m8 194 rfl) rfl
theorem q2019 : (Jvm.Cond.selects "WolfsHeadModel" ({ cls := "WolfsHeadModel", name := "reports", desc := "(I)Z" } : Jvm.MethodName) ({ cls := "WolfsHeadModel", name := "reports", desc := "(I)Z" } : Jvm.MethodName)) ∈ lw_all := lw_g (lw_at lw_m8 195 rfl) rfl
theorem q2020 : (Jvm.Cond.code ({ cls := "WolfsHeadModel", name := "reports", desc := "(I)Z" } : Jvm.MethodName) prog_20_method_135_code (2 : Nat) (Option.some Jvm.ClassFile.FieldType.boolean)) ∈ lw_all := lw_g (lw_at lw_m8 196 rfl) rfl
theorem q2022 : (Jvm.Cond.instanceMethod ({ cls := "WolfsHeadModel", name := "unlike", desc := "(II)I" } : Jvm.MethodName)) ∈ lw_all := lw_g (lw_at lw_m8 198 rfl) rfl
theorem q2023 : (Jvm.Cond.selects "WolfsHeadModel" ({ cls := "WolfsHeadModel", name := "unlike", desc := "(II)I" } : Jvm.MethodName) ({ cls := "WolfsHeadModel", name := "unlike", desc := "(II)I" } : Jvm.MethodName)) ∈ lw_all := lw_g (lw_at lw_m8 199 rfl) rfl
theorem q2024 : (Jvm.Cond.code ({ cls := "WolfsHeadModel", name := "unlike", desc := "(II)I" } : Jvm.MethodName) prog_20_method_136_code (3 : Nat) (Option.some Jvm.ClassFile.FieldType.int)) ∈ lw_all := lw_g (lw_at lw_m8 200 rfl) rfl
theorem q2026 : (Jvm.Cond.instanceMethod ({ cls := "WolfsHeadModel", name := "heads", desc := "(I)I" } : Jvm.MethodName)) ∈ lw_all := lw_g (lw_at lw_m8 202 rfl) rfl
theorem q2027 : (Jvm.Cond.selects "WolfsHeadModel" ({ cls := "WolfsHeadModel", name := "heads", desc := "(I)I" } : Jvm.MethodName) ({ cls := "WolfsHeadModel", name := "heads", desc := "(I)I" } : Jvm.MethodName)) ∈ lw_all := lw_g (lw_at lw_m8 203 rfl) rfl
theorem q2028 : (Jvm.Cond.code ({ cls := "WolfsHeadModel", name := "heads", desc := "(I)I" } : Jvm.MethodName) prog_20_method_139_code (3 : Nat) (Option.some Jvm.ClassFile.FieldType.int)) ∈ lw_all := lw_g (lw_at lw_m8 204 rfl) rfl
theorem q2029 : (Jvm.Cond.methodLink "WolfsHeadModel" (463 : Nat) ({ cls := "WolfsHeadModel", name := "isExplained", desc := "(I)Z" } : Jvm.MethodName)) ∈ lw_all := lw_g (lw_at lw_m8 205 rfl) rfl
theorem q2030 : (Jvm.Cond.privateMethod ({ cls := "WolfsHeadModel", name := "isExplained", desc := "(I)Z" } : Jvm.MethodName)) ∈ lw_tbl := lw_at lw_m8 206 rfl
theorem q2031 : (Jvm.Cond.instanceMethod ({ cls := "WolfsHeadModel", name := "isExplained", desc := "(I)Z" } : Jvm.MethodName)) ∈ lw_all := lw_g (lw_at lw_m8 207 rfl) rfl
theorem q2032 : (Jvm.Cond.code ({ cls := "WolfsHeadModel", name := "isExplained", desc := "(I)Z" } : Jvm.MethodName) prog_20_method_138_code (4 : Nat) (Option.some Jvm.ClassFile.FieldType.boolean)) ∈ lw_all := lw_g (lw_at lw_m8 208 rfl) rfl
theorem q2033 : (Jvm.Cond.methodLink "WolfsHeadModel" (460 : Nat) ({ cls := "WolfsHeadModel", name := "canBe", desc := "(II)Z" } : Jvm.MethodName)) ∈ lw_all := lw_g (lw_at lw_m8 209 rfl) rfl
theorem q2034 : (Jvm.Cond.privateMethod ({ cls := "WolfsHeadModel", name := "canBe", desc := "(II)Z" } : Jvm.MethodName)) ∈ lw_tbl := lw_at lw_m8 210 rfl
theorem q2035 : (Jvm.Cond.instanceMethod ({ cls := "WolfsHeadModel", name := "canBe", desc := "(II)Z" } : Jvm.MethodName)) ∈ lw_all := lw_g (lw_at lw_m8 211 rfl) rfl
theorem q2036 : (Jvm.Cond.code ({ cls := "WolfsHeadModel", name := "canBe", desc := "(II)Z" } : Jvm.MethodName) prog_20_method_137_code (6 : Nat) (Option.some Jvm.ClassFile.FieldType.boolean)) ∈ lw_all := lw_g (lw_at lw_m8 212 rfl) rfl
theorem q2038 : (Jvm.Cond.instanceMethod ({ cls := "WolfsHeadModel", name := "has", desc := "(ZIII)Z" } : Jvm.MethodName)) ∈ lw_all := lw_g (lw_at lw_m8 214 rfl) rfl
theorem q2039 : (Jvm.Cond.selects "WolfsHeadModel" ({ cls := "WolfsHeadModel", name := "has", desc := "(ZIII)Z" } : Jvm.MethodName) ({ cls := "WolfsHeadModel", name := "has", desc := "(ZIII)Z" } : Jvm.MethodName)) ∈ lw_all := lw_g (lw_at lw_m8 215 rfl) rfl
theorem q2040 : (Jvm.Cond.code ({ cls := "WolfsHeadModel", name := "has", desc := "(ZIII)Z" } : Jvm.MethodName) prog_20_method_140_code (5 : Nat) (Option.some Jvm.ClassFile.FieldType.boolean)) ∈ lw_all := lw_g (lw_at lw_m8 216 rfl) rfl
theorem q2042 : (Jvm.Cond.instanceMethod ({ cls := "WolfsHeadModel", name := "rests", desc := "()I" } : Jvm.MethodName)) ∈ lw_all := lw_g (lw_at lw_m8 218 rfl) rfl
theorem q2043 : (Jvm.Cond.selects "WolfsHeadModel" ({ cls := "WolfsHeadModel", name := "rests", desc := "()I" } : Jvm.MethodName) ({ cls := "WolfsHeadModel", name := "rests", desc := "()I" } : Jvm.MethodName)) ∈ lw_all := lw_g (lw_at lw_m8 219 rfl) rfl
theorem q2044 : (Jvm.Cond.code ({ cls := "WolfsHeadModel", name := "rests", desc := "()I" } : Jvm.MethodName) prog_20_method_141_code (5 : Nat) (Option.some Jvm.ClassFile.FieldType.int)) ∈ lw_all := lw_g (lw_at lw_m8 220 rfl) rfl
theorem q2046 : (Jvm.Cond.instanceMethod ({ cls := "WolfsHeadModel", name := "mixed", desc := "(Z)I" } : Jvm.MethodName)) ∈ lw_all := lw_g (lw_at lw_m8 222 rfl) rfl
theorem q2047 : (Jvm.Cond.selects "WolfsHeadModel" ({ cls := "WolfsHeadModel", name := "mixed", desc := "(Z)I" } : Jvm.MethodName) ({ cls := "WolfsHeadModel", name := "mixed", desc := "(Z)I" } : Jvm.MethodName)) ∈ lw_all := lw_g (lw_at lw_m8 223 rfl) rfl
theorem q2048 : (Jvm.Cond.code ({ cls := "WolfsHeadModel", name := "mixed", desc := "(Z)I" } : Jvm.MethodName) prog_20_method_142_code (4 : Nat) (Option.some Jvm.ClassFile.FieldType.int)) ∈ lw_all := lw_g (lw_at lw_m8 224 rfl) rfl
theorem q2050 : (Jvm.Cond.instanceMethod ({ cls := "WolfsHeadModel", name := "paid", desc := "(II)I" } : Jvm.MethodName)) ∈ lw_all := lw_g (lw_at lw_m8 226 rfl) rfl
theorem q2051 : (Jvm.Cond.selects "WolfsHeadModel" ({ cls := "WolfsHeadModel", name := "paid", desc := "(II)I" } : Jvm.MethodName) ({ cls := "WolfsHeadModel", name := "paid", desc := "(II)I" } : Jvm.MethodName)) ∈ lw_all := lw_g (lw_at lw_m8 227 rfl) rfl
theorem q2052 : (Jvm.Cond.code ({ cls := "WolfsHeadModel", name := "paid", desc := "(II)I" } : Jvm.MethodName) prog_20_method_143_code (3 : Nat) (Option.some Jvm.ClassFile.FieldType.int)) ∈ lw_all := lw_g (lw_at lw_m8 228 rfl) rfl
theorem q2054 : (Jvm.Cond.instanceMethod ({ cls := "WolfsHeadModel", name := "whose", desc := "()I" } : Jvm.MethodName)) ∈ lw_all := lw_g (lw_at lw_m8 230 rfl) rfl
theorem q2055 : (Jvm.Cond.selects "WolfsHeadModel" ({ cls := "WolfsHeadModel", name := "whose", desc := "()I" } : Jvm.MethodName) ({ cls := "WolfsHeadModel", name := "whose", desc := "()I" } : Jvm.MethodName)) ∈ lw_all := lw_g (lw_at lw_m8 231 rfl) rfl
theorem q2056 : (Jvm.Cond.code ({ cls := "WolfsHeadModel", name := "whose", desc := "()I" } : Jvm.MethodName) prog_20_method_144_code (5 : Nat) (Option.some Jvm.ClassFile.FieldType.int)) ∈ lw_all := lw_g (lw_at lw_m8 232 rfl) rfl
theorem q2058 : (Jvm.Cond.instanceMethod ({ cls := "WolfsHeadModel", name := "image", desc := "()I" } : Jvm.MethodName)) ∈ lw_all := lw_g (lw_at lw_m8 234 rfl) rfl
theorem q2059 : (Jvm.Cond.selects "WolfsHeadModel" ({ cls := "WolfsHeadModel", name := "image", desc := "()I" } : Jvm.MethodName) ({ cls := "WolfsHeadModel", name := "image", desc := "()I" } : Jvm.MethodName)) ∈ lw_all := lw_g (lw_at lw_m8 235 rfl) rfl
theorem q2060 : (Jvm.Cond.code ({ cls := "WolfsHeadModel", name := "image", desc := "()I" } : Jvm.MethodName) prog_20_method_145_code (1 : Nat) (Option.some Jvm.ClassFile.FieldType.int)) ∈ lw_all := lw_g (lw_at lw_m8 236 rfl) rfl
theorem q2062 : (Jvm.Cond.instanceMethod ({ cls := "WolfsHeadModel", name := "back", desc := "()I" } : Jvm.MethodName)) ∈ lw_all := lw_g (lw_at lw_m8 238 rfl) rfl
theorem q2063 : (Jvm.Cond.selects "WolfsHeadModel" ({ cls := "WolfsHeadModel", name := "back", desc := "()I" } : Jvm.MethodName) ({ cls := "WolfsHeadModel", name := "back", desc := "()I" } : Jvm.MethodName)) ∈ lw_all := lw_g (lw_at lw_m8 239 rfl) rfl
theorem q2064 : (Jvm.Cond.code ({ cls := "WolfsHeadModel", name := "back", desc := "()I" } : Jvm.MethodName) prog_20_method_146_code (1 : Nat) (Option.some Jvm.ClassFile.FieldType.int)) ∈ lw_all := lw_g (lw_at lw_m9 0 rfl) rfl
theorem q2066 : (Jvm.Cond.instanceMethod ({ cls := "WolfsHeadModel", name := "about", desc := "(I)I" } : Jvm.MethodName)) ∈ lw_all := lw_g (lw_at lw_m9 2 rfl) rfl
theorem q2067 : (Jvm.Cond.selects "WolfsHeadModel" ({ cls := "WolfsHeadModel", name := "about", desc := "(I)I" } : Jvm.MethodName) ({ cls := "WolfsHeadModel", name := "about", desc := "(I)I" } : Jvm.MethodName)) ∈ lw_all := lw_g (lw_at lw_m9 3 rfl) rfl
theorem q2068 : (Jvm.Cond.code ({ cls := "WolfsHeadModel", name := "about", desc := "(I)I" } : Jvm.MethodName) prog_20_method_147_code (2 : Nat) (Option.some Jvm.ClassFile.FieldType.int)) ∈ lw_all := lw_g (lw_at lw_m9 4 rfl) rfl
theorem q2076 : (Jvm.Cond.castable "WolfsHeadModel" "java/lang/Object") ∈ lw_tbl := lw_at lw_m9 12 rfl
theorem in_X2 : ∀ w ∈ wsX20, w ∈ lw_all := lw_in wsX20 [1430, 1432, 1434, 1436, 1438, 1440, 1442, 1444, 1446, 1448, 1450, 1452, 1454, 1456, 1458, 1460, 1462, 1464, 1466, 1468, 1470, 1472, 1474, 1476, 1478, 1480, 1482, 1484, 1486] (by decide +kernel) (by decide +kernel)
